/-! AshCity's reader: its Rules object while it reads -/
def rV (V0 : Nat → Value) (p o e q : Int32) : Nat → Value := fun k => if k = 6 then .int p else if k = 7 then .int o else if k = 8 then .int e else if k = 9 then .int q else V0 k
/-- the state: the rest of the pool P, the heap's size N, at p, open o, fault e, place q -/
def X (τ0 : XS) (r : Nat) (V0 : Nat → Value) (P : Pl) (N : Nat) (p o e q : Int32) : XS := (τ0.1, τ0.2.1, τ0.2.2.1, pup P r (.inr (9, rV V0 p o e q)), N)
/-- where the object, its text and the text's bytes lie -/
def XK (P : Pl) (N r ta L : Nat) (T : Nat → Int32) (V0 : Nat → Value) : Prop := r < N ∧ ta < N ∧ ta ≠ r ∧ P ta = some (.inl (1, L, .inl T)) ∧ V0 5 = .ref ta ∧ L ≤ 160
theorem XK.up {P P' : Pl} {N N' r ta L : Nat} {T : Nat → Int32} {V0 : Nat → Value} (h : XK P N r ta L T V0) (hN : N ≤ N') (hP : ∀ b, b < N → P' b = P b) : XK P' N' r ta L T V0 :=
  ⟨by have := h.1; omega, by have := h.2.1; omega, h.2.2.1, (hP ta h.2.1).trans h.2.2.2.1, h.2.2.2.2⟩
theorem pup_s {P : Pl} {a : Nat} {e : pE} : pup P a e a = some e := if_pos rfl
theorem pup_n {P : Pl} {a b : Nat} {e : pE} (h : b ≠ a) : pup P a e b = P b := if_neg h
theorem pup_pup {P : Pl} {a : Nat} {e e' : pE} : pup (pup P a e) a e' = pup P a e' := by
  funext b
  unfold pup
  by_cases h : b = a
  · rw [if_pos h, if_pos h]
  · rw [if_neg h, if_neg h, if_neg h]
theorem pup_com {P : Pl} {a b : Nat} {e e' : pE} (h : a ≠ b) : pup (pup P a e) b e' = pup (pup P b e') a e := by
  funext x
  unfold pup
  by_cases h1 : x = b
  · by_cases h2 : x = a
    · omega
    · rw [if_pos h1, if_neg h2, if_pos h1]
  · by_cases h2 : x = a
    · rw [if_neg h1, if_pos h2, if_pos h2]
    · rw [if_neg h1, if_neg h2, if_neg h2, if_neg h1]
section
variable {τ0 : XS} {r : Nat} {V0 : Nat → Value} {P : Pl} {N : Nat} {p o e q : Int32}
theorem X_r : (X τ0 r V0 P N p o e q).2.2.2.1 r = some (.inr (9, rV V0 p o e q)) := pup_s
theorem X_o {a : Nat} (h : a ≠ r) : (X τ0 r V0 P N p o e q).2.2.2.1 a = P a := pup_n h
theorem X_N : (X τ0 r V0 P N p o e q).2.2.2.2 = N := rfl
theorem X_c : isC (X τ0 r V0 P N p o e q) r [9] = true := isC_of X_r (by simp)
theorem X_6 : gI (X τ0 r V0 P N p o e q) r [9] 6 = some p := gI_of X_r (by simp) rfl
theorem X_7 : gI (X τ0 r V0 P N p o e q) r [9] 7 = some o := gI_of X_r (by simp) rfl
theorem X_8 : gI (X τ0 r V0 P N p o e q) r [9] 8 = some e := gI_of X_r (by simp) rfl
theorem X_9 : gI (X τ0 r V0 P N p o e q) r [9] 9 = some q := gI_of X_r (by simp) rfl
theorem X_up {v : Value} {k : Nat} {V' : Nat → Value} (hV : updV (rV V0 p o e q) k v = V') : pF (X τ0 r V0 P N p o e q) r [9] k v = some (τ0.1, τ0.2.1, τ0.2.2.1, pup P r (.inr (9, V')), N) := by
  rw [pF_of X_r (by simp), hV]
  show some (τ0.1, τ0.2.1, τ0.2.2.1, pup (pup P r (.inr (9, rV V0 p o e q))) r (.inr (9, V')), N) = _
  rw [pup_pup]
theorem X_w6 {v : Int32} : pF (X τ0 r V0 P N p o e q) r [9] 6 (.int v) = some (X τ0 r V0 P N v o e q) := X_up (by
  funext k
  unfold updV rV
  by_cases h : k = 6
  · simp [h]
  · simp [h])
theorem X_w7 {v : Int32} : pF (X τ0 r V0 P N p o e q) r [9] 7 (.int v) = some (X τ0 r V0 P N p v e q) := X_up (by
  funext k
  unfold updV rV
  by_cases h : k = 7
  · simp [h]
  · simp [h])
theorem X_w8 {v : Int32} : pF (X τ0 r V0 P N p o e q) r [9] 8 (.int v) = some (X τ0 r V0 P N p o v q) := X_up (by
  funext k
  unfold updV rV
  by_cases h : k = 8
  · simp [h]
  · simp [h])
theorem X_w9 {v : Int32} : pF (X τ0 r V0 P N p o e q) r [9] 9 (.int v) = some (X τ0 r V0 P N p o e v) := X_up (by
  funext k
  unfold updV rV
  by_cases h : k = 9
  · simp [h]
  · simp [h])
theorem X_new {b : pE} (h : r < N) : xN (X τ0 r V0 P N p o e q) b = X τ0 r V0 (pup P N b) (N + 1) p o e q := by
  show (τ0.1, τ0.2.1, τ0.2.2.1, pup (pup P r (.inr (9, rV V0 p o e q))) N b, N + 1) = (τ0.1, τ0.2.1, τ0.2.2.1, pup (pup P N b) r (.inr (9, rV V0 p o e q)), N + 1)
  rw [pup_com (by omega)]
theorem X_wo {a c k : Nat} {W : Nat → Value} {v : Value} (h : a ≠ r) (hP : P a = some (.inr (c, W))) : pF (X τ0 r V0 P N p o e q) a [c] k v = some (X τ0 r V0 (pup P a (.inr (c, updV W k v))) N p o e q) := by
  rw [pF_of ((X_o h).trans hP) (by simp)]
  show some (τ0.1, τ0.2.1, τ0.2.2.1, pup (pup P r (.inr (9, rV V0 p o e q))) a (.inr (c, updV W k v)), N) = some (τ0.1, τ0.2.1, τ0.2.2.1, pup (pup P a (.inr (c, updV W k v))) r (.inr (9, rV V0 p o e q)), N)
  rw [pup_com (fun x => h x.symm)]
/-- the byte here -/
def hx (n : Nat) : Int32 := if n < 256 then nI n else 0
theorem X_here {ta L F k : Nat} {T : Nat → Int32} (h : XK P N r ta L T V0) (hk : k ≤ 1000) : x9_here F r (X τ0 r V0 P N (nI k) o e q) = some (hx (sB T L k), X τ0 r V0 P N (nI k) o e q, 0, 0) := by
  obtain ⟨h1, h2, h3, h4, h5, h6⟩ := h
  have g5 : gN (X τ0 r V0 P N (nI k) o e q) r [9] 5 = some ta := gN_of X_r (by simp) h5
  have gA5 : gA (X τ0 r V0 P N (nI k) o e q) ta 1 = some (L, T) := gA_of ((X_o h3).trans h4)
  unfold x9_here
  rw [X_6]
  simp only [ob_s]
  rw [g5]
  simp only [ob_s]
  rw [gA5]
  simp only [ob_s]
  by_cases hp : k < L
  · rw [if_neg (fun x => absurd ((ni_le (by omega) (by omega)).mp x) (by omega)), if_pos (okI_nI hp (by omega)), ni_c (by omega)]
    obtain ⟨a1, a2⟩ := sB_n (t := T) hp
    rw [a1]
    unfold hx
    rw [if_pos a2]
  · rw [if_pos ((ni_le (by omega) (by omega)).mpr (by omega)), sB_e hp]
    rfl
theorem X_good {F : Nat} : x9_isGood F r (X τ0 r V0 P N p o e q) = some (bI (e = 0), X τ0 r V0 P N p o e q, 0, 0) := by
  unfold x9_isGood bI
  rw [X_8]
  simp only [ob_s]
  by_cases h : e = 0
  · rw [if_pos h, if_pos h]
  · rw [if_neg h, if_neg h]
theorem X_bad0 {F : Nat} {v w : Int32} : x9_bad F r v w (X τ0 r V0 P N p o 0 q) = some (0, X τ0 r V0 P N p o v w, 0, 0) := by
  unfold x9_bad
  rw [X_8]
  simp only [ob_s]
  rw [if_pos (by decide), X_w8]
  simp only [ob_s]
  rw [X_w9]
  rfl
theorem X_bad1 {F m : Nat} {v w : Int32} (hm : 1 ≤ m ∧ m ≤ 5) : x9_bad F r v w (X τ0 r V0 P N p o (nI m) q) = some (0, X τ0 r V0 P N p o (nI m) q, 0, 0) := by
  unfold x9_bad
  rw [X_8]
  simp only [ob_s]
  rw [if_neg (show ¬ nI m ≤ 0 from fun x => absurd ((ni_le (b := 0) (by omega) (by omega)).mp x) (by omega))]
theorem X_good0 {F : Nat} : x9_isGood F r (X τ0 r V0 P N p o 0 q) = some (1, X τ0 r V0 P N p o 0 q, 0, 0) := by
  rw [X_good, bI_t rfl]
theorem X_good1 {F m : Nat} (hm : 1 ≤ m ∧ m ≤ 5) : x9_isGood F r (X τ0 r V0 P N p o (nI m) q) = some (0, X τ0 r V0 P N p o (nI m) q, 0, 0) := by
  rw [X_good, bI_f]
  exact fun x => absurd (ni_inj (b := 0) (by omega) (by omega) x) (by omega)
end
theorem nI_n0 {m : Nat} (h : 1 ≤ m ∧ m ≤ 5) : ¬ nI m = 0 := fun x => absurd (ni_inj (b := 0) (by omega) (by omega) x) (by omega)
theorem hx_eq {n k : Nat} (hk : k < 256) (h0 : 0 < k) : (hx n = nI k) = (n = k) := by
  unfold hx
  by_cases h : n < 256
  · rw [if_pos h]; exact ni_ii (by omega) (by omega)
  · rw [if_neg h]
    refine propext ⟨fun e => ?_, fun e => by omega⟩
    have := ni_inj (a := 0) (by omega) (by omega) e
    omega
theorem hx_33 {n : Nat} : (hx n = 33) = (n = 33) := hx_eq (k := 33) (by decide) (by decide)
theorem hx_37 {n : Nat} : (hx n = 37) = (n = 37) := hx_eq (k := 37) (by decide) (by decide)
theorem hx_38 {n : Nat} : (hx n = 38) = (n = 38) := hx_eq (k := 38) (by decide) (by decide)
theorem hx_40 {n : Nat} : (hx n = 40) = (n = 40) := hx_eq (k := 40) (by decide) (by decide)
theorem hx_41 {n : Nat} : (hx n = 41) = (n = 41) := hx_eq (k := 41) (by decide) (by decide)
theorem hx_42 {n : Nat} : (hx n = 42) = (n = 42) := hx_eq (k := 42) (by decide) (by decide)
theorem hx_43 {n : Nat} : (hx n = 43) = (n = 43) := hx_eq (k := 43) (by decide) (by decide)
theorem hx_45 {n : Nat} : (hx n = 45) = (n = 45) := hx_eq (k := 45) (by decide) (by decide)
theorem hx_46 {n : Nat} : (hx n = 46) = (n = 46) := hx_eq (k := 46) (by decide) (by decide)
theorem hx_47 {n : Nat} : (hx n = 47) = (n = 47) := hx_eq (k := 47) (by decide) (by decide)
theorem hx_59 {n : Nat} : (hx n = 59) = (n = 59) := hx_eq (k := 59) (by decide) (by decide)
theorem hx_60 {n : Nat} : (hx n = 60) = (n = 60) := hx_eq (k := 60) (by decide) (by decide)
theorem hx_61 {n : Nat} : (hx n = 61) = (n = 61) := hx_eq (k := 61) (by decide) (by decide)
theorem hx_62 {n : Nat} : (hx n = 62) = (n = 62) := hx_eq (k := 62) (by decide) (by decide)
theorem hx_91 {n : Nat} : (hx n = 91) = (n = 91) := hx_eq (k := 91) (by decide) (by decide)
theorem hx_93 {n : Nat} : (hx n = 93) = (n = 93) := hx_eq (k := 93) (by decide) (by decide)
theorem hx_124 {n : Nat} : (hx n = 124) = (n = 124) := hx_eq (k := 124) (by decide) (by decide)
theorem hx_120 {n : Nat} : (hx n = 120) = (n = 120) := hx_eq (k := 120) (by decide) (by decide)
theorem hx_0 {n : Nat} : (hx n = 0) = (n = 0 ∨ 256 ≤ n) := by
  unfold hx
  by_cases h : n < 256
  · rw [if_pos h]
    exact propext ⟨fun e => Or.inl (ni_inj (b := 0) (by omega) (by omega) e), fun e => by
      rcases e with e | e
      · rw [e]; rfl
      · omega⟩
  · rw [if_neg h]
    exact propext ⟨fun _ => Or.inr (by omega), fun _ => rfl⟩
theorem hx_lo {n : Nat} : (hx n < 48) = ¬ (48 ≤ n ∧ n < 256) := by
  unfold hx
  by_cases h : n < 256
  · rw [if_pos h]
    have := ni_lt (a := n) (b := 48) (by omega) (by omega)
    exact propext ⟨fun e => by have := this.mp e; omega, fun e => this.mpr (by omega)⟩
  · rw [if_neg h]
    exact propext ⟨fun _ => by omega, fun _ => by decide⟩
theorem hx_hi {n : Nat} : (57 < hx n) = (57 < n ∧ n < 256) := by
  unfold hx
  by_cases h : n < 256
  · rw [if_pos h]
    have := ni_lt (a := 57) (b := n) (by omega) (by omega)
    exact propext ⟨fun e => by have := this.mp e; omega, fun e => this.mpr (by omega)⟩
  · rw [if_neg h]
    exact propext ⟨fun e => absurd e (by decide), fun _ => by omega⟩
section
variable {τ0 : XS} {r : Nat} {V0 : Nat → Value} {P : Pl} {N ta L : Nat} {T : Nat → Int32} {p o e q : Int32} {F k : Nat}
theorem X_dig (h : XK P N r ta L T V0) (hk : k ≤ 1000) : x9_seesDigit F r (X τ0 r V0 P N (nI k) o e q) = some (bI (48 ≤ sB T L k ∧ sB T L k ≤ 57), X τ0 r V0 P N (nI k) o e q, 0, 0) := by
  unfold x9_seesDigit
  rw [if_pos X_c, X_here h hk]
  simp only [ob_s, tk_00, hx_lo]
  rw [if_pos X_c, X_here h hk]
  simp only [ob_s, tk_00, hx_hi]
  by_cases h1 : 48 ≤ sB T L k ∧ sB T L k < 256
  · rw [if_neg (fun e => e h1)]
    by_cases h2 : 57 < sB T L k ∧ sB T L k < 256
    · rw [if_pos h2, bI_f (by omega)]
    · rw [if_neg h2, bI_t (by omega)]
  · rw [if_pos h1, bI_f (by omega)]
theorem X_must {c : Nat} (h : XK P N r ta L T V0) (hk : k ≤ 1000) (hc : 0 < c ∧ c < 256) : x9_must F r (nI c) (X τ0 r V0 P N (nI k) o 0 q) = if sB T L k = c then some (0, X τ0 r V0 P N (nI (k + 1)) o 0 q, 0, 0) else some (0, X τ0 r V0 P N (nI (k + 1)) o 1 (nI k), 0, 0) := by
  have e1 : nI k + 1 = nI (k + 1) := ni_add k 1
  unfold x9_must
  rw [if_pos X_c, X_here h hk]
  simp only [ob_s, tk_00, hx_eq hc.2 hc.1]
  by_cases hb : sB T L k = c
  · rw [if_pos hb, if_pos hb]
    unfold x9_must_17
    rw [X_6]
    simp only [ob_s]
    rw [X_w6, e1]
    rfl
  · rw [if_neg hb, if_neg hb, X_6]
    simp only [ob_s]
    rw [if_pos X_c, X_bad0]
    simp only [ob_s, tk_00]
    unfold x9_must_17
    rw [X_6]
    simp only [ob_s]
    rw [X_w6, e1]
    rfl
theorem X_opens {j : Nat} (hj : j ≤ 6) : x9_opens F r (X τ0 r V0 P N (nI k) (nI j) 0 q) = if j = 6 then some (0, X τ0 r V0 P N (nI (k + 1)) (nI (j + 1)) 5 (nI k), 0, 0) else some (0, X τ0 r V0 P N (nI (k + 1)) (nI (j + 1)) 0 q, 0, 0) := by
  have e1 : nI k + 1 = nI (k + 1) := ni_add k 1
  have e2 : nI j + 1 = nI (j + 1) := ni_add j 1
  have e6 : (nI j = 6) = (j = 6) := ni_ii (b := 6) (by omega) (by omega)
  unfold x9_opens
  rw [X_7]
  simp only [ob_s, e6]
  by_cases h6 : j = 6
  · rw [if_pos h6, if_pos h6, X_6]
    simp only [ob_s]
    rw [if_pos X_c, X_bad0]
    simp only [ob_s, tk_00]
    unfold x9_opens_18
    rw [X_7]
    simp only [ob_s]
    rw [X_w7]
    simp only [ob_s]
    rw [X_6]
    simp only [ob_s]
    rw [X_w6, e1, e2]
    rfl
  · rw [if_neg h6, if_neg h6]
    unfold x9_opens_18
    rw [X_7]
    simp only [ob_s]
    rw [X_w7]
    simp only [ob_s]
    rw [X_6]
    simp only [ob_s]
    rw [X_w6, e1, e2]
    rfl
end
/-! numbers -/
theorem x_numl {F L p N r ta : Nat} {τ0 : XS} {V0 : Nat → Value} {P : Pl} {T : Nat → Int32} {o q x1 : Int32} {K : Int32 × XS → XR Int32} (h : XK P N r ta L T V0) (hp : p ≤ L) : ∀ (j i fu : Nat), i + j = 5 → j + 1 < fu → (∀ k, k < i → dg (sB T L) (p + k)) →
    ∃ k, i ≤ k ∧ k ≤ 5 ∧ (∀ z, z < k → dg (sB T L) (p + z)) ∧ ((¬ dg (sB T L) (p + k) ∧ lp (x9_number_B23 F K r x1 (nI p)) fu (nI (sv (sB T L) p i), X τ0 r V0 P N (nI (p + i)) o 0 q) = K (nI (sv (sB T L) p k), X τ0 r V0 P N (nI (p + k)) o 0 q)) ∨
      (dg (sB T L) (p + k) ∧ k = 5 ∧ lp (x9_number_B23 F K r x1 (nI p)) fu (nI (sv (sB T L) p i), X τ0 r V0 P N (nI (p + i)) o 0 q) = K (nI (sv (sB T L) p 6), X τ0 r V0 P N (nI (p + 6)) o 2 (nI (p + 5))))) := by
  have hL := h.2.2.2.2.2
  have step56 : ∀ (R : Int32 × XS → XR Int32) (i : Nat) (e q' : Int32), i ≤ 5 → (∀ k, k < i → dg (sB T L) (p + k)) → dg (sB T L) (p + i) → x9_number_56 F K R r x1 (nI p) (nI (sv (sB T L) p i)) (X τ0 r V0 P N (nI (p + i)) o e q') = R (nI (sv (sB T L) p (i + 1)), X τ0 r V0 P N (nI (p + (i + 1))) o e q') := by
    intro R i e q' hi hd hdi
    unfold x9_number_56
    rw [if_pos X_c, X_here h (by omega)]
    simp only [ob_s, tk_00, nx_e]
    have hh : 48 ≤ sB T L (p + i) ∧ sB T L (p + i) ≤ 57 := hdi
    have e3 : 10 * nI (sv (sB T L) p i) + hx (sB T L (p + i)) - 48 = nI (sv (sB T L) p (i + 1)) := by
      rw [sv]
      unfold hx
      rw [if_pos (by omega)]
      have hsv := sv_b (B := sB T L) (p := p) i hd
      have h10 : 10 ^ i ≤ 10 ^ 5 := Nat.pow_le_pow_right (by omega) (by omega)
      have h105 : 10 ^ 5 = 100000 := by decide
      rw [show (10 : Int32) = nI 10 from rfl, ni_mul, ni_add]
      refine Int32.toInt_inj.mp ?_
      have l48 : (48 : Int32).toInt = 48 := li_48
      rw [i_sub (by rw [ni_i (by omega), l48]; omega) (by rw [ni_i (by omega), l48]; omega), ni_i (by omega), ni_i (by omega), l48]
      omega
    rw [e3, X_6]
    simp only [ob_s]
    rw [X_w6, show nI (p + i) + 1 = nI (p + (i + 1)) from ni_add (p + i) 1]
    rfl
  have e5 : nI p + 5 = nI (p + 5) := ni_add p 5
  have stepB : ∀ (R : Int32 × XS → XR Int32) (i : Nat), i ≤ 5 → (∀ k, k < i → dg (sB T L) (p + k)) → x9_number_B23 F K r x1 (nI p) R (nI (sv (sB T L) p i), X τ0 r V0 P N (nI (p + i)) o 0 q) = if 48 ≤ sB T L (p + i) ∧ sB T L (p + i) ≤ 57 then (if i = 5 then R (nI (sv (sB T L) p (i + 1)), X τ0 r V0 P N (nI (p + (i + 1))) o 2 (nI (p + i))) else R (nI (sv (sB T L) p (i + 1)), X τ0 r V0 P N (nI (p + (i + 1))) o 0 q)) else K (nI (sv (sB T L) p i), X τ0 r V0 P N (nI (p + i)) o 0 q) := by
    intro R i hi hd
    have e1 : (nI (p + i) = nI (p + 5)) = (i = 5) := by
      rw [ni_ii (by omega) (by omega)]
      exact propext (by omega)
    simp only [x9_number_B23, X_c, X_good0, ob_s, tk_00, X_dig h (show p + i ≤ 1000 by omega), bI_0, X_6, e5, e1, X_bad0]
    by_cases hdi : 48 ≤ sB T L (p + i) ∧ sB T L (p + i) ≤ 57
    · rw [step56 R i 0 q hi hd hdi, step56 R i 2 _ hi hd hdi]
      simp [hdi]
    · simp [hdi]
  have stepC : ∀ (R : Int32 × XS → XR Int32) (v p' q' : Int32), x9_number_B23 F K r x1 (nI p) R (v, X τ0 r V0 P N p' o 2 q') = K (v, X τ0 r V0 P N p' o 2 q') := by
    intro R v p' q'
    simp only [x9_number_B23, X_c]
    rw [if_pos trivial, show (2 : Int32) = nI 2 from rfl, X_good1 (by omega)]
    simp only [ob_s, tk_00]
    rw [if_pos trivial]
  intro j
  induction j with
  | zero =>
    intro i fu hi hf hd
    have e5 : i = 5 := by omega
    subst e5
    obtain ⟨fu, rfl⟩ : ∃ f, fu = f + 2 := ⟨fu - 2, by omega⟩
    refine ⟨5, Nat.le_refl _, Nat.le_refl _, hd, ?_⟩
    rw [lp_s, stepB _ 5 (Nat.le_refl 5) hd]
    by_cases hd5 : dg (sB T L) (p + 5)
    · refine Or.inr ⟨hd5, rfl, ?_⟩
      rw [if_pos (show 48 ≤ sB T L (p + 5) ∧ sB T L (p + 5) ≤ 57 from hd5), if_pos rfl, lp_s, stepC]
    · refine Or.inl ⟨hd5, ?_⟩
      rw [if_neg (show ¬ (48 ≤ sB T L (p + 5) ∧ sB T L (p + 5) ≤ 57) from hd5)]
  | succ j ih =>
    intro i fu hi hf hd
    obtain ⟨fu, rfl⟩ : ∃ f, fu = f + 1 := ⟨fu - 1, by omega⟩
    rw [lp_s, stepB _ i (by omega) hd]
    by_cases hdi : dg (sB T L) (p + i)
    · have hd' : ∀ k, k < i + 1 → dg (sB T L) (p + k) := by
        intro k hk
        by_cases hki : k = i
        · subst hki; exact hdi
        · exact hd k (by omega)
      obtain ⟨k, k1, k2, k3, k4⟩ := ih (i + 1) fu (by omega) (by omega) hd'
      refine ⟨k, by omega, k2, k3, ?_⟩
      rw [if_pos (show 48 ≤ sB T L (p + i) ∧ sB T L (p + i) ≤ 57 from hdi), if_neg (by omega)]
      exact k4
    · refine ⟨i, Nat.le_refl _, by omega, hd, Or.inl ⟨hdi, ?_⟩⟩
      rw [if_neg (show ¬ (48 ≤ sB T L (p + i) ∧ sB T L (p + i) ≤ 57) from hdi)]
def xnQ (F r : Nat) (τ0 : XS) (V0 : Nat → Value) (P : Pl) (N p L : Nat) (o q : Int32) (most : Nat) : (Nat × Nat) ⊕ (Nat × Nat) → Prop
  | .inl er => ∃ v p', p' ≤ L + 1 ∧ x9_number F r (nI most) (X τ0 r V0 P N (nI p) o 0 q) = some (v, X τ0 r V0 P N (nI p') o (nI er.1) (nI er.2), 0, 0)
  | .inr z => x9_number F r (nI most) (X τ0 r V0 P N (nI p) o 0 q) = some (nI z.2, X τ0 r V0 P N (nI z.1) o 0 q, 0, 0)
theorem x_num {F L p N r ta most : Nat} {τ0 : XS} {V0 : Nat → Value} {P : Pl} {T : Nat → Int32} {o q : Int32} (hF : 200 ≤ F) (h : XK P N r ta L T V0) (hp : p ≤ L) (hm : most < 100000) : xnQ F r τ0 V0 P N p L o q most (sNum (sB T L) most p) := by
  have hL := h.2.2.2.2.2
  by_cases hd : dg (sB T L) p
  · obtain ⟨k, k1, k2, k3, k4⟩ := x_numl (F := F) (τ0 := τ0) (x1 := nI most) (o := o) (q := q) (K := fun a1 => x9_number_82 F r (nI most) (nI p) a1.1 a1.2) h hp 5 0 F (by omega) (by omega) (fun k hk => absurd hk (Nat.not_lt_zero k))
    have hX : x9_number F r (nI most) (X τ0 r V0 P N (nI p) o 0 q) = lp (x9_number_B23 F (fun a1 => x9_number_82 F r (nI most) (nI p) a1.1 a1.2) r (nI most) (nI p)) F (nI (sv (sB T L) p 0), X τ0 r V0 P N (nI (p + 0)) o 0 q) := by
      unfold x9_number
      rw [X_6]
      simp only [ob_s]
      rw [if_pos X_c, X_dig h (by omega)]
      simp only [ob_s, tk_00, bI_0]
      rw [if_neg (fun e => e (show 48 ≤ sB T L p ∧ sB T L p ≤ 57 from hd))]
      rfl
    have hlast : ∀ z, dg (sB T L) (p + z) → p + z < L := fun z hz => (sB_BL hL).lt (by unfold dg at hz; omega : sB T L (p + z) < 256)
    have hsv := sv_b (B := sB T L) (p := p) k k3
    have h10 : 10 ^ k ≤ 10 ^ 5 := Nat.pow_le_pow_right (by omega) (by omega)
    have h105 : 10 ^ 5 = 100000 := by decide
    rcases k4 with ⟨k5, k6⟩ | ⟨k5, k6, k7⟩
    · have hk1 : 1 ≤ k := by
        by_cases h0 : k = 0
        · subst h0; exact absurd hd k5
        · omega
      have hpk := hlast (k - 1) (k3 (k - 1) (by omega))
      by_cases hmm : most < sv (sB T L) p k
      · have : sN (sB T L) most p (.inl (3, p)) := Or.inr (Or.inl ⟨k, hk1, k2, k3, k5, Or.inl ⟨hmm, rfl⟩⟩)
        rw [sN_u sN_e this]
        refine ⟨nI (sv (sB T L) p k), p + k, by omega, ?_⟩
        rw [hX, k6]
        unfold x9_number_82
        rw [if_neg (fun e => absurd ((ni_le (by omega) (by omega)).mp e) (by omega)), if_pos X_c, X_bad0]
        rfl
      · have : sN (sB T L) most p (.inr (p + k, sv (sB T L) p k)) := Or.inr (Or.inl ⟨k, hk1, k2, k3, k5, Or.inr ⟨by omega, rfl⟩⟩)
        rw [sN_u sN_e this]
        show x9_number F r (nI most) (X τ0 r V0 P N (nI p) o 0 q) = _
        rw [hX, k6]
        unfold x9_number_82
        rw [if_pos ((ni_le (by omega) (by omega)).mpr (by omega))]
    · subst k6
      have hp5 := hlast 5 k5
      have : sN (sB T L) most p (.inl (2, p + 5)) := by
        refine Or.inr (Or.inr ⟨fun i hi => ?_, rfl⟩)
        by_cases hi5 : i = 5
        · subst hi5; exact k5
        · exact k3 i (by omega)
      rw [sN_u sN_e this]
      refine ⟨nI (sv (sB T L) p 6), p + 6, by omega, ?_⟩
      rw [hX, k7]
      unfold x9_number_82
      by_cases hc : nI (sv (sB T L) p 6) ≤ nI most
      · rw [if_pos hc]
        rfl
      · rw [if_neg hc, if_pos X_c, show (2 : Int32) = nI 2 from rfl, X_bad1 (by omega)]
        rfl
  · have : sN (sB T L) most p (.inl (1, p)) := Or.inl ⟨hd, rfl⟩
    rw [sN_u sN_e this]
    refine ⟨0, p, by omega, ?_⟩
    obtain ⟨F', rfl⟩ : ∃ f, F = f + 1 := ⟨F - 1, by omega⟩
    unfold x9_number
    rw [X_6]
    simp only [ob_s]
    rw [if_pos X_c, X_dig h (by omega)]
    simp only [ob_s, tk_00, bI_0]
    rw [if_pos (show ¬ (48 ≤ sB T L p ∧ sB T L p ≤ 57) from hd), X_6]
    simp only [ob_s]
    rw [if_pos X_c, X_bad0]
    simp only [ob_s, tk_00]
    rw [lp_s]
    simp only [x9_number_B23]
    rw [if_pos X_c, show (1 : Int32) = nI 1 from rfl, X_good1 (by omega)]
    simp only [ob_s, tk_00]
    rw [if_pos trivial]
    unfold x9_number_82
    rw [if_pos (show (0 : Int32) ≤ nI most from (ni_le (a := 0) (b := most) (by omega) (by omega)).mpr (by omega))]
