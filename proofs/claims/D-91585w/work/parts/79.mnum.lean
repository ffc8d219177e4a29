/-! the reference's reader: bytes, numbers -/
def hb (n : Nat) : Int32 := if n < 256 then nI n else -1
theorem hb_eq {n k : Nat} (hk : k < 256) : (hb n = nI k) = (n = k) := by
  unfold hb
  by_cases h : n < 256
  · rw [if_pos h]; exact ni_ii (by omega) (by omega)
  · rw [if_neg h]
    refine propext ⟨fun e => ?_, fun e => by omega⟩
    have := congrArg Int32.toInt e
    rw [ni_i (by omega), li_m1] at this
    omega
theorem hb_33 {n : Nat} : (hb n = 33) = (n = 33) := hb_eq (k := 33) (by decide)
theorem hb_37 {n : Nat} : (hb n = 37) = (n = 37) := hb_eq (k := 37) (by decide)
theorem hb_38 {n : Nat} : (hb n = 38) = (n = 38) := hb_eq (k := 38) (by decide)
theorem hb_40 {n : Nat} : (hb n = 40) = (n = 40) := hb_eq (k := 40) (by decide)
theorem hb_41 {n : Nat} : (hb n = 41) = (n = 41) := hb_eq (k := 41) (by decide)
theorem hb_42 {n : Nat} : (hb n = 42) = (n = 42) := hb_eq (k := 42) (by decide)
theorem hb_43 {n : Nat} : (hb n = 43) = (n = 43) := hb_eq (k := 43) (by decide)
theorem hb_45 {n : Nat} : (hb n = 45) = (n = 45) := hb_eq (k := 45) (by decide)
theorem hb_46 {n : Nat} : (hb n = 46) = (n = 46) := hb_eq (k := 46) (by decide)
theorem hb_47 {n : Nat} : (hb n = 47) = (n = 47) := hb_eq (k := 47) (by decide)
theorem hb_59 {n : Nat} : (hb n = 59) = (n = 59) := hb_eq (k := 59) (by decide)
theorem hb_60 {n : Nat} : (hb n = 60) = (n = 60) := hb_eq (k := 60) (by decide)
theorem hb_61 {n : Nat} : (hb n = 61) = (n = 61) := hb_eq (k := 61) (by decide)
theorem hb_62 {n : Nat} : (hb n = 62) = (n = 62) := hb_eq (k := 62) (by decide)
theorem hb_91 {n : Nat} : (hb n = 91) = (n = 91) := hb_eq (k := 91) (by decide)
theorem hb_93 {n : Nat} : (hb n = 93) = (n = 93) := hb_eq (k := 93) (by decide)
theorem hb_97 {n : Nat} : (hb n = 97) = (n = 97) := hb_eq (k := 97) (by decide)
theorem hb_102 {n : Nat} : (hb n = 102) = (n = 102) := hb_eq (k := 102) (by decide)
theorem hb_104 {n : Nat} : (hb n = 104) = (n = 104) := hb_eq (k := 104) (by decide)
theorem hb_107 {n : Nat} : (hb n = 107) = (n = 107) := hb_eq (k := 107) (by decide)
theorem hb_109 {n : Nat} : (hb n = 109) = (n = 109) := hb_eq (k := 109) (by decide)
theorem hb_110 {n : Nat} : (hb n = 110) = (n = 110) := hb_eq (k := 110) (by decide)
theorem hb_112 {n : Nat} : (hb n = 112) = (n = 112) := hb_eq (k := 112) (by decide)
theorem hb_118 {n : Nat} : (hb n = 118) = (n = 118) := hb_eq (k := 118) (by decide)
theorem hb_119 {n : Nat} : (hb n = 119) = (n = 119) := hb_eq (k := 119) (by decide)
theorem hb_120 {n : Nat} : (hb n = 120) = (n = 120) := hb_eq (k := 120) (by decide)
theorem hb_124 {n : Nat} : (hb n = 124) = (n = 124) := hb_eq (k := 124) (by decide)
theorem hb_lo {n : Nat} : (hb n < 48) = ¬ (48 ≤ n ∧ n < 256) := by
  unfold hb
  by_cases h : n < 256
  · rw [if_pos h]
    have := ni_lt (a := n) (b := 48) (by omega) (by omega)
    exact propext ⟨fun e => by have := this.mp e; omega, fun e => this.mpr (by omega)⟩
  · rw [if_neg h]
    exact propext ⟨fun _ => by omega, fun _ => by decide⟩
theorem hb_hi {n : Nat} : (57 < hb n) = (57 < n ∧ n < 256) := by
  unfold hb
  by_cases h : n < 256
  · rw [if_pos h]
    have := ni_lt (a := 57) (b := n) (by omega) (by omega)
    exact propext ⟨fun e => by have := this.mp e; omega, fun e => this.mpr (by omega)⟩
  · rw [if_neg h]
    exact propext ⟨fun e => absurd e (by decide), fun _ => by omega⟩
theorem sB_BL {t : Nat → Int32} {L : Nat} (h : L ≤ 160) : sBL (sB t L) L := by
  refine ⟨h, fun p => ⟨fun e => ?_, fun e => (sB_n e).2⟩⟩
  by_cases hp : p < L
  · exact hp
  · rw [sB_e hp] at e; omega
theorem m_byte {F L p : Nat} {σ : MS} (h29 : σ.1 29 = nI p) (h30 : σ.1 30 = nI L) (hL : L ≤ 160) (hp : p ≤ 1000) : m_byteHere F σ = some (hb (sB (σ.2 20) L p), σ) := by
  unfold m_byteHere
  rw [h29, h30]
  by_cases h : p < L
  · have h1 := ni_le (a := L) (b := p) (by omega) (by omega)
    rw [if_neg (fun e => absurd (h1.mp e) (by omega)), if_pos (okI_nI (by omega) (by omega)), ni_c (by omega)]
    obtain ⟨h2, h3⟩ := sB_n (t := σ.2 20) h
    rw [h2]
    unfold hb
    rw [if_pos h3]
  · have h1 := ni_le (a := L) (b := p) (by omega) (by omega)
    rw [if_pos (h1.mpr (by omega)), sB_e h]
    rfl
theorem mi_dig {F L p : Nat} {σ : MS} (h29 : σ.1 29 = nI p) (h30 : σ.1 30 = nI L) (hL : L ≤ 160) (hp : p ≤ 1000) : m_isDigit F σ = some (bI (48 ≤ sB (σ.2 20) L p ∧ sB (σ.2 20) L p ≤ 57), σ) := by
  unfold m_isDigit
  rw [m_byte h29 h30 hL hp]
  simp only [ob_s]
  rw [m_byte h29 h30 hL hp]
  simp only [ob_s, hb_lo, hb_hi]
  by_cases h1 : 48 ≤ sB (σ.2 20) L p ∧ sB (σ.2 20) L p < 256
  · rw [if_neg (fun e => e h1)]
    by_cases h2 : 57 < sB (σ.2 20) L p ∧ sB (σ.2 20) L p < 256
    · rw [if_pos h2, bI_f (by omega)]
    · rw [if_neg h2, bI_t (by omega)]
  · rw [if_pos h1, bI_f (by omega)]
/-- a fault's answer -/
def flt (e : Nat × Nat) : Int32 := (-1000) * nI e.1 - nI e.2
theorem m_wr {F : Nat} {σ : MS} {a b : Nat} : m_wrong F (nI a) (nI b) σ = some (0, sS σ 31 (flt (a, b))) := rfl
def nS (σ : MS) (v q : Int32) : MS := sS (sS σ 32 v) 29 q
theorem nS_nS {σ : MS} {v q v' q' : Int32} : sS (sS (nS σ v q) 32 v') 29 q' = nS σ v' q' := by
  unfold nS sS
  refine Prod.ext (funext fun k => ?_) rfl
  show (if k = 29 then q' else if k = 32 then v' else if k = 29 then q else if k = 32 then v else σ.1 k) = if k = 29 then q' else if k = 32 then v' else σ.1 k
  by_cases h1 : k = 29
  · simp [h1]
  · by_cases h2 : k = 32
    · simp [h2]
    · simp [h1, h2]
theorem mB27 {F L p i : Nat} {σ : MS} {v x1 : Int32} {K44 K86 R : MS → Option (Int32 × MS)} (h30 : σ.1 30 = nI L) (hL : L ≤ 160) (hp : p ≤ L) (hi : i ≤ 5) : m_readsNumber_B27 F K44 K86 x1 (nI p) R (nS σ v (nI (p + i))) = if 48 ≤ sB (σ.2 20) L (p + i) ∧ sB (σ.2 20) L (p + i) ≤ 57 then (if i = 5 then K44 (nS σ v (nI (p + i))) else R (nS σ (10 * v + nI (sB (σ.2 20) L (p + i)) - 48) (nI (p + (i + 1))))) else K86 (nS σ v (nI (p + i))) := by
  have hdig : m_isDigit F (nS σ v (nI (p + i))) = some (bI (48 ≤ sB (σ.2 20) L (p + i) ∧ sB (σ.2 20) L (p + i) ≤ 57), nS σ v (nI (p + i))) := mi_dig (σ := nS σ v (nI (p + i))) (L := L) (p := p + i) rfl h30 hL (by omega)
  have hbyt : m_byteHere F (nS σ v (nI (p + i))) = some (hb (sB (σ.2 20) L (p + i)), nS σ v (nI (p + i))) := m_byte (σ := nS σ v (nI (p + i))) (L := L) (p := p + i) rfl h30 hL (by omega)
  simp only [m_readsNumber_B27, hdig, ob_s, bI_0, hbyt, nx_e]
  by_cases hd : 48 ≤ sB (σ.2 20) L (p + i) ∧ sB (σ.2 20) L (p + i) ≤ 57
  · rw [if_neg (fun e => e hd), if_pos hd]
    have e0 : (nS σ v (nI (p + i))).1 29 = nI (p + i) := rfl
    have e5 : nI p + 5 = nI (p + 5) := ni_add p 5
    have e1 : (nI (p + i) = nI (p + 5)) = (i = 5) := by
      rw [ni_ii (by omega) (by omega)]
      exact propext (by omega)
    have eh : hb (sB (σ.2 20) L (p + i)) = nI (sB (σ.2 20) L (p + i)) := by
      unfold hb
      rw [if_pos (by omega)]
    have e4 : (sS (nS σ v (nI (p + i))) 32 (10 * (nS σ v (nI (p + i))).1 32 + hb (sB (σ.2 20) L (p + i)) - 48)).1 29 + 1 = nI (p + (i + 1)) := ni_add (p + i) 1
    have e32 : (nS σ v (nI (p + i))).1 32 = v := rfl
    rw [e4, nS_nS, e32, eh]
    simp only [e0, e5, e1]
  · rw [if_pos hd, if_neg hd]
theorem m_numl {F L p : Nat} {σ : MS} {x1 : Int32} {K44 K86 : MS → Option (Int32 × MS)} (h30 : σ.1 30 = nI L) (hL : L ≤ 160) (hp : p ≤ L) : ∀ (j i fu : Nat), i + j = 5 → j < fu → (∀ k, k < i → dg (sB (σ.2 20) L) (p + k)) →
    ∃ k, i ≤ k ∧ k ≤ 5 ∧ (∀ q, q < k → dg (sB (σ.2 20) L) (p + q)) ∧ ((¬ dg (sB (σ.2 20) L) (p + k) ∧ lp (m_readsNumber_B27 F K44 K86 x1 (nI p)) fu (nS σ (nI (sv (sB (σ.2 20) L) p i)) (nI (p + i))) = K86 (nS σ (nI (sv (sB (σ.2 20) L) p k)) (nI (p + k)))) ∨
      (dg (sB (σ.2 20) L) (p + k) ∧ k = 5 ∧ lp (m_readsNumber_B27 F K44 K86 x1 (nI p)) fu (nS σ (nI (sv (sB (σ.2 20) L) p i)) (nI (p + i))) = K44 (nS σ (nI (sv (sB (σ.2 20) L) p 5)) (nI (p + 5))))) := by
  intro j
  induction j with
  | zero =>
    intro i fu hi hf hd
    have e5 : i = 5 := by omega
    subst e5
    obtain ⟨fu, rfl⟩ : ∃ f, fu = f + 1 := ⟨fu - 1, by omega⟩
    refine ⟨5, Nat.le_refl _, Nat.le_refl _, hd, ?_⟩
    rw [lp_s, mB27 h30 hL hp (Nat.le_refl 5)]
    by_cases h : dg (sB (σ.2 20) L) (p + 5)
    · refine Or.inr ⟨h, rfl, ?_⟩
      rw [if_pos (show 48 ≤ sB (σ.2 20) L (p + 5) ∧ sB (σ.2 20) L (p + 5) ≤ 57 from h), if_pos rfl]
    · refine Or.inl ⟨h, ?_⟩
      rw [if_neg (show ¬ (48 ≤ sB (σ.2 20) L (p + 5) ∧ sB (σ.2 20) L (p + 5) ≤ 57) from h)]
  | succ j ih =>
    intro i fu hi hf hd
    obtain ⟨fu, rfl⟩ : ∃ f, fu = f + 1 := ⟨fu - 1, by omega⟩
    rw [lp_s, mB27 h30 hL hp (by omega)]
    by_cases h : dg (sB (σ.2 20) L) (p + i)
    · have hd' : ∀ k, k < i + 1 → dg (sB (σ.2 20) L) (p + k) := by
        intro k hk
        by_cases hki : k = i
        · subst hki; exact h
        · exact hd k (by omega)
      obtain ⟨k, k1, k2, k3, k4⟩ := ih (i + 1) fu (by omega) (by omega) hd'
      refine ⟨k, by omega, k2, k3, ?_⟩
      have hh : 48 ≤ sB (σ.2 20) L (p + i) ∧ sB (σ.2 20) L (p + i) ≤ 57 := h
      have e3 : 10 * nI (sv (sB (σ.2 20) L) p i) + nI (sB (σ.2 20) L (p + i)) - 48 = nI (sv (sB (σ.2 20) L) p (i + 1)) := by
        rw [sv]
        have hsv := sv_b (B := sB (σ.2 20) L) (p := p) i hd
        have h10 : 10 ^ i ≤ 10 ^ 5 := Nat.pow_le_pow_right (by omega) (by omega)
        have h105 : 10 ^ 5 = 100000 := by decide
        rw [show (10 : Int32) = nI 10 from rfl, ni_mul, ni_add]
        refine Int32.toInt_inj.mp ?_
        have l48 : (48 : Int32).toInt = 48 := li_48
        rw [i_sub (by rw [ni_i (by omega), l48]; omega) (by rw [ni_i (by omega), l48]; omega), ni_i (by omega), ni_i (by omega), l48]
        omega
      rw [if_pos hh, if_neg (by omega), e3]
      exact k4
    · refine ⟨i, Nat.le_refl _, by omega, hd, Or.inl ⟨h, ?_⟩⟩
      rw [if_neg (show ¬ (48 ≤ sB (σ.2 20) L (p + i) ∧ sB (σ.2 20) L (p + i) ≤ 57) from h)]
def numQ (F : Nat) (σ : MS) (most : Nat) : (Nat × Nat) ⊕ (Nat × Nat) → Prop
  | .inl e => ∃ v q, m_readsNumber F (nI most) σ = some (0, sS (nS σ v q) 31 (flt e))
  | .inr r => m_readsNumber F (nI most) σ = some (1, nS σ (nI r.2) (nI r.1))
theorem mi_num {F L p most : Nat} {σ : MS} (hF : 200 ≤ F) (h29 : σ.1 29 = nI p) (h30 : σ.1 30 = nI L) (hL : L ≤ 160) (hp : p ≤ L) (hm : most < 100000) : numQ F σ most (sNum (sB (σ.2 20) L) most p) := by
  have hself : nS σ 0 (nI p) = sS σ 32 0 := by
    unfold nS sS
    refine Prod.ext (funext fun k => ?_) rfl
    show (if k = 29 then nI p else if k = 32 then 0 else σ.1 k) = if k = 32 then 0 else σ.1 k
    by_cases h1 : k = 29
    · rw [if_pos h1, if_neg (by omega), h1, h29]
    · rw [if_neg h1]
  have hdig : m_isDigit F (nS σ 0 (nI p)) = some (bI (48 ≤ sB (σ.2 20) L p ∧ sB (σ.2 20) L p ≤ 57), nS σ 0 (nI p)) := mi_dig (σ := nS σ 0 (nI p)) (L := L) (p := p) rfl h30 hL (by omega)
  by_cases h : dg (sB (σ.2 20) L) p
  · obtain ⟨k, k1, k2, k3, k4⟩ := m_numl (F := F) (x1 := nI most) (K44 := fun a1 => (m_wrong F 2 (a1.1 29) a1).bind (fun r2 => if okB r2.1 = true then some (r2.1, r2.2) else none)) (K86 := fun a2 => if (a2.1 32) ≤ nI most then (some (1, a2)) else ((m_wrong F 3 (σ.1 29) a2).bind (fun r3 => if r3.1 = 0 then (some (0, r3.2)) else (some (1, r3.2))))) (σ := σ) (p := p) h30 hL hp 5 0 F (by omega) (by omega) (fun k hk => absurd hk (Nat.not_lt_zero k))
    have hk0 : k ≠ 0 ∨ k = 0 := by omega
    have hX : ∀ r, m_readsNumber F (nI most) σ = r ↔ lp (m_readsNumber_B27 F (fun a1 => (m_wrong F 2 (a1.1 29) a1).bind (fun r2 => if okB r2.1 = true then some (r2.1, r2.2) else none)) (fun a2 => if (a2.1 32) ≤ nI most then (some (1, a2)) else ((m_wrong F 3 (σ.1 29) a2).bind (fun r3 => if r3.1 = 0 then (some (0, r3.2)) else (some (1, r3.2))))) (nI most) (nI p)) F (nS σ (nI (sv (sB (σ.2 20) L) p 0)) (nI (p + 0))) = r := by
      intro r
      unfold m_readsNumber
      rw [nx_e, ← hself, hdig]
      simp only [ob_s, bI_0]
      rw [if_neg (fun e => e (show 48 ≤ sB (σ.2 20) L p ∧ sB (σ.2 20) L p ≤ 57 from h)), h29]
      rfl
    have hsv := sv_b (B := sB (σ.2 20) L) (p := p) k k3
    have h10 : 10 ^ k ≤ 10 ^ 5 := Nat.pow_le_pow_right (by omega) (by omega)
    have h105 : 10 ^ 5 = 100000 := by decide
    rcases k4 with ⟨k5, k6⟩ | ⟨k5, k6, k7⟩
    · have hk1 : 1 ≤ k := by
        rcases hk0 with h0 | h0
        · omega
        · subst h0; exact absurd h k5
      by_cases hmm : most < sv (sB (σ.2 20) L) p k
      · have : sN (sB (σ.2 20) L) most p (.inl (3, p)) := Or.inr (Or.inl ⟨k, hk1, k2, k3, k5, Or.inl ⟨hmm, rfl⟩⟩)
        rw [sN_u sN_e this]
        refine ⟨nI (sv (sB (σ.2 20) L) p k), nI (p + k), (hX _).mpr ?_⟩
        have e32 : (nS σ (nI (sv (sB (σ.2 20) L) p k)) (nI (p + k))).1 32 = nI (sv (sB (σ.2 20) L) p k) := rfl
        rw [k6, e32, if_neg (fun e => absurd ((ni_le (by omega) (by omega)).mp e) (by omega)), h29]
        rfl
      · have : sN (sB (σ.2 20) L) most p (.inr (p + k, sv (sB (σ.2 20) L) p k)) := Or.inr (Or.inl ⟨k, hk1, k2, k3, k5, Or.inr ⟨by omega, rfl⟩⟩)
        rw [sN_u sN_e this]
        refine (hX _).mpr ?_
        have e32 : (nS σ (nI (sv (sB (σ.2 20) L) p k)) (nI (p + k))).1 32 = nI (sv (sB (σ.2 20) L) p k) := rfl
        rw [k6, e32, if_pos ((ni_le (by omega) (by omega)).mpr (by omega))]
    · subst k6
      have : sN (sB (σ.2 20) L) most p (.inl (2, p + 5)) := by
        refine Or.inr (Or.inr ⟨fun i hi => ?_, rfl⟩)
        by_cases hi5 : i = 5
        · subst hi5; exact k5
        · exact k3 i (by omega)
      rw [sN_u sN_e this]
      refine ⟨nI (sv (sB (σ.2 20) L) p 5), nI (p + 5), (hX _).mpr ?_⟩
      rw [k7]
      rfl
  · have : sN (sB (σ.2 20) L) most p (.inl (1, p)) := Or.inl ⟨h, rfl⟩
    rw [sN_u sN_e this]
    refine ⟨0, nI p, ?_⟩
    unfold m_readsNumber
    rw [nx_e, ← hself, hdig]
    simp only [ob_s, bI_0]
    rw [if_pos (show ¬ (48 ≤ sB (σ.2 20) L p ∧ sB (σ.2 20) L p ≤ 57) from h)]
    rfl
