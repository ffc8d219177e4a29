noncomputable def mkV (P : Nat → Prop) : Nat → Int32
  | 0 => 0
  | k + 1 => @ite _ (P k) (Classical.propDecidable _) (mkV P k ||| ((1 : Int32) <<< (nI k &&& 31))) (mkV P k)
theorem mkV_t {P : Nat → Prop} {k : Nat} (h : P k) : mkV P (k + 1) = mkV P k ||| ((1 : Int32) <<< (nI k &&& 31)) := by rw [mkV]; exact if_pos h
theorem mkV_f {P : Nat → Prop} {k : Nat} (h : ¬ P k) : mkV P (k + 1) = mkV P k := by rw [mkV]; exact if_neg h
theorem or_0 (x : Int32) : x ||| 0 = x := by
  apply bq_ext
  intro i hi
  rw [bq_or, bq_0, Bool.or_false]
theorem mkV_b (P : Nat → Prop) : ∀ k, k ≤ 31 → ∀ i, i < 32 → k ≤ i → bq (mkV P k) i = false
  | 0, _, i, _, _ => bq_0 i
  | k + 1, hk, i, hi, hki => by
    have ih := mkV_b P k (by omega) i hi (by omega)
    by_cases h : P k
    · rw [mkV_t h, bq_set _ (by omega) hi, ih, Bool.false_or]
      exact decide_eq_false (by omega)
    · rw [mkV_f h]; exact ih
/-- what both sides say of a find at a place in a week -/
def MW0 (F : Nat) (τ : XS) (σ : MS) (f af : Nat) (t hd : Int32) (p : Nat) (n : Nat) (G : Prop) : Prop :=
  (∀ ap τ', τ.2.1 0 p = some ap → Kx τ τ' → ∃ b1 τ2 b2 c s, x0_isOpen F af ap (nI n) t τ' = some (b1, τ', 0, 0) ∧ x0_isMeant F af ap (nI n) hd τ' = some (b2, τ2, c, s) ∧ Kx τ' τ2 ∧ c ≤ 1 ∧ s ≤ 6 ∧ (G ↔ ¬ b1 = 0 ∧ ¬ b2 = 0)) ∧
  ∀ σ', Kh σ σ' → (σ'.1 58 = hd ∧ ¬ hd = -1 ∨ σ'.1 58 = -1 ∧ hd = σ.2 40 f) → ∃ b1 b2 σ2, m_isDug F (nI f) (nI p) (nI n) t σ' = some (b1, σ') ∧ m_isMeant F (nI f) (nI p) (nI n) σ' = some (b2, σ2) ∧ Km σ' σ2 ∧ (G ↔ ¬ b1 = 0 ∧ ¬ b2 = 0)
section MAY3
variable {F : Nat} {τ : XS} {σ : MS}
theorem may_x24 (hF : 1000 ≤ F) {f af p a b : Nat} {t hd : Int32} (hb2 : ∀ τ', Kx τ τ' → gI τ' af [20] 2 = some (nI b)) (hbb : b < 10000) (hp : p < 30) {ap : Nat} (hap : τ.2.1 0 p = some ap) {G : Nat → Prop} (hG : ∀ n, MW0 F τ σ f af t hd p n (G n)) (K : Int32 × Int32 × XS → XR Int32) (x4 : Int32) :
    ∀ (fu n : Nat) (τ' : XS), n ≤ b + 1 → a ≤ n → b + 1 - n < fu → Kx τ τ' → (∀ m, a ≤ m → m < n → ¬ G m) → ∃ w τ2 c s, lp (x0_mayOf_B24 F K af t hd x4 (nI p)) fu (0, nI n, τ') = tk c s (K (cI (∃ m, a ≤ m ∧ m ≤ b ∧ G m), w, τ2)) ∧ Kx τ τ2 ∧ c ≤ b + 1 - n ∧ s ≤ 6 * (b + 1 - n) := by
  intro fu
  induction fu with
  | zero => intro n τ' _ _ h; omega
  | succ fu ih =>
    intro n τ' hn han hfu kx hno
    have e0 : τ'.2.1 0 p = some ap := by rw [kx.2.1]; exact hap
    have hone : ∀ τ2, Kx τ τ2 → b + 1 - n ≤ fu → n ≤ b → lp (x0_mayOf_B24 F K af t hd x4 (nI p)) fu (1, nI n + 1, τ2) = K (1, nI n + 1, τ2) := by
      intro τ2 k2 hfu2 hnb
      obtain ⟨fu', rfl⟩ : ∃ fu', fu = fu' + 1 := ⟨fu - 1, by omega⟩
      rw [lp_s]
      simp only [x0_mayOf_B24, hb2 τ2 k2, ob_s, if_neg (show ¬ (1 : Int32) = 0 by decide), ite_self]
    rw [lp_s]
    generalize lp (x0_mayOf_B24 F K af t hd x4 (nI p)) fu = RR at ih hone ⊢
    unfold x0_mayOf_B24
    simp only [hb2 τ' kx, ob_s, Int32.lt_iff_toInt_lt, ni_i (show b < 2147483648 by omega), ni_i (show n < 2147483648 by omega)]
    by_cases hend : n = b + 1
    · rw [if_pos (by omega), show (0 : Int32) = cI (∃ m, a ≤ m ∧ m ≤ b ∧ G m) from (cI_f (fun ⟨m, q1, q2, q3⟩ => hno m q1 (by omega) q3)).symm]
      exact ⟨_, τ', 0, 0, (tk_00 _).symm, kx, by omega, by omega⟩
    rw [if_neg (by omega), if_pos trivial]
    obtain ⟨b1, τ2, b2, c, s, e1, e2, k2, hc, hs, hg⟩ := (hG n).1 ap τ' hap kx
    have kx2 := kx.tr k2
    have hgo : ∀ τ3, Kx τ τ3 → ¬ G n → ∃ w τ2 c s, RR (0, nI n + 1, τ3) = tk c s (K (cI (∃ m, a ≤ m ∧ m ≤ b ∧ G m), w, τ2)) ∧ Kx τ τ2 ∧ c ≤ b + 1 - (n + 1) ∧ s ≤ 6 * (b + 1 - (n + 1)) := by
      intro τ3 k3 hne
      rw [← nI_succ]
      refine ih (n + 1) τ3 (by omega) (by omega) (by omega) k3 (fun m q1 q2 => ?_)
      by_cases hmn : m = n
      · rw [hmn]; exact hne
      · exact hno m q1 (by omega)
    simp only [okI_nI hp (show 30 < 2147483648 by omega), if_true, ni_c (show p < 2147483648 by omega), e0, ob_s, e1, tk_00, e2]
    by_cases c1 : b1 = 0
    · rw [if_pos c1]
      obtain ⟨w, τ4, c', s', q1, q2, q3, q4⟩ := hgo τ' kx (fun q => (hg.mp q).1 c1)
      exact ⟨w, τ4, c', s', q1, q2, by omega, by omega⟩
    · rw [if_neg c1]
      by_cases c2 : b2 = 0
      · rw [if_pos c2]
        obtain ⟨w, τ4, c', s', q1, q2, q3, q4⟩ := hgo τ2 kx2 (fun q => (hg.mp q).2 c2)
        exact ⟨w, τ4, c + c', s + s', by rw [q1, tk_tk], q2, by omega, by omega⟩
      · rw [if_neg c2, hone τ2 kx2 (by omega) (by omega), ← cI_t (show (∃ m, a ≤ m ∧ m ≤ b ∧ G m) from ⟨n, han, by omega, hg.mpr ⟨c1, c2⟩⟩)]
        exact ⟨_, τ2, c, s, rfl, kx2, by omega, by omega⟩
theorem may_x (hF : 1000 ≤ F) (h : R τ σ) {f af a b NP : Nat} {t hd : Int32} (hNP : σ.1 3 = nI NP) (hNPb : NP ≤ 30) (hb1 : ∀ τ', Kx τ τ' → gI τ' af [20] 1 = some (nI a)) (hb2 : ∀ τ', Kx τ τ' → gI τ' af [20] 2 = some (nI b)) (hbb : b < 10000) (hab : a ≤ b) (hab2 : b ≤ a + 19) {G : Nat → Nat → Prop} (hG : ∀ p, p < NP → ∀ n, MW0 F τ σ f af t hd p n (G p n)) {τ0 : XS} (kx0 : Kx τ τ0) :
    ∃ τ2 c s, x0_mayOf F af t hd τ0 = some (mkV (fun p => ∃ m, a ≤ m ∧ m ≤ b ∧ G p m) NP, τ2, c, s) ∧ Kx τ τ2 ∧ c ≤ 20 * NP ∧ s ≤ 120 * NP := by
  have main : ∀ (fu k : Nat) (τ' : XS), k ≤ NP → NP - k < fu → Kx τ τ' → ∃ τ2 c s, lp (x0_mayOf_B6 F af t hd) fu (mkV (fun p => ∃ m, a ≤ m ∧ m ≤ b ∧ G p m) k, nI k, τ') = some (mkV (fun p => ∃ m, a ≤ m ∧ m ≤ b ∧ G p m) NP, τ2, c, s) ∧ Kx τ τ2 ∧ c ≤ 20 * (NP - k) ∧ s ≤ 120 * (NP - k) := by
    intro fu
    induction fu with
    | zero => intro k τ' _ h; omega
    | succ fu ih =>
      intro k τ' hk hfu kx
      have e3 : τ'.1.1 3 = nI NP := by rw [kx.1]; exact h.e3.trans hNP
      rw [lp_s]
      generalize lp (x0_mayOf_B6 F af t hd) fu = RR at ih ⊢
      unfold x0_mayOf_B6
      simp only [e3, Int32.le_iff_toInt_le, ni_i (show k < 2147483648 by omega), ni_i (show NP < 2147483648 by omega)]
      by_cases hend : k = NP
      · subst hend
        rw [if_pos (by omega)]
        exact ⟨τ', 0, 0, rfl, kx, by omega, by omega⟩
      rw [if_neg (by omega), hb1 τ' kx, ob_s]
      obtain ⟨ap, hap, -⟩ := place_r h hNP hNPb (show k < NP by omega)
      obtain ⟨w, τ2, c, s, q1, q2, q3, q4⟩ := may_x24 (a := a) hF hb2 hbb (show k < 30 by omega) hap (hG k (by omega)) (fun a1 => x0_mayOf_87 F RR af t hd (mkV (fun p => ∃ m, a ≤ m ∧ m ≤ b ∧ G p m) k) (nI k) a1.1 a1.2.2) (mkV (fun p => ∃ m, a ≤ m ∧ m ≤ b ∧ G p m) k) F a τ' (by omega) (Nat.le_refl _) (by omega) kx (fun m z1 z2 => by omega)
      obtain ⟨τ3, c', s', r1, r2, r3, r4⟩ := ih (k + 1) τ2 (by omega) (by omega) q2
      refine ⟨τ3, c + c', s + s', ?_, r2, by omega, by omega⟩
      rw [q1]
      unfold x0_mayOf_87
      by_cases cg : ∃ m, a ≤ m ∧ m ≤ b ∧ G k m
      · rw [if_neg (fun e => absurd (e.symm.trans (cI_t cg)) (by decide)), nx_e, ← mkV_t (P := fun p => ∃ m, a ≤ m ∧ m ≤ b ∧ G p m) cg, ← nI_succ, r1, tk_s]
      · rw [if_pos (cI_f cg), or_0, ← mkV_f (P := fun p => ∃ m, a ≤ m ∧ m ≤ b ∧ G p m) cg, ← nI_succ, r1, tk_s]
  obtain ⟨τ2, c, s, q1, q2, q3, q4⟩ := main F 0 τ0 (by omega) (by omega) kx0
  exact ⟨τ2, c, s, q1, q2, by omega, by omega⟩
theorem may_m (hF : 1000 ≤ F) {f af a b NP : Nat} {t hd : Int32} (hf : f < 150) (hNP : σ.1 3 = nI NP) (hNPb : NP ≤ 30) (h1 : σ.2 41 f = nI a) (h2 : σ.2 42 f = nI b) (hbb : b < 10000) (hab : a ≤ b) (hab2 : b ≤ a + 19) {G : Nat → Nat → Prop} (hG : ∀ p, p < NP → ∀ n, MW0 F τ σ f af t hd p n (G p n)) {σ0 : MS} (kh0 : Kh σ σ0) (hh : σ0.1 58 = hd ∧ ¬ hd = -1 ∨ σ0.1 58 = -1 ∧ hd = σ.2 40 f) :
    ∃ σ2, m_mayBe F (nI f) t σ0 = some (mkV (fun p => ∃ m, a ≤ m ∧ m ≤ b ∧ G p m) NP, σ2) ∧ Km σ0 σ2 := by
  have hcond : ∀ σ', Km σ0 σ' → Kh σ σ' ∧ (σ'.1 58 = hd ∧ ¬ hd = -1 ∨ σ'.1 58 = -1 ∧ hd = σ.2 40 f) := by
    intro σ' km
    refine ⟨kh0.tr km, ?_⟩
    rw [km.1]
    exact hh
  unfold m_mayBe
  refine lp_to (fun c => ∃ (k : Nat) (σ' : MS), k ≤ NP ∧ c = (mkV (fun p => ∃ m, a ≤ m ∧ m ≤ b ∧ G p m) k, nI k, σ') ∧ Km σ0 σ') (fun c => NP - cN c.2.1) (fun o => ∃ σ2, o = some (mkV (fun p => ∃ m, a ≤ m ∧ m ≤ b ∧ G p m) NP, σ2) ∧ Km σ0 σ2) ?_ F _ ⟨0, σ0, by omega, rfl, Km.rf⟩ (by show NP - cN 0 < F; omega)
  intro RX c hi ih
  obtain ⟨k, σ', hk, rfl, km⟩ := hi
  obtain ⟨kh, -⟩ := hcond σ' km
  have e3 : σ'.1 3 = nI NP := by rw [kh.1 3 (by decide)]; exact hNP
  unfold m_mayBe_B5
  simp only [e3, Int32.le_iff_toInt_le, ni_i (show k < 2147483648 by omega), ni_i (show NP < 2147483648 by omega)]
  by_cases hend : k = NP
  · subst hend
    rw [if_pos (by omega)]
    exact ⟨σ', rfl, km⟩
  rw [if_neg (by omega)]
  simp only [okI_nI hf (show 150 < 2147483648 by omega), if_true, ni_c (show f < 2147483648 by omega), kh.2 41 (by decide) (by decide) (by decide), h1, nx_e]
  have hfin : ∀ σ3, Km σ0 σ3 → ∃ σ2, RX (mkV (fun p => ∃ m, a ≤ m ∧ m ≤ b ∧ G p m) (k + 1), nI k + 1, σ3) = some (mkV (fun p => ∃ m, a ≤ m ∧ m ≤ b ∧ G p m) NP, σ2) ∧ Km σ0 σ2 := by
    intro σ3 k3
    refine ih _ ⟨k + 1, σ3, by omega, by rw [nI_succ], k3⟩ ?_
    show NP - cN (nI k + 1) < NP - cN (nI k)
    rw [← nI_succ, cN_nI (by omega), cN_nI (by omega)]
    omega
  refine lp_to (B := m_mayBe_B22 F (fun a1 => RX (a1.1, nI k + 1, a1.2.2)) (nI f) t (nI k)) (fun c => ∃ (n : Nat) (mk : Int32) (σ' : MS), n ≤ b + 1 ∧ a ≤ n ∧ c = (mk, nI n, σ') ∧ Km σ0 σ' ∧ ((mk = mkV (fun p => ∃ m, a ≤ m ∧ m ≤ b ∧ G p m) k ∧ ∀ m, a ≤ m → m < n → ¬ G k m) ∨ (mk = mkV (fun p => ∃ m, a ≤ m ∧ m ≤ b ∧ G p m) k ||| ((1 : Int32) <<< (nI k &&& 31)) ∧ ∃ m, a ≤ m ∧ m ≤ b ∧ G k m))) (fun c => b + 1 - cN c.2.1) (fun o => ∃ σ2, o = some (mkV (fun p => ∃ m, a ≤ m ∧ m ≤ b ∧ G p m) NP, σ2) ∧ Km σ0 σ2) ?_ F _ ⟨a, _, σ', by omega, Nat.le_refl _, rfl, km, Or.inl ⟨rfl, fun m q1 q2 => by omega⟩⟩ (by
    show b + 1 - cN (nI a) < F
    rw [cN_nI (by omega)]
    omega)
  clear kh e3 km
  intro RY c hi ih'
  obtain ⟨n, mk, σ', hn, han, rfl, km, hmk⟩ := hi
  obtain ⟨kh, hh'⟩ := hcond σ' km
  unfold m_mayBe_B22
  simp only [okI_nI hf (show 150 < 2147483648 by omega), if_true, ni_c (show f < 2147483648 by omega), kh.2 42 (by decide) (by decide) (by decide), h2, Int32.lt_iff_toInt_lt, ni_i (show b < 2147483648 by omega), ni_i (show n < 2147483648 by omega)]
  rcases hmk with ⟨rfl, hno⟩ | ⟨rfl, hex⟩
  · by_cases hend2 : n = b + 1
    · rw [if_pos (by omega), ← mkV_f (P := fun p => ∃ m, a ≤ m ∧ m ≤ b ∧ G p m) (fun ⟨m, q1, q2, q3⟩ => hno m q1 (by omega) q3)]
      exact hfin σ' km
    rw [if_neg (by omega), bq_t _ (show k < 31 by omega), mkV_b _ k (by omega) k (by omega) (Nat.le_refl _), if_neg (show ¬ false = true by simp), if_pos (rfl : (0 : Int32) = 0)]
    obtain ⟨b1, b2, σ2, e1, e2, k2, hg⟩ := (hG k (by omega) n).2 σ' kh hh'
    have hm : b + 1 - cN (nI n + 1) < b + 1 - cN (nI n) := by rw [← nI_succ, cN_nI (by omega), cN_nI (by omega)]; omega
    have hgo : ∀ σ3, Km σ0 σ3 → ¬ G k n → ∃ σ2, RY (mkV (fun p => ∃ m, a ≤ m ∧ m ≤ b ∧ G p m) k, nI n + 1, σ3) = some (mkV (fun p => ∃ m, a ≤ m ∧ m ≤ b ∧ G p m) NP, σ2) ∧ Km σ0 σ2 := by
      intro σ3 k3 hne
      refine ih' _ ⟨n + 1, _, σ3, by omega, by omega, by rw [nI_succ], k3, Or.inl ⟨rfl, fun m q1 q2 => ?_⟩⟩ hm
      by_cases hmn : m = n
      · rw [hmn]; exact hne
      · exact hno m q1 (by omega)
    rw [e1]
    simp only [ob_s, e2]
    by_cases c1 : b1 = 0
    · rw [if_pos c1]
      exact hgo σ' km (fun q => (hg.mp q).1 c1)
    · rw [if_neg c1]
      by_cases c2 : b2 = 0
      · rw [if_pos c2]
        exact hgo σ2 (km.tr k2) (fun q => (hg.mp q).2 c2)
      · rw [if_neg c2, nx_e]
        exact ih' _ ⟨n + 1, _, σ2, by omega, by omega, by rw [nI_succ n], km.tr k2, Or.inr ⟨rfl, n, han, by omega, hg.mpr ⟨c1, c2⟩⟩⟩ hm
  · rw [bq_t _ (show k < 31 by omega), bq_set _ (show k < 31 by omega) (show k < 32 by omega), show decide (k = k) = true from decide_eq_true rfl, Bool.or_true, if_pos (rfl : true = true), if_neg (show ¬ (1 : Int32) = 0 by decide), ite_self, ← mkV_t (P := fun p => ∃ m, a ≤ m ∧ m ≤ b ∧ G p m) hex]
    exact hfin σ' km
end MAY3
