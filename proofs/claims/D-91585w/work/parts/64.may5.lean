section MAY5
variable {F : Nat} {τ : XS} {σ : MS}
theorem mul_s (B : Nat) {n k : Nat} (h : k < n) : B * (n - k) = B * (n - (k + 1)) + B := by
  rw [show n - k = (n - (k + 1)) + 1 by omega, Nat.mul_succ]
theorem sure_x (hF : 1000 ≤ F) (h : R τ σ) {NF NP : Nat} (hNF : σ.1 57 = nI NF) (hNFb : NF ≤ 150) {t : Int32} {V : Nat → Int32} (hV : ∀ f, f < NF → MV F τ σ NP f t (σ.2 40 f) (V f)) : ∀ (fu k : Nat) (τ' : XS), k ≤ NF → NF - k < fu → Kx τ τ' →
    ∃ τ2 c s, lp (x0_sure_B13 F t) fu (nI (cn (fun f => (σ.2 48 f).toInt ≤ t.toInt ∧ bcV (V f) = 1) k), nI k, τ') = some (nI (cn (fun f => (σ.2 48 f).toInt ≤ t.toInt ∧ bcV (V f) = 1) NF), τ2, c, s) ∧ Kx τ τ2 ∧ c ≤ 20 * NP * (NF - k) ∧ s ≤ 120 * NP * (NF - k) := by
  intro fu
  induction fu with
  | zero => intro k τ' _ h; omega
  | succ fu ih =>
    intro k τ' hk hfu kx
    have e16 : τ'.1.1 16 = nI NF := by rw [kx.1]; exact h.e16.trans hNF
    rw [lp_s]
    generalize lp (x0_sure_B13 F t) fu = RR at ih ⊢
    unfold x0_sure_B13
    simp only [e16, Int32.le_iff_toInt_le, ni_i (show k < 2147483648 by omega), ni_i (show NF < 2147483648 by omega)]
    by_cases hend : k = NF
    · subst hend
      rw [if_pos (by omega)]
      exact ⟨τ', 0, 0, rfl, kx, Nat.zero_le _, Nat.zero_le _⟩
    rw [if_neg (by omega)]
    obtain ⟨af, haf, mx, -, -⟩ := hV k (by omega)
    obtain ⟨af', haf', hr, -⟩ := finds_r h hNF hNFb (show k < NF by omega)
    rw [haf] at haf'
    cases haf'
    obtain ⟨r0, -, -, -, -, -, -, -, r8⟩ := hr τ' kx.2.2.1
    have e7 : τ'.2.1 7 k = some af := by rw [kx.2.1]; exact haf
    obtain ⟨τ1, c, s, q1, q2, q3, q4⟩ := mx τ' kx
    have m1 := mul_s (20 * NP) (show k < NF by omega)
    have m2 := mul_s (120 * NP) (show k < NF by omega)
    simp only [okI_nI (show k < 150 by omega) (show 150 < 2147483648 by omega), if_true, ni_c (show k < 2147483648 by omega), e7, ob_s, r8, r0, q1, bc_e, Int32.add_zero, Int32.lt_iff_toInt_lt]
    by_cases c1 : t.toInt < (σ.2 48 k).toInt
    · rw [if_pos c1, ← nI_succ k, ← cn_f (P := fun f => (σ.2 48 f).toInt ≤ t.toInt ∧ bcV (V f) = 1) (k := k) (fun q => by have := q.1; omega)]
      obtain ⟨τ2, c', s', p1, p2, p3, p4⟩ := ih (k + 1) τ' (by omega) (by omega) kx
      exact ⟨τ2, c', s', p1, p2, by omega, by omega⟩
    · rw [if_neg c1]
      obtain ⟨τ2, c', s', p1, p2, p3, p4⟩ := ih (k + 1) τ1 (by omega) (by omega) q2
      refine ⟨τ2, c + c', s + s', ?_, p2, by omega, by omega⟩
      by_cases c2 : bcV (V k) = 1
      · rw [if_pos c2, ← nI_succ k, ← cn_t (P := fun f => (σ.2 48 f).toInt ≤ t.toInt ∧ bcV (V f) = 1) (k := k) ⟨by omega, c2⟩, p1, tk_s]
      · rw [if_neg c2, ← nI_succ k, ← cn_f (P := fun f => (σ.2 48 f).toInt ≤ t.toInt ∧ bcV (V f) = 1) (k := k) (fun q => c2 q.2), p1, tk_s]
theorem op_sure (hF : 1000 ≤ F) (h : R τ σ) (x1 : Int32) : Op σ (x0_sure F x1 τ) (m_sure F x1 σ) := by
  obtain ⟨NF, hNF, hNFb⟩ := h.fi.1
  obtain ⟨NP, hNP, hNPb⟩ := h.pl.1
  have h58 : σ.1 58 = -1 := h.sc.2.2.2.2.2.2.2.2
  simp only [x0_sure, m_sure, x0_isWeek_e, m_isWeek_e, ob_s, bI_0, ite_not]
  by_cases c2 : 0 ≤ x1.toInt ∧ x1.toInt < 10000
  · rw [if_pos c2, if_pos (show 0 ≤ x1.toInt ∧ x1.toInt ≤ 9999 by omega)]
    obtain ⟨V, hV⟩ := Classical.axiomOfChoice (r := fun (f : Nat) (v : Int32) => f < NF → MV F τ σ NP f x1 (σ.2 40 f) v) (fun f => by
      by_cases hf : f < NF
      · obtain ⟨v, hv⟩ := may_v hF h hNF hNFb hf hNP hNPb x1 (σ.2 40 f)
        exact ⟨v, fun _ => hv⟩
      · exact ⟨0, fun z => absurd z hf⟩)
    obtain ⟨τ2, c, s, p1, p2, p3, p4⟩ := sure_x hF h hNF hNFb hV F 0 τ (by omega) (by omega) (Kx.rf h.h)
    obtain ⟨σ2, q1, q2⟩ := sure_m (hd := fun f => σ.2 40 f) hF hNF hNFb hV Kh.rf (fun f hf => Or.inr ⟨h58, rfl⟩)
    rw [show lp (x0_sure_B13 F x1) F (0, 0, τ) = _ from p1, q1]
    exact h.op2 hNF hNFb hNP hNPb p2 q2 rfl rfl p3 p4
  · rw [if_neg c2, if_neg (show ¬ (0 ≤ x1.toInt ∧ x1.toInt ≤ 9999) by omega)]
    exact Op.same h rfl rfl
theorem nowh_j (hF : 1000 ≤ F) (h : R τ σ) {NF NP : Nat} (hNF : σ.1 57 = nI NF) (hNFb : NF ≤ 150) {x1 t : Int32} {V : Nat → Int32} (hV : ∀ f, f < NF → MV F τ σ NP f t (σ.2 40 f) (V f)) : ∀ (fu k : Nat) (n : Int32) (τ' : XS) (σ' : MS), k ≤ NF → NF - k < fu → Kx τ τ' → Km σ σ' →
    ∃ r τ2 c s σ2, lp (x0_nowhere_B18 F x1 t) fu (n, nI k, τ') = some (r, τ2, c, s) ∧ lp (m_nowhere_B18 F x1 t) fu (n, nI k, σ') = some (r, σ2) ∧ Kx τ τ2 ∧ Km σ σ2 ∧ c ≤ 20 * NP * (NF - k) ∧ s ≤ 120 * NP * (NF - k) := by
  have h58 : σ.1 58 = -1 := h.sc.2.2.2.2.2.2.2.2
  intro fu
  induction fu with
  | zero => intro k n τ' σ' _ h; omega
  | succ fu ih =>
    intro k n τ' σ' hk hfu kx km
    have e16 : τ'.1.1 16 = nI NF := by rw [kx.1]; exact h.e16.trans hNF
    have e57 : σ'.1 57 = nI NF := by rw [km.1]; exact hNF
    rw [lp_s, lp_s]
    generalize lp (x0_nowhere_B18 F x1 t) fu = RR at ih ⊢
    generalize lp (m_nowhere_B18 F x1 t) fu = RM at ih ⊢
    unfold x0_nowhere_B18 m_nowhere_B18
    simp only [e16, e57, Int32.le_iff_toInt_le, ni_i (show k < 2147483648 by omega), ni_i (show NF < 2147483648 by omega)]
    by_cases hend : k = NF
    · subst hend
      rw [if_pos (by omega), if_pos (by omega)]
      exact ⟨_, τ', 0, 0, σ', rfl, rfl, kx, km, Nat.zero_le _, Nat.zero_le _⟩
    rw [if_neg (show ¬ (NF : Int) ≤ (k : Int) by omega), if_neg (show ¬ (NF : Int) ≤ (k : Int) by omega)]
    obtain ⟨af, haf, mx, mm, -⟩ := hV k (by omega)
    obtain ⟨af', haf', hr, -⟩ := finds_r h hNF hNFb (show k < NF by omega)
    rw [haf] at haf'
    cases haf'
    obtain ⟨r0, -, -, -, -, -, -, -, r8⟩ := hr τ' kx.2.2.1
    have e7 : τ'.2.1 7 k = some af := by rw [kx.2.1]; exact haf
    obtain ⟨τ1, c, s, q1, q2, q3, q4⟩ := mx τ' kx
    have khm : Kh σ σ' := Kh.rf.tr km
    obtain ⟨σ1, q5, q6⟩ := mm σ' khm (Or.inr ⟨by rw [km.1]; exact h58, rfl⟩)
    have m1 := mul_s (20 * NP) (show k < NF by omega)
    have m2 := mul_s (120 * NP) (show k < NF by omega)
    simp only [okI_nI (show k < 150 by omega) (show 150 < 2147483648 by omega), if_true, ni_c (show k < 2147483648 by omega), e7, ob_s, r8, r0, q1, km.2 48 (by decide) (by decide) (by decide), q5]
    by_cases c1 : t < σ.2 48 k
    · rw [if_pos c1, if_pos c1, ← nI_succ k]
      obtain ⟨r, τ2, c', s', σ2, p1, p2, p3, p4, p5, p6⟩ := ih (k + 1) n τ' σ' (by omega) (by omega) kx km
      exact ⟨r, τ2, c', s', σ2, p1, p2, p3, p4, by omega, by omega⟩
    · rw [if_neg c1, if_neg c1]
      by_cases c2 : V k = 0
      · rw [if_pos c2, if_pos c2]
        by_cases c3 : n = x1
        · rw [if_pos c3, if_pos c3]
          exact ⟨_, τ1, c, s, σ1, by rw [tk_s]; rfl, rfl, q2, km.tr q6, by omega, by omega⟩
        · rw [if_neg c3, if_neg c3, ← nI_succ k]
          obtain ⟨r, τ2, c', s', σ2, p1, p2, p3, p4, p5, p6⟩ := ih (k + 1) (n + 1) τ1 σ1 (by omega) (by omega) q2 (km.tr q6)
          exact ⟨r, τ2, c + c', s + s', σ2, by rw [p1, tk_s], p2, p3, p4, by omega, by omega⟩
      · rw [if_neg c2, if_neg c2, ← nI_succ k]
        obtain ⟨r, τ2, c', s', σ2, p1, p2, p3, p4, p5, p6⟩ := ih (k + 1) n τ1 σ1 (by omega) (by omega) q2 (km.tr q6)
        exact ⟨r, τ2, c + c', s + s', σ2, by rw [p1, tk_s], p2, p3, p4, by omega, by omega⟩
theorem op_nowhere (hF : 1000 ≤ F) (h : R τ σ) (x1 x2 : Int32) : Op σ (x0_nowhere F x1 x2 τ) (m_nowhere F x1 x2 σ) := by
  obtain ⟨NF, hNF, hNFb⟩ := h.fi.1
  obtain ⟨NP, hNP, hNPb⟩ := h.pl.1
  simp only [x0_nowhere, m_nowhere, x0_isWeek_e, m_isWeek_e, ob_s, bI_0, ite_not]
  refine Op.ite (fun _ => Op.same h rfl rfl) (fun _ => ?_)
  by_cases c2 : 0 ≤ x2.toInt ∧ x2.toInt < 10000
  · rw [if_pos c2, if_pos (show 0 ≤ x2.toInt ∧ x2.toInt ≤ 9999 by omega)]
    obtain ⟨V, hV⟩ := Classical.axiomOfChoice (r := fun (f : Nat) (v : Int32) => f < NF → MV F τ σ NP f x2 (σ.2 40 f) v) (fun f => by
      by_cases hf : f < NF
      · obtain ⟨v, hv⟩ := may_v hF h hNF hNFb hf hNP hNPb x2 (σ.2 40 f)
        exact ⟨v, fun _ => hv⟩
      · exact ⟨0, fun z => absurd z hf⟩)
    obtain ⟨r, τ2, c, s, σ2, p1, q1, p2, q2, p3, p4⟩ := nowh_j hF h hNF hNFb hV F 0 0 τ σ (by omega) (by omega) (Kx.rf h.h) Km.rf
    rw [show lp (x0_nowhere_B18 F x1 x2) F (0, 0, τ) = _ from p1, show lp (m_nowhere_B18 F x1 x2) F (0, 0, σ) = _ from q1]
    exact h.op2 hNF hNFb hNP hNPb p2 q2 rfl rfl p3 p4
  · rw [if_neg c2, if_neg (show ¬ (0 ≤ x2.toInt ∧ x2.toInt ≤ 9999) by omega)]
    exact Op.same h rfl rfl
theorem beside_x (hF : 1000 ≤ F) (h : R τ σ) {NF NP : Nat} (hNF : σ.1 57 = nI NF) (hNFb : NF ≤ 150) {x1 : Int32} {V : Nat → Int32} (hV : ∀ f, f < NF → MV F τ σ NP f (σ.1 2) x1 (V f)) : ∀ (fu k : Nat) (τ' : XS), k ≤ NF → NF - k < fu → Kx τ τ' →
    ∃ τ2 c s, lp (x0_beside_B15 F x1) fu (nI (cn (fun f => (σ.2 48 f).toInt ≤ (σ.1 2).toInt ∧ bcV (V f) = 1) k), nI k, τ') = some (nI (cn (fun f => (σ.2 48 f).toInt ≤ (σ.1 2).toInt ∧ bcV (V f) = 1) NF), τ2, c, s) ∧ Kx τ τ2 ∧ c ≤ 20 * NP * (NF - k) ∧ s ≤ 120 * NP * (NF - k) := by
  have hfi := h.fi.2.2
  rw [hNF, cN_nI (by omega)] at hfi
  intro fu
  induction fu with
  | zero => intro k τ' _ h; omega
  | succ fu ih =>
    intro k τ' hk hfu kx
    have e16 : τ'.1.1 16 = nI NF := by rw [kx.1]; exact h.e16.trans hNF
    have e2 : τ'.1.1 2 = σ.1 2 := by rw [kx.1]; exact h.e2
    rw [lp_s]
    generalize lp (x0_beside_B15 F x1) fu = RR at ih ⊢
    unfold x0_beside_B15
    simp only [e16, e2, Int32.le_iff_toInt_le, ni_i (show k < 2147483648 by omega), ni_i (show NF < 2147483648 by omega)]
    by_cases hend : k = NF
    · subst hend
      rw [if_pos (by omega)]
      exact ⟨τ', 0, 0, rfl, kx, Nat.zero_le _, Nat.zero_le _⟩
    rw [if_neg (by omega)]
    obtain ⟨-, -, -, -, -, -, i7⟩ := hfi k (by omega)
    obtain ⟨af, haf, mx, -, -⟩ := hV k (by omega)
    have e7 : τ'.2.1 7 k = some af := by rw [kx.2.1]; exact haf
    obtain ⟨τ1, c, s, q1, q2, q3, q4⟩ := mx τ' kx
    have m1 := mul_s (20 * NP) (show k < NF by omega)
    have m2 := mul_s (120 * NP) (show k < NF by omega)
    simp only [okI_nI (show k < 150 by omega) (show 150 < 2147483648 by omega), if_true, ni_c (show k < 2147483648 by omega), e7, ob_s, q1, bc_e, Int32.add_zero]
    obtain ⟨τ2, c', s', p1, p2, p3, p4⟩ := ih (k + 1) τ1 (by omega) (by omega) q2
    refine ⟨τ2, c + c', s + s', ?_, p2, by omega, by omega⟩
    by_cases c2 : bcV (V k) = 1
    · rw [if_pos c2, ← nI_succ k, ← cn_t (P := fun f => (σ.2 48 f).toInt ≤ (σ.1 2).toInt ∧ bcV (V f) = 1) (k := k) ⟨i7, c2⟩, p1, tk_s]
    · rw [if_neg c2, ← nI_succ k, ← cn_f (P := fun f => (σ.2 48 f).toInt ≤ (σ.1 2).toInt ∧ bcV (V f) = 1) (k := k) (fun q => c2 q.2), p1, tk_s]
theorem op_beside (hF : 1000 ≤ F) (h : R τ σ) (x1 : Int32) : Op σ (x0_beside F x1 τ) (m_beside F x1 σ) := by
  obtain ⟨NF, hNF, hNFb⟩ := h.fi.1
  obtain ⟨NP, hNP, hNPb⟩ := h.pl.1
  have h58 : σ.1 58 = -1 := h.sc.2.2.2.2.2.2.2.2
  simp only [x0_beside, m_beside, x0_in_e, m_in_e, ob_s, bI_0, ite_not, nx_e, li_0, li_7, li_8]
  by_cases c2 : 0 ≤ x1.toInt ∧ x1.toInt < 8
  · rw [if_pos c2, if_pos (show 0 ≤ x1.toInt ∧ x1.toInt ≤ 7 by omega)]
    obtain ⟨V, hV⟩ := Classical.axiomOfChoice (r := fun (f : Nat) (v : Int32) => f < NF → MV F τ σ NP f (σ.1 2) x1 v) (fun f => by
      by_cases hf : f < NF
      · obtain ⟨v, hv⟩ := may_v hF h hNF hNFb hf hNP hNPb (σ.1 2) x1
        exact ⟨v, fun _ => hv⟩
      · exact ⟨0, fun z => absurd z hf⟩)
    obtain ⟨τ2, c, s, p1, p2, p3, p4⟩ := beside_x hF h hNF hNFb hV F 0 τ (by omega) (by omega) (Kx.rf h.h)
    have hx : ¬ x1 = -1 := by rw [i_eq, li_m1]; omega
    have kh : Kh σ (sS σ 58 x1) := ⟨fun k hk => if_neg hk, fun _ _ _ _ => rfl⟩
    obtain ⟨σ2, q1, q2⟩ := sure_m (hd := fun _ => x1) hF hNF hNFb hV kh (fun f hf => Or.inl ⟨rfl, hx⟩)
    rw [show lp (x0_beside_B15 F x1) F (0, 0, τ) = _ from p1, show (sS σ 58 x1).1 2 = σ.1 2 from rfl, q1]
    simp only [ob_s]
    refine h.op2 hNF hNFb hNP hNPb p2 (σ' := sS σ2 58 (-1)) ⟨?_, q2.2⟩ rfl rfl p3 p4
    funext q
    show (if q = 58 then (-1 : Int32) else σ2.1 q) = σ.1 q
    by_cases hq : q = 58
    · rw [if_pos hq, hq, h58]
    · rw [if_neg hq, q2.1]
      exact if_neg hq
  · rw [if_neg c2, if_neg (show ¬ (0 ≤ x1.toInt ∧ x1.toInt ≤ 7) by omega)]
    exact Op.same h rfl rfl
end MAY5
