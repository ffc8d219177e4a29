theorem bq_n {v : Int32} (h : ∀ i, i < 32 → 30 ≤ i → bq v i = false) : ∃ n, n < 1073741824 ∧ v = nI n := by
  refine ⟨v.toBitVec.toNat, ?_, ?_⟩
  · have := Nat.lt_pow_two_of_testBit (x := v.toBitVec.toNat) (n := 30) (fun i hi => by
      by_cases h32 : i < 32
      · exact h i h32 hi
      · exact BitVec.getLsbD_of_ge v.toBitVec i (by omega))
    exact this
  · apply Int32.toBitVec_inj.1
    show v.toBitVec = BitVec.ofNat 32 v.toBitVec.toNat
    rw [BitVec.ofNat_toNat, BitVec.setWidth_eq]
theorem pf_sq (a b : Nat) : 4 * (a * b) ≤ (a + b) * (a + b) := by
  rcases Nat.le_total a b with h | h
  · obtain ⟨d, rfl⟩ : ∃ d, b = a + d := ⟨b - a, by omega⟩
    simp only [Nat.mul_add, Nat.add_mul]
    have := Nat.mul_comm a d
    omega
  · obtain ⟨d, rfl⟩ : ∃ d, a = b + d := ⟨a - b, by omega⟩
    simp only [Nat.mul_add, Nat.add_mul]
    have := Nat.mul_comm b d
    omega
def MV (F : Nat) (τ : XS) (σ : MS) (NP f : Nat) (t hd v : Int32) : Prop := ∃ af, τ.2.1 7 f = some af ∧ (∀ τ0, Kx τ τ0 → ∃ τ2 c s, x0_mayOf F af t hd τ0 = some (v, τ2, c, s) ∧ Kx τ τ2 ∧ c ≤ 20 * NP ∧ s ≤ 120 * NP) ∧
  (∀ σ0, Kh σ σ0 → (σ0.1 58 = hd ∧ ¬ hd = -1 ∨ σ0.1 58 = -1 ∧ hd = σ.2 40 f) → ∃ σ2, m_mayBe F (nI f) t σ0 = some (v, σ2) ∧ Km σ0 σ2) ∧ ∃ n, n < 1073741824 ∧ v = nI n
section MAY4
variable {F : Nat} {τ : XS} {σ : MS}
theorem may_v (hF : 1000 ≤ F) (h : R τ σ) {NF NP f : Nat} (hNF : σ.1 57 = nI NF) (hNFb : NF ≤ 150) (hf : f < NF) (hNP : σ.1 3 = nI NP) (hNPb : NP ≤ 30) (t hd : Int32) : ∃ v, MV F τ σ NP f t hd v := by
  obtain ⟨ND, hND, hNDb⟩ := h.dg.1
  obtain ⟨af, haf, hr, -⟩ := finds_r h hNF hNFb hf
  have hfi := h.fi.2.2
  rw [hNF, cN_nI (by omega)] at hfi
  obtain ⟨i1, i2, i3, i4, -⟩ := hfi f hf
  obtain ⟨a, ab, ha, ai⟩ := nn_of i1
  obtain ⟨b, bb, hb, bi⟩ := nn_of (x := σ.2 42 f) (by omega)
  have hQ : ∀ p, ∃ Q : Nat → Prop, p < NP → ∀ n ap, τ.2.1 0 p = some ap → (∀ τ', Kx τ τ' → ∃ τ2 c s, x0_isMeant F af ap (nI n) hd τ' = some (cI (Q n), τ2, c, s) ∧ Kx τ' τ2 ∧ c ≤ 1 ∧ s ≤ 6) ∧ ∀ σ', Kh σ σ' → (σ'.1 58 = hd ∧ ¬ hd = -1 ∨ σ'.1 58 = -1 ∧ hd = σ.2 40 f) → ∃ σ2, m_isMeant F (nI f) (nI p) (nI n) σ' = some (cI (Q n), σ2) ∧ Km σ' σ2 := by
    intro p
    by_cases hp : p < NP
    · obtain ⟨ap, hap, -⟩ := place_r h hNP hNPb hp
      obtain ⟨Q, hQ⟩ := Classical.axiomOfChoice (fun n : Nat => meant_w hF h hNF hNFb hf hNP hNPb hp haf hap (nI n) hd)
      refine ⟨Q, fun _ n ap' hap' => ?_⟩
      rw [hap] at hap'
      cases hap'
      exact hQ n
    · exact ⟨fun _ => True, fun z => absurd z hp⟩
  obtain ⟨Q, hQ⟩ := Classical.axiomOfChoice hQ
  have hG : ∀ p, p < NP → ∀ n, MW0 F τ σ f af t hd p n (opP σ ND f p (nI n) t ∧ Q p n) := by
    intro p hp n
    obtain ⟨ap, hap, -⟩ := place_r h hNP hNPb hp
    obtain ⟨q1, q2⟩ := hQ p hp n ap hap
    have hcc : ∀ {P : Prop}, P ↔ ¬ cI P = 0 := by
      intro P
      rw [cI_0]
      exact Classical.not_not.symm
    refine ⟨fun ap' τ' hap' kx => ?_, fun σ' kh hh => ?_⟩
    · rw [hap] at hap'
      cases hap'
      obtain ⟨τ2, c, s, e1, e2, e3, e4⟩ := q1 τ' kx
      exact ⟨_, τ2, _, c, s, open_x hF h hND hNDb hNF hNFb hf hNP hNPb hp haf hap (nI n) t kx, e1, e2, e3, e4, and_congr hcc hcc⟩
    · obtain ⟨σ2, e1, e2⟩ := q2 σ' kh hh
      exact ⟨_, _, σ2, open_m hF h hND hNDb (by omega) hNP hNPb hp (nI n) t kh, e1, e2, and_congr hcc hcc⟩
  refine ⟨mkV (fun p => ∃ m, a ≤ m ∧ m ≤ b ∧ (opP σ ND f p (nI m) t ∧ Q p m)) NP, af, haf, fun τ0 kx => ?_, fun σ0 kh hh => ?_, ?_⟩
  · exact may_x hF h hNP hNPb (fun τ' k => by rw [← ha]; exact (hr τ' k.2.2.1).2.1) (fun τ' k => by rw [← hb]; exact (hr τ' k.2.2.1).2.2.1) (by omega) (by omega) (by omega) hG kx
  · exact may_m hF (by omega) hNP hNPb ha hb (by omega) (by omega) (by omega) hG kh hh
  · exact bq_n (fun i h1 h2 => mkV_b _ NP (by omega) i h1 (by omega))
theorem op_may (hF : 1000 ≤ F) (h : R τ σ) (x1 x2 : Int32) : Op σ (x0_may F x1 x2 τ) (m_may F x1 x2 σ) := by
  obtain ⟨NF, hNF, hNFb⟩ := h.fi.1
  obtain ⟨NP, hNP, hNPb⟩ := h.pl.1
  have e16 : τ.1.1 16 = nI NF := h.e16.trans hNF
  have h58 : σ.1 58 = -1 := h.sc.2.2.2.2.2.2.2.2
  simp only [x0_may, m_may, x0_in_e, m_isFind_e, x0_isWeek_e, m_isWeek_e, ob_s, bI_0, ite_not, e16, hNF, ni_i (show NF < 2147483648 by omega)]
  refine Op.ite (fun c1 => ?_) (fun _ => Op.same h rfl rfl)
  by_cases c2 : 0 ≤ x2.toInt ∧ x2.toInt < 10000
  · rw [if_pos c2, if_pos (show 0 ≤ x2.toInt ∧ x2.toInt ≤ 9999 by omega)]
    obtain ⟨f, fb, rfl, fi⟩ := nn_of c1.1
    rw [ni_i fb] at c1
    obtain ⟨v, af, haf, mx, mm, -⟩ := may_v hF h hNF hNFb (show f < NF by omega) hNP hNPb x2 (σ.2 40 f)
    obtain ⟨af', haf', hr, -⟩ := finds_r h hNF hNFb (show f < NF by omega)
    rw [haf] at haf'
    cases haf'
    obtain ⟨r0, -, -, -, -, -, -, -, r8⟩ := hr τ (PM.rf _)
    simp only [okI_nI (show f < 150 by omega) (show 150 < 2147483648 by omega), if_true, ni_c fb, haf, ob_s, r8, r0]
    refine Op.ite (fun _ => Op.same h rfl rfl) (fun _ => ?_)
    obtain ⟨τ2, c, s, q1, q2, q3, q4⟩ := mx τ (Kx.rf h.h)
    obtain ⟨σ2, q5, q6⟩ := mm σ Kh.rf (Or.inr ⟨h58, rfl⟩)
    rw [q1, q5]
    simp only [ob_s, tk_s, Nat.add_zero]
    exact h.op q2 q6 rfl rfl (by omega) (by omega)
  · rw [if_neg c2, if_neg (show ¬ (0 ≤ x2.toInt ∧ x2.toInt ≤ 9999) by omega)]
    exact Op.same h rfl rfl
/-- an operation that asks of every find at every place -/
theorem R.op2 {X : XR Int32} {Y : Option (Int32 × MS)} {τ' : XS} {σ' : MS} {v : Int32} {c s NF NP : Nat} (h : R τ σ) (hNF : σ.1 57 = nI NF) (hNFb : NF ≤ 150) (hNP : σ.1 3 = nI NP) (hNPb : NP ≤ 30) (kx : Kx τ τ') (km : Km σ σ') (hx : X = some (v, τ', c, s)) (hy : Y = some (v, σ')) (hc : c ≤ 20 * NP * NF) (hs : s ≤ 120 * NP * NF) : Op σ X Y := by
  have hsq := pf_sq NP NF
  have e : pf σ = NP + NF := by
    unfold pf
    rw [hNF, hNP, cN_nI (by omega), cN_nI (by omega)]
  have e1 : 20 * NP * NF = 20 * (NP * NF) := Nat.mul_assoc _ _ _
  have e2 : 120 * NP * NF = 120 * (NP * NF) := Nat.mul_assoc _ _ _
  refine ⟨_, _, hx, hy, rfl, h.kk kx km, ?_, ?_, ?_⟩
  · unfold pf
    rw [km.1]
    exact Nat.le_succ _
  · show c ≤ 2000 + 5 * (pf σ * pf σ)
    rw [e]
    omega
  · show s ≤ 10000 + 30 * (pf σ * pf σ)
    rw [e]
    omega
theorem sure_m (hF : 1000 ≤ F) {NF NP : Nat} (hNF : σ.1 57 = nI NF) (hNFb : NF ≤ 150) {t : Int32} {hd V : Nat → Int32} (hV : ∀ f, f < NF → MV F τ σ NP f t (hd f) (V f)) {σ0 : MS} (kh : Kh σ σ0) (hh : ∀ f, f < NF → (σ0.1 58 = hd f ∧ ¬ hd f = -1 ∨ σ0.1 58 = -1 ∧ hd f = σ.2 40 f)) : ∃ σ2, m_sureOf F t σ0 = some (nI (cn (fun f => (σ.2 48 f).toInt ≤ t.toInt ∧ bcV (V f) = 1) NF), σ2) ∧ Km σ0 σ2 := by
  unfold m_sureOf
  refine lp_to (fun c => ∃ (k : Nat) (σ' : MS), k ≤ NF ∧ c = (nI (cn (fun f => (σ.2 48 f).toInt ≤ t.toInt ∧ bcV (V f) = 1) k), nI k, σ') ∧ Km σ0 σ') (fun c => NF - cN c.2.1) (fun o => ∃ σ2, o = some (nI (cn (fun f => (σ.2 48 f).toInt ≤ t.toInt ∧ bcV (V f) = 1) NF), σ2) ∧ Km σ0 σ2) ?_ F _ ⟨0, σ0, by omega, rfl, Km.rf⟩ (by show NF - cN 0 < F; omega)
  intro RX c hi ih
  obtain ⟨k, σ', hk, rfl, km⟩ := hi
  have kh' := kh.tr km
  have e57 : σ'.1 57 = nI NF := by rw [kh'.1 57 (by decide)]; exact hNF
  unfold m_sureOf_B4
  simp only [e57, Int32.le_iff_toInt_le, ni_i (show k < 2147483648 by omega), ni_i (show NF < 2147483648 by omega)]
  by_cases hend : k = NF
  · subst hend
    rw [if_pos (by omega)]
    exact ⟨σ', rfl, km⟩
  rw [if_neg (by omega)]
  obtain ⟨af, haf, mx, mm, n, nb, hn⟩ := hV k (by omega)
  obtain ⟨σ2, q1, q2⟩ := mm σ' kh' (by rw [km.1]; exact hh k (by omega))
  have hm : NF - cN (nI k + 1) < NF - cN (nI k) := by rw [← nI_succ, cN_nI (by omega), cN_nI (by omega)]; omega
  have hob := one_bit nb
  rw [← hn] at hob
  simp only [okI_nI (show k < 150 by omega) (show 150 < 2147483648 by omega), if_true, ni_c (show k < 2147483648 by omega), kh'.2 48 (by decide) (by decide) (by decide), q1, ob_s, Int32.add_zero]
  have ht : (σ.2 48 k).toInt ≤ t.toInt ∧ bcV (V k) = 1 → ∀ σ3, Km σ0 σ3 → ∃ σ2, RX (nI (cn (fun f => (σ.2 48 f).toInt ≤ t.toInt ∧ bcV (V f) = 1) k) + 1, nI k + 1, σ3) = some (nI (cn (fun f => (σ.2 48 f).toInt ≤ t.toInt ∧ bcV (V f) = 1) NF), σ2) ∧ Km σ0 σ2 := by
    intro hp σ3 k3
    exact ih _ ⟨k + 1, σ3, by omega, by rw [nI_succ k, cn_t (P := fun f => (σ.2 48 f).toInt ≤ t.toInt ∧ bcV (V f) = 1) hp], k3⟩ hm
  have hf : ¬ ((σ.2 48 k).toInt ≤ t.toInt ∧ bcV (V k) = 1) → ∀ σ3, Km σ0 σ3 → ∃ σ2, RX (nI (cn (fun f => (σ.2 48 f).toInt ≤ t.toInt ∧ bcV (V f) = 1) k), nI k + 1, σ3) = some (nI (cn (fun f => (σ.2 48 f).toInt ≤ t.toInt ∧ bcV (V f) = 1) NF), σ2) ∧ Km σ0 σ2 := by
    intro hp σ3 k3
    exact ih _ ⟨k + 1, σ3, by omega, by rw [nI_succ k, cn_f (P := fun f => (σ.2 48 f).toInt ≤ t.toInt ∧ bcV (V f) = 1) hp], k3⟩ hm
  by_cases c1 : (σ.2 48 k).toInt ≤ t.toInt
  · rw [if_pos c1]
    by_cases c2 : V k = 0
    · rw [if_pos c2]
      exact hf (fun q => (hob.mp q.2).1 c2) σ2 (km.tr q2)
    · rw [if_neg c2]
      by_cases c3 : V k &&& (V k - 1) = 0
      · rw [if_pos c3]
        exact ht ⟨c1, hob.mpr ⟨c2, c3⟩⟩ σ2 (km.tr q2)
      · rw [if_neg c3]
        exact hf (fun q => c3 (hob.mp q.2).2) σ2 (km.tr q2)
  · rw [if_neg c1]
    exact hf (fun q => c1 q.1) σ' km
end MAY4
