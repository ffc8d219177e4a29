def AQ (P : Pl) (q : Nat) (f : Nat → Int32) : Prop := ∃ V, P q = some (.inr (19, V)) ∧ Fa V f
theorem AQ.mono {P P' : Pl} {q : Nat} {f : Nat → Int32} (h : AQ P q f) (hp : PM M0 P P') : AQ P' q f := by
  obtain ⟨V, h1, h2, h3, h4, h5, h6⟩ := h
  obtain ⟨V', g1, g2⟩ := hp.keep h1
  exact ⟨V', g1, (g2 0 rfl).trans h2, (g2 1 rfl).trans h3, (g2 2 rfl).trans h4, (g2 3 rfl).trans h5, (g2 4 rfl).trans h6⟩
theorem lp_1 {α ρ : Type} (B : (α → Option ρ) → α → Option ρ) {F : Nat} (hF : 1000 ≤ F) (a : α) : ∃ R, lp B F a = B R a := by
  obtain ⟨F', rfl⟩ : ∃ F', F = F' + 1 := ⟨F - 1, by omega⟩
  exact ⟨_, lp_s⟩
section EVAL3
variable {F : Nat} {τ : XS} {σ : MS}
def nQ (τ : XS) (σ : MS) (v : Int32 × XS × Nat × Nat) (w : Int32 × MS) : Prop := ∃ b τ' σ', v = (b, τ', 0, 0) ∧ w = (b, σ') ∧ Kp τ σ τ' σ'
/-- one condition, asked on both sides -/
theorem holds_j (hF : 1000 ≤ F) {N : Nat} {SA : Nat → Nat} {τ' : XS} {σ' : MS} (hK : Kp τ σ τ' σ') (hS : Sk SA N τ' σ') {q : Nat} (hq : AQ τ.2.2.2.1 q (σ.2 39)) {cl i j : Nat} (hi : i < 20) (hj : j < 10) (hc : CE τ.2.2.2.1 cl (σ.2 28) (σ.2 33 (10 * i + j)) (σ.2 34 (10 * i + j)) i (10 * i + j)) :
    ∃ b τ2 σ2, x10_holds F cl q τ' = some (b, τ2, 0, 0) ∧ m_isTrue F (nI (10 * i + j)) σ' = some (b, σ2) ∧ Kp τ σ τ2 σ2 ∧ Sk SA N τ2 σ2 := by
  obtain ⟨k1, k2, k3, k4, k5, k6, k7⟩ := id hK
  obtain ⟨V, v1, v2⟩ := hq.mono k4
  rw [← k7 39 (by decide) (by decide)] at v2
  obtain ⟨b, V', st, e1, e2, e3⟩ := hc F τ' σ' q V hF k4.a v1 v2 (fun k _ _ => by rw [k7 28 (by decide) (by decide)]) (by rw [k7 33 (by decide) (by decide)]) (by rw [k7 34 (by decide) (by decide)])
  refine ⟨b, _, _, e1, e3, (hK.xq v1 e2).sT st, fun z hz => ?_⟩
  obtain ⟨f, f1, f2⟩ := hS z hz
  refine ⟨f, (if_neg (fun e => ?_)).trans f1, f2⟩
  rw [e, v1] at f1
  cases f1
theorem numberOf_j (hF : 1000 ≤ F) (h : Rh τ σ) {q : Nat} (hq : AQ τ.2.2.2.1 q (σ.2 39)) (x1 x3 : Int32) : ∃ v w, x0_numberOf F x1 q x3 τ = some v ∧ m_numberBy F x1 x3 σ = some w ∧ nQ τ σ v w := by
  obtain ⟨N, SA, hD⟩ := rd' h
  obtain ⟨hN, hNb, hSA, hr⟩ := id hD
  have e14 : τ.1.1 14 = nI N := h.e14.trans hN
  have hq0 : ∀ τ' : XS, PM M0 τ.2.2.2.1 τ'.2.2.2.1 → gI τ' q [19] 0 = some (σ.2 39 0) := by
    intro τ' hp
    obtain ⟨V, v1, v2⟩ := hq.mono hp
    exact gI_of v1 (List.mem_singleton.mpr rfl) v2.1
  unfold x0_numberOf m_numberBy
  rw [hq0 τ (PM.rf _), show okI 0 5 = true from rfl, if_pos rfl]
  obtain ⟨v, w, s1, s2, τ1, σ1, rfl, rfl, hK1, hS1⟩ := strikes_j hF h hD (σ.2 39 0)
  rw [ob_s, s1, show (0 : Int32).toNatClampNeg = 0 from rfl, s2]
  simp only [ob_s, tk_00, nx_e, hK1.1, e14, hK1.2.2.2.2.2.1, hN]
  refine lp_join (BX := x0_numberOf_B16 F x1 q x3) (BM := m_numberBy_B17 F x1 x3) (fun a b => ∃ (k : Nat) (τ' : XS) (σ' : MS), k ≤ N ∧ a = (nI k - 1, τ') ∧ b = (nI k - 1, σ') ∧ Kp τ σ τ' σ' ∧ Sk SA N τ' σ') (fun a _ => (a.1.toInt + 1).toNat) (nQ τ σ) ?_ F _ _ ⟨N, τ1, _, Nat.le_refl _, rfl, rfl, hK1, hS1⟩ (by
    show ((nI N - 1).toInt + 1).toNat < F
    rw [cN_dn N (by omega)]
    omega)
  intro RX RM a b hi ih
  obtain ⟨k, τ', σ', hk, rfl, rfl, hK, hS⟩ := hi
  unfold x0_numberOf_B16 m_numberBy_B17
  cases k with
  | zero =>
    rw [dn_0, if_pos (show (-1 : Int32) < 0 by decide), if_pos (show (-1 : Int32) < 0 by decide)]
    exact ⟨_, _, rfl, rfl, x3, τ', σ', rfl, rfl, hK⟩
  | succ k =>
    have ih2 : ∀ τ2 σ2, Kp τ σ τ2 σ2 → Sk SA N τ2 σ2 → ∃ v w, RX (nI k - 1, τ2) = some v ∧ RM (nI k - 1, σ2) = some w ∧ nQ τ σ v w := by
      intro τ2 σ2 q1 q2
      refine ih _ _ ⟨k, τ2, σ2, by omega, rfl, rfl, q1, q2⟩ ?_
      show ((nI k - 1).toInt + 1).toNat < ((nI (k + 1) - 1).toInt + 1).toNat
      rw [cN_dn k (by omega), cN_dn (k + 1) (by omega)]
      omega
    clear ih
    rw [dn_s, if_neg (dn_n (by omega)), if_neg (dn_n (by omega))]
    obtain ⟨a, ca, g, ha, ⟨cm, hcm, hcmb⟩, hrd, hcl⟩ := hr k (by omega)
    rw [hcm, cN_nI (by omega)] at hcl
    obtain ⟨r1, r2, r3, r4, r5, r6, r7, -⟩ := hrd τ' hK.2.2.2.1
    have e6 : τ'.2.1 6 k = some a := by rw [hK.2.1]; exact ha
    simp only [okI_nI (show k < 20 by omega) (show 20 < 2147483648 by omega), if_true, ni_c (show k < 2147483648 by omega), e6, ob_s, r1, hq0 τ' hK.2.2.2.1, x9_isInForce_e r3 r4, tk_00, bI_0, ite_not, dn_m, r2, nx_e, hK.2.2.2.2.2.2 31 (by decide) (by decide), hcm]
    by_cases cf : (σ.2 29 k).toInt ≤ (σ.2 39 0).toInt ∧ (σ.2 39 0).toInt ≤ (σ.2 30 k).toInt
    · rw [if_pos cf]
      refine lp_join (BX := x0_numberOf_B54 F (fun a1 => RX (nI k - 1, a1.2)) x1 q x3 (nI k) a) (BM := m_numberBy_B31 F (fun a1 => RM (nI k - 1, a1.2)) x1 x3 (nI k)) (fun a b => ∃ (j : Nat) (τ' : XS) (σ' : MS), j ≤ cm ∧ a = (nI j - 1, τ') ∧ b = (nI j - 1, σ') ∧ Kp τ σ τ' σ' ∧ Sk SA N τ' σ') (fun a _ => (a.1.toInt + 1).toNat) (nQ τ σ) ?_ F _ _ ⟨cm, τ', σ', by omega, rfl, rfl, hK, hS⟩ (by
        show ((nI cm - 1).toInt + 1).toNat < F
        rw [cN_dn cm (by omega)]
        omega)
      clear e6 r1 r2 r3 r4 r5 r6 r7 hK hS
      intro RX' RM' a' b' hi ih'
      obtain ⟨j, τ', σ', hj, rfl, rfl, hK, hS⟩ := hi
      unfold x0_numberOf_B54 m_numberBy_B31
      cases j with
      | zero =>
        rw [dn_0, if_pos (show (-1 : Int32) < 0 by decide), if_pos (show (-1 : Int32) < 0 by decide)]
        exact ih2 τ' σ' hK hS
      | succ j =>
        have hgo : ∀ τ2 σ2, Kp τ σ τ2 σ2 → Sk SA N τ2 σ2 → ∃ v w, RX' (nI j - 1, τ2) = some v ∧ RM' (nI j - 1, σ2) = some w ∧ nQ τ σ v w := by
          intro τ2 σ2 q1 q2
          refine ih' _ _ ⟨j, τ2, σ2, by omega, rfl, rfl, q1, q2⟩ ?_
          show ((nI j - 1).toInt + 1).toNat < ((nI (j + 1) - 1).toInt + 1).toNat
          rw [cN_dn j (by omega), cN_dn (j + 1) (by omega)]
          omega
        rw [dn_s, if_neg (dn_n (by omega)), if_neg (dn_n (by omega))]
        obtain ⟨r1, r2, r3, r4, r5, r6, r7, -⟩ := hrd τ' hK.2.2.2.1
        obtain ⟨k1, k2, k3, k4, k5, k6, k7⟩ := id hK
        obtain ⟨cl, hgl, hx, hce, hrl⟩ := hcl j (by omega)
        obtain ⟨l1, l2, l3, l4⟩ := hrl τ' k4
        obtain ⟨f, hf, hfe⟩ := hS k (by omega)
        have y1 : (10 : Int32) * nI k + nI j = nI (10 * k + j) := by rw [show (10 : Int32) = nI 10 from rfl, ni_mul, ni_add]
        have z0 : (0 : Int32).toNatClampNeg = 0 := rfl
        rw [show okI 0 5 = true from rfl, if_pos (rfl : true = true), z0, k7 39 (by decide) (by decide), m_isForce_e (show k < 20 by omega), k7 29 (by decide) (by decide), k7 30 (by decide) (by decide)]
        simp only [ob_s, bI_0, ite_not, if_pos cf, nx_e, y1, r5, r7, okI_nI (show j < 10 by omega) (show 10 < 2147483648 by omega), if_true, ni_c (show j < 2147483648 by omega), hgl, l2, okI_nI (show 10 * k + j < 200 by omega) (show 200 < 2147483648 by omega), ni_c (show 10 * k + j < 2147483648 by omega), k7 32 (by decide) (by decide), r6, gA_of hf, hfe j (by omega), l1, dn_m]
        refine jn_ite (fun c2 => ?_) (fun _ => hgo τ' σ' hK hS)
        refine jn_ite (fun c3 => ?_) (fun _ => hgo τ' σ' hK hS)
        obtain ⟨b, τ2, σ2, e1, e2, hK2, hS2⟩ := holds_j hF hK hS hq (show k < 20 by omega) (show j < 10 by omega) hce
        obtain ⟨-, t2, -, -, t5, -, t7, -⟩ := hrd τ2 hK2.2.2.2.1
        obtain ⟨-, -, u3, -⟩ := hrl τ2 hK2.2.2.2.1
        simp only [e1, e2, ob_s, tk_00, t5, t7, okI_nI (show j < 10 by omega) (show 10 < 2147483648 by omega), if_true, ni_c (show j < 2147483648 by omega), hgl, u3, hK2.2.2.2.2.2.2 35 (by decide) (by decide)]
        exact jn_ite (fun _ => hgo τ2 σ2 hK2 hS2) (fun _ => ⟨_, _, rfl, rfl, _, τ2, σ2, rfl, rfl, hK2⟩)
    · rw [if_neg cf]
      have hm : lp (m_numberBy_B31 F (fun a1 => RM (nI k - 1, a1.2)) x1 x3 (nI k)) F (nI cm - 1, σ') = RM (nI k - 1, σ') := by
        obtain ⟨R', hR'⟩ := lp_1 (m_numberBy_B31 F (fun a1 => RM (nI k - 1, a1.2)) x1 x3 (nI k)) hF (nI cm - 1, σ')
        rw [hR']
        unfold m_numberBy_B31
        have z0 : (0 : Int32).toNatClampNeg = 0 := rfl
        simp only [show okI 0 5 = true from rfl, if_true, z0, hK.2.2.2.2.2.2 39 (by decide) (by decide), m_isForce_e (show k < 20 by omega), hK.2.2.2.2.2.2 29 (by decide) (by decide), hK.2.2.2.2.2.2 30 (by decide) (by decide), ob_s, bI_0, ite_not, if_neg cf, ite_self]
      rw [hm]
      exact ih2 τ' σ' hK hS
theorem numberings_j (hF : 1000 ≤ F) (h : Rh τ σ) {q : Nat} (hq : AQ τ.2.2.2.1 q (σ.2 39)) : ∃ v w, x0_numberings F q τ = some v ∧ m_numberings F σ = some w ∧ nQ τ σ v w := by
  obtain ⟨N, SA, hD⟩ := rd' h
  obtain ⟨hN, hNb, hSA, hr⟩ := id hD
  have e14 : τ.1.1 14 = nI N := h.e14.trans hN
  have hq0 : ∀ τ' : XS, PM M0 τ.2.2.2.1 τ'.2.2.2.1 → gI τ' q [19] 0 = some (σ.2 39 0) := by
    intro τ' hp
    obtain ⟨V, v1, v2⟩ := hq.mono hp
    exact gI_of v1 (List.mem_singleton.mpr rfl) v2.1
  unfold x0_numberings m_numberings
  rw [hq0 τ (PM.rf _), show okI 0 5 = true from rfl, if_pos rfl]
  obtain ⟨v, w, s1, s2, τ1, σ1, rfl, rfl, hK1, hS1⟩ := strikes_j hF h hD (σ.2 39 0)
  rw [ob_s, s1, show (0 : Int32).toNatClampNeg = 0 from rfl, s2]
  simp only [ob_s, tk_00]
  refine lp_join (BX := x0_numberings_B12 F (fun a1 => if a1.1 = 0 then (some (15, a1.2.2, 0, 0)) else (some (a1.1, a1.2.2, 0, 0))) q) (BM := m_numberings_B14 F (fun a1 => if a1.1 = 0 then (some (15, a1.2.2)) else (some (a1.1, a1.2.2)))) (fun a b => ∃ (k : Nat) (s : Int32) (τ' : XS) (σ' : MS), k ≤ N ∧ a = (s, nI k, τ') ∧ b = (s, nI k, σ') ∧ Kp τ σ τ' σ' ∧ Sk SA N τ' σ') (fun a _ => N - cN a.2.1) (nQ τ σ) ?_ F _ _ ⟨0, 0, τ1, σ1, by omega, rfl, rfl, hK1, hS1⟩ (by show N - cN 0 < F; omega)
  intro RX RM a b hi ih
  obtain ⟨k, s, τ', σ', hk, rfl, rfl, hK, hS⟩ := hi
  unfold x0_numberings_B12 m_numberings_B14
  simp only [hK.1, e14, hK.2.2.2.2.2.1, hN, Int32.le_iff_toInt_le, ni_i (show k < 2147483648 by omega), ni_i (show N < 2147483648 by omega)]
  refine jn_ite (fun _ => jn_ite (fun _ => ⟨_, _, rfl, rfl, 15, τ', σ', rfl, rfl, hK⟩) (fun _ => ⟨_, _, rfl, rfl, s, τ', σ', rfl, rfl, hK⟩)) (fun c0 => ?_)
  have ih2 : ∀ s2 τ2 σ2, Kp τ σ τ2 σ2 → Sk SA N τ2 σ2 → ∃ v w, RX (s2, nI k + 1, τ2) = some v ∧ RM (s2, nI k + 1, σ2) = some w ∧ nQ τ σ v w := by
    intro s2 τ2 σ2 q1 q2
    refine ih _ _ ⟨k + 1, s2, τ2, σ2, by omega, by rw [nI_succ], by rw [nI_succ], q1, q2⟩ ?_
    show N - cN (nI k + 1) < N - cN (nI k)
    rw [← nI_succ, cN_nI (by omega), cN_nI (by omega)]
    omega
  clear ih
  obtain ⟨a, ca, g, ha, ⟨cm, hcm, hcmb⟩, hrd, hcl⟩ := hr k (by omega)
  rw [hcm, cN_nI (by omega)] at hcl
  obtain ⟨r1, r2, r3, r4, r5, r6, r7, -⟩ := hrd τ' hK.2.2.2.1
  have e6 : τ'.2.1 6 k = some a := by rw [hK.2.1]; exact ha
  simp only [okI_nI (show k < 20 by omega) (show 20 < 2147483648 by omega), if_true, ni_c (show k < 2147483648 by omega), e6, ob_s, r1, hq0 τ' hK.2.2.2.1, x9_isInForce_e r3 r4, tk_00, bI_0, ite_not]
  by_cases cf : (σ.2 29 k).toInt ≤ (σ.2 39 0).toInt ∧ (σ.2 39 0).toInt ≤ (σ.2 30 k).toInt
  · rw [if_pos cf]
    refine lp_join (BX := x0_numberings_B46 F (fun a1 => RX (a1.1, nI k + 1, a1.2.2)) q (nI k) a) (BM := m_numberings_B24 F (fun a1 => RM (a1.1, nI k + 1, a1.2.2)) (nI k)) (fun a b => ∃ (j : Nat) (s : Int32) (τ' : XS) (σ' : MS), j ≤ cm ∧ a = (s, nI j, τ') ∧ b = (s, nI j, σ') ∧ Kp τ σ τ' σ' ∧ Sk SA N τ' σ') (fun a _ => cm - cN a.2.1) (nQ τ σ) ?_ F _ _ ⟨0, s, τ', σ', by omega, rfl, rfl, hK, hS⟩ (by show cm - cN 0 < F; omega)
    clear e6 r1 r2 r3 r4 r5 r6 r7 hK hS
    intro RX' RM' a' b' hi ih'
    obtain ⟨j, s, τ', σ', hj, rfl, rfl, hK, hS⟩ := hi
    unfold x0_numberings_B46 m_numberings_B24
    obtain ⟨r1, r2, r3, r4, r5, r6, r7, -⟩ := hrd τ' hK.2.2.2.1
    obtain ⟨k1, k2, k3, k4, k5, k6, k7⟩ := id hK
    simp only [okI_nI (show k < 20 by omega) (show 20 < 2147483648 by omega), if_true, ni_c (show k < 2147483648 by omega), r2, ob_s, k7 31 (by decide) (by decide), hcm, Int32.le_iff_toInt_le, ni_i (show cm < 2147483648 by omega), ni_i (show j < 2147483648 by omega)]
    refine jn_ite (fun _ => ih2 s τ' σ' hK hS) (fun c1 => ?_)
    have hgo : ∀ s2 τ2 σ2, Kp τ σ τ2 σ2 → Sk SA N τ2 σ2 → ∃ v w, RX' (s2, nI j + 1, τ2) = some v ∧ RM' (s2, nI j + 1, σ2) = some w ∧ nQ τ σ v w := by
      intro s2 τ2 σ2 q1 q2
      refine ih' _ _ ⟨j + 1, s2, τ2, σ2, by omega, by rw [nI_succ], by rw [nI_succ], q1, q2⟩ ?_
      show cm - cN (nI j + 1) < cm - cN (nI j)
      rw [← nI_succ, cN_nI (by omega), cN_nI (by omega)]
      omega
    obtain ⟨cl, hgl, hx, hce, hrl⟩ := hcl j (by omega)
    obtain ⟨l1, l2, l3, l4⟩ := hrl τ' k4
    obtain ⟨f, hf, hfe⟩ := hS k (by omega)
    have y1 : (10 : Int32) * nI k + nI j = nI (10 * k + j) := by rw [show (10 : Int32) = nI 10 from rfl, ni_mul, ni_add]
    have z0 : (0 : Int32).toNatClampNeg = 0 := rfl
    rw [show okI 0 5 = true from rfl, if_pos (rfl : true = true), z0, k7 39 (by decide) (by decide), m_isForce_e (show k < 20 by omega), k7 29 (by decide) (by decide), k7 30 (by decide) (by decide)]
    simp only [ob_s, bI_0, ite_not, if_pos cf, nx_e, y1, r5, r7, okI_nI (show j < 10 by omega) (show 10 < 2147483648 by omega), if_true, ni_c (show j < 2147483648 by omega), hgl, l2, okI_nI (show 10 * k + j < 200 by omega) (show 200 < 2147483648 by omega), ni_c (show 10 * k + j < 2147483648 by omega), k7 32 (by decide) (by decide), r6, gA_of hf, hfe j (by omega), l1]
    refine jn_ite (fun c2 => ?_) (fun _ => hgo s τ' σ' hK hS)
    refine jn_ite (fun c3 => ?_) (fun _ => hgo s τ' σ' hK hS)
    obtain ⟨b, τ2, σ2, e1, e2, hK2, hS2⟩ := holds_j hF hK hS hq (show k < 20 by omega) (show j < 10 by omega) hce
    obtain ⟨-, t2, -, -, t5, -, t7, -⟩ := hrd τ2 hK2.2.2.2.1
    obtain ⟨-, -, u3, -⟩ := hrl τ2 hK2.2.2.2.1
    simp only [e1, e2, ob_s, tk_00, t5, t7, okI_nI (show j < 10 by omega) (show 10 < 2147483648 by omega), if_true, ni_c (show j < 2147483648 by omega), hgl, u3, hK2.2.2.2.2.2.2 35 (by decide) (by decide)]
    exact jn_ite (fun _ => hgo s τ2 σ2 hK2 hS2) (fun _ => hgo _ τ2 σ2 hK2 hS2)
  · rw [if_neg cf]
    have hm : lp (m_numberings_B24 F (fun a1 => RM (a1.1, nI k + 1, a1.2.2)) (nI k)) F (s, 0, σ') = RM (s, nI k + 1, σ') := by
      obtain ⟨R', hR'⟩ := lp_1 (m_numberings_B24 F (fun a1 => RM (a1.1, nI k + 1, a1.2.2)) (nI k)) hF (s, 0, σ')
      rw [hR']
      unfold m_numberings_B24
      have z0 : (0 : Int32).toNatClampNeg = 0 := rfl
      simp only [okI_nI (show k < 20 by omega) (show 20 < 2147483648 by omega), ni_c (show k < 2147483648 by omega), show okI 0 5 = true from rfl, if_true, z0, hK.2.2.2.2.2.2 39 (by decide) (by decide), m_isForce_e (show k < 20 by omega), hK.2.2.2.2.2.2 29 (by decide) (by decide), hK.2.2.2.2.2.2 30 (by decide) (by decide), ob_s, bI_0, ite_not, if_neg cf, ite_self]
    rw [hm]
    exact ih2 s τ' σ' hK hS
end EVAL3
