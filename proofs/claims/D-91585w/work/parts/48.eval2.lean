def RD (τ : XS) (σ : MS) (N : Nat) (SA : Nat → Nat) : Prop := σ.1 44 = nI N ∧ N ≤ 20 ∧ (∀ i j, i < N → j < N → SA i = SA j → i = j) ∧ ∀ i, i < N → ∃ (a ca : Nat) (g : Nat → Option Nat), τ.2.1 6 i = some a ∧ cB (σ.2 31 i) 10 ∧
    (∀ τ' : XS, PM M0 τ.2.2.2.1 τ'.2.2.2.1 → isC τ' a [9] = true ∧ gI τ' a [9] 2 = some (σ.2 31 i) ∧ gI τ' a [9] 3 = some (σ.2 29 i) ∧ gI τ' a [9] 4 = some (σ.2 30 i) ∧ gN τ' a [9] 0 = some ca ∧ gN τ' a [9] 1 = some (SA i) ∧ gB τ' ca 14 = some (10, g) ∧ ∃ f, τ'.2.2.2.1 (SA i) = some (.inl (2, 10, .inl f))) ∧
    ∀ j, j < cN (σ.2 31 i) → ∃ cl, g j = some cl ∧ (σ.2 32 (10 * i + j) = 120 → 0 ≤ (σ.2 35 (10 * i + j)).toInt ∧ (σ.2 35 (10 * i + j)).toInt ≤ 19 ∧ 0 ≤ (σ.2 36 (10 * i + j)).toInt ∧ (σ.2 36 (10 * i + j)).toInt ≤ 9) ∧ CE τ.2.2.2.1 cl (σ.2 28) (σ.2 33 (10 * i + j)) (σ.2 34 (10 * i + j)) i (10 * i + j) ∧
      ∀ τ' : XS, PM M0 τ.2.2.2.1 τ'.2.2.2.1 → isC τ' cl [10] = true ∧ gI τ' cl [10] 0 = some (σ.2 32 (10 * i + j)) ∧ gI τ' cl [10] 1 = some (σ.2 35 (10 * i + j)) ∧ gI τ' cl [10] 2 = some (σ.2 36 (10 * i + j))
theorem cN_dn (k : Nat) (h : k < 2147483648) : (nI k - 1).toInt = (k : Int) - 1 := by
  rw [i_sub (by rw [ni_i h, li_1]; omega) (by rw [ni_i h, li_1]; omega), ni_i h, li_1]
section EVAL2
variable {F : Nat} {τ : XS} {σ : MS}
theorem rd' (h : Rh τ σ) : ∃ N SA, RD τ σ N SA := rd h
def skQ (τ : XS) (σ : MS) (SA : Nat → Nat) (N : Nat) (v : Int32 × XS × Nat × Nat) (w : Int32 × MS) : Prop := ∃ τ' σ', v = (0, τ', 0, 0) ∧ w = (0, σ') ∧ Kp τ σ τ' σ' ∧ Sk SA N τ' σ'
theorem strikes_j (hF : 1000 ≤ F) (h : Rh τ σ) {N : Nat} {SA : Nat → Nat} (hD : RD τ σ N SA) (x1 : Int32) : ∃ v w, x0_strikes F x1 τ = some v ∧ m_strikes F x1 σ = some w ∧ skQ τ σ SA N v w := by
  obtain ⟨hN, hNb, hSA, hr⟩ := hD
  have e14 : τ.1.1 14 = nI N := h.e14.trans hN
  unfold x0_strikes m_strikes
  obtain ⟨b1, τ1, x1e, hK1, hz1⟩ := clear_x (σ := σ) hF hNb e14 hSA h.wf (fun i hi => by
    obtain ⟨a, ca, g, q1, q2, q3, q4⟩ := hr i hi
    exact ⟨a, q1, fun τ' hp => ⟨(q3 τ' hp).2.2.2.2.2.1, (q3 τ' hp).2.2.2.2.2.2.2⟩⟩) (fun a1 => nx ((a1.2.1.1 14) - 1 : Int32) (fun y1 => lp (x0_strikes_B49 F x1) F (y1, a1.2))) x1
  obtain ⟨b2, g1, m1e, hg1⟩ := clear_m (σ := σ) hF hN hNb (fun a1 => nx ((a1.2.1 44) - 1 : Int32) (fun y1 => lp (m_strikes_B33 F x1) F (y1, a1.2))) x1
  rw [x1e, m1e]
  have hK2 : Kp τ σ τ1 (aS σ 37 g1) := by
    obtain ⟨k1, k2, k3, k4, k5, k6, k7⟩ := hK1
    exact ⟨k1, k2, k3, k4, k5, rfl, fun j a b => if_neg a⟩
  have hS2 : Sk SA N τ1 (aS σ 37 g1) := by
    intro i hi
    obtain ⟨f, q1, q2⟩ := hz1 i hi
    exact ⟨f, q1, fun j hj => (q2 j hj).trans (hg1 _ (by omega)).symm⟩
  simp only [nx_e, hK1.1, e14, show (aS σ 37 g1).1 44 = nI N from hN]
  refine lp_join (BX := x0_strikes_B49 F x1) (BM := m_strikes_B33 F x1) (fun a b => ∃ (k : Nat) (τ' : XS) (σ' : MS), k ≤ N ∧ a = (nI k - 1, τ') ∧ b = (nI k - 1, σ') ∧ Kp τ σ τ' σ' ∧ Sk SA N τ' σ') (fun a _ => (a.1.toInt + 1).toNat) (skQ τ σ SA N) ?_ F _ _ ⟨N, τ1, _, Nat.le_refl _, rfl, rfl, hK2, hS2⟩ (by
    show ((nI N - 1).toInt + 1).toNat < F
    rw [cN_dn N (by omega)]
    omega)
  intro RX RM a b hi ih
  obtain ⟨k, τ', σ', hk, rfl, rfl, hK, hS⟩ := hi
  unfold x0_strikes_B49 m_strikes_B33
  cases k with
  | zero =>
    rw [dn_0, if_pos (show (-1 : Int32) < 0 by decide), if_pos (show (-1 : Int32) < 0 by decide)]
    exact ⟨_, _, rfl, rfl, τ', σ', rfl, rfl, hK, hS⟩
  | succ k =>
    have ih2 : ∀ τ2 σ2, Kp τ σ τ2 σ2 → Sk SA N τ2 σ2 → ∃ v w, RX (nI k - 1, τ2) = some v ∧ RM (nI k - 1, σ2) = some w ∧ skQ τ σ SA N v w := by
      intro τ2 σ2 q1 q2
      refine ih _ _ ⟨k, τ2, σ2, by omega, rfl, rfl, q1, q2⟩ ?_
      show ((nI k - 1).toInt + 1).toNat < ((nI (k + 1) - 1).toInt + 1).toNat
      rw [cN_dn k (by omega), cN_dn (k + 1) (by omega)]
      omega
    clear ih
    rw [dn_s, if_neg (dn_n (by omega)), if_neg (dn_n (by omega))]
    obtain ⟨a, ca, g, ha, ⟨cm, hcm, hcmb⟩, hrd, hcl⟩ := hr k (by omega)
    rw [hcm, cN_nI (by omega)] at hcl
    obtain ⟨r1, r2, r3, r4, r5, r6, r7, -⟩ := hrd τ' hK.2.2.2.1
    have e6 : τ'.2.1 6 k = some a := by rw [hK.2.1]; exact ha
    simp only [okI_nI (show k < 20 by omega) (show 20 < 2147483648 by omega), if_true, ni_c (show k < 2147483648 by omega), e6, ob_s, r1, x9_isInForce_e r3 r4, tk_00, bI_0, ite_not, dn_m]
    have m31 : ∀ σ2, Kp τ σ τ' σ2 → σ2.2 31 k = nI cm := fun σ2 q => by rw [q.2.2.2.2.2.2 31 (by decide) (by decide), hcm]
    by_cases cf : (σ.2 29 k).toInt ≤ x1.toInt ∧ x1.toInt ≤ (σ.2 30 k).toInt
    · rw [if_pos cf]
      refine lp_join (BX := x0_strikes_B74 F (fun a1 => RX (nI k - 1, a1.2)) x1 (nI k) a) (BM := m_strikes_B39 F (fun a1 => RM (nI k - 1, a1.2)) x1 (nI k)) (fun a b => ∃ (j : Nat) (τ' : XS) (σ' : MS), j ≤ cm ∧ a = (nI j, τ') ∧ b = (nI j, σ') ∧ Kp τ σ τ' σ' ∧ Sk SA N τ' σ') (fun a _ => cm - cN a.1) (skQ τ σ SA N) ?_ F _ _ ⟨0, τ', σ', by omega, rfl, rfl, hK, hS⟩ (by show cm - cN 0 < F; omega)
      clear e6 r1 r2 r3 r4 r5 r6 r7 m31 hK hS
      intro RX' RM' a' b' hi ih'
      obtain ⟨j, τ', σ', hj, rfl, rfl, hK, hS⟩ := hi
      unfold x0_strikes_B74 m_strikes_B39
      obtain ⟨r1, r2, r3, r4, r5, r6, r7, -⟩ := hrd τ' hK.2.2.2.1
      obtain ⟨k1, k2, k3, k4, k5, k6, k7⟩ := id hK
      simp only [okI_nI (show k < 20 by omega) (show 20 < 2147483648 by omega), if_true, ni_c (show k < 2147483648 by omega), r2, ob_s, k7 31 (by decide) (by decide), hcm, Int32.le_iff_toInt_le, ni_i (show cm < 2147483648 by omega), ni_i (show j < 2147483648 by omega), ni_i (show k < 2147483648 by omega)]
      refine jn_ite (fun _ => ih2 τ' σ' hK hS) (fun c1 => ?_)
      have hgo : ∀ τ2 σ2, Kp τ σ τ2 σ2 → Sk SA N τ2 σ2 → ∃ v w, RX' (nI j + 1, τ2) = some v ∧ RM' (nI j + 1, σ2) = some w ∧ skQ τ σ SA N v w := by
        intro τ2 σ2 q1 q2
        refine ih' _ _ ⟨j + 1, τ2, σ2, by omega, by rw [nI_succ], by rw [nI_succ], q1, q2⟩ ?_
        show cm - cN (nI j + 1) < cm - cN (nI j)
        rw [← nI_succ, cN_nI (by omega), cN_nI (by omega)]
        omega
      obtain ⟨cl, hgl, hx, -, hrl⟩ := hcl j (by omega)
      obtain ⟨l1, l2, l3, l4⟩ := hrl τ' k4
      obtain ⟨f, hf, hfe⟩ := hS k (by omega)
      rw [m_isForce_e (show k < 20 by omega), k7 29 (by decide) (by decide), k7 30 (by decide) (by decide)]
      have y1 : (10 : Int32) * nI k + nI j = nI (10 * k + j) := by rw [show (10 : Int32) = nI 10 from rfl, ni_mul, ni_add]
      simp only [ob_s, bI_0, ite_not, if_pos cf, nx_e, y1, r5, r7, okI_nI (show j < 10 by omega) (show 10 < 2147483648 by omega), if_true, ni_c (show j < 2147483648 by omega), hgl, l2, okI_nI (show 10 * k + j < 200 by omega) (show 200 < 2147483648 by omega), ni_c (show 10 * k + j < 2147483648 by omega), k7 32 (by decide) (by decide), r6, gA_of hf, hfe j (by omega), l3, k7 35 (by decide) (by decide), k7 36 (by decide) (by decide)]
      refine jn_ite (fun c2 => ?_) (fun _ => hgo τ' σ' hK hS)
      obtain ⟨x1', x2', x3', x4'⟩ := hx c2
      obtain ⟨n, nb, hn, ni⟩ := nn_of x1'
      obtain ⟨m, mb, hm, mi⟩ := nn_of x3'
      refine jn_ite (fun c3 => ?_) (fun _ => hgo τ' σ' hK hS)
      rw [hn]
      rw [hn] at l3
      rw [hm] at l4
      simp only [ni_i nb]
      refine jn_ite (fun c4 => hgo τ' σ' hK hS) (fun c4 => ?_)
      obtain ⟨a2, ca2, g2, ha2, -, hrd2, -⟩ := hr n (by omega)
      obtain ⟨s1, s2, s3, s4, s5, s6, s7, -⟩ := hrd2 τ' k4
      have e6 : τ'.2.1 6 n = some a2 := by rw [k2]; exact ha2
      simp only [okI_nI (show n < 20 by omega) (show 20 < 2147483648 by omega), if_true, ni_c nb, e6, ob_s, s1, x9_isInForce_e s3 s4, tk_00, bI_0, ite_not, m_isForce_e (show n < 20 by omega), k7 29 (by decide) (by decide), k7 30 (by decide) (by decide)]
      refine jn_ite (fun c5 => ?_) (fun _ => hgo τ' σ' hK hS)
      obtain ⟨f2, hf2, hfe2⟩ := hS n (by omega)
      have y2 : (10 : Int32) * nI n + nI m = nI (10 * n + m) := by rw [show (10 : Int32) = nI 10 from rfl, ni_mul, ni_add]
      simp only [l3, ob_s, okI_nI (show n < 20 by omega) (show 20 < 2147483648 by omega), if_true, ni_c nb, e6, s6, l4, gA_of hf2, okI_nI (show m < 10 by omega) (show 10 < 2147483648 by omega), ni_c mb, nx_e, show vp_nar .boolean 1 = 1 from rfl, hm, hn, k7 35 (by decide) (by decide), k7 36 (by decide) (by decide), y2, okI_nI (show 10 * n + m < 200 by omega) (show 200 < 2147483648 by omega), ni_c (show 10 * n + m < 2147483648 by omega)]
      refine hgo _ _ ((hK.xb hf2).s37 _ _) ?_
      intro i hi
      by_cases hin : i = n
      · subst hin
        refine ⟨upd f2 m 1, if_pos rfl, fun j' hj' => ?_⟩
        show upd f2 m 1 j' = upd (σ'.2 37) (10 * i + m) 1 (10 * i + j')
        unfold upd
        by_cases hjm : j' = m
        · rw [if_pos hjm, if_pos (by omega)]
        · rw [if_neg hjm, if_neg (by omega)]
          exact hfe2 j' hj'
      · obtain ⟨f3, hf3, hfe3⟩ := hS i hi
        refine ⟨f3, (if_neg (fun e => hin (hSA i n hi (by omega) e))).trans hf3, fun j' hj' => ?_⟩
        show f3 j' = upd (σ'.2 37) (10 * n + m) 1 (10 * i + j')
        unfold upd
        rw [if_neg (by omega)]
        exact hfe3 j' hj'
    · rw [if_neg cf]
      have hm : lp (m_strikes_B39 F (fun a1 => RM (nI k - 1, a1.2)) x1 (nI k)) F (0, σ') = RM (nI k - 1, σ') := by
        obtain ⟨F', rfl⟩ : ∃ F', F = F' + 1 := ⟨F - 1, by omega⟩
        rw [lp_s]
        unfold m_strikes_B39
        simp only [okI_nI (show k < 20 by omega) (show 20 < 2147483648 by omega), if_true, ni_c (show k < 2147483648 by omega), m_isForce_e (show k < 20 by omega), hK.2.2.2.2.2.2 29 (by decide) (by decide), hK.2.2.2.2.2.2 30 (by decide) (by decide), ob_s, bI_0, ite_not, if_neg cf, ite_self]
      rw [hm]
      exact ih2 τ' σ' hK hS
end EVAL2
