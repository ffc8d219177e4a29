/-! works -/
theorem shl9 : ∀ n : Fin 10, (1 : Int32) <<< (nI n.1 &&& 31) = nI (2 ^ n.1) := by decide
theorem pow9 {n : Nat} (h : n ≤ 9) : 1 ≤ 2 ^ n ∧ 2 ^ n ≤ 512 := ⟨Nat.one_le_two_pow, Nat.pow_le_pow_right (by omega) h⟩
section WORKS
variable {F : Nat} {τ : XS} {σ : MS}
theorem costs_j (hF : 1000 ≤ F) (h : R τ σ) (x1 : Int32) : ∃ v, x0_costOf F x1 τ = some (v, τ, 0, 0) ∧ m_costs F x1 σ = some (v, σ) := by
  obtain ⟨⟨N, hN, hNb⟩, hl⟩ := h.wo
  rw [hN, cN_nI (by omega)] at hl
  have eN : τ.1.1 44 = nI N := by rw [← hN]; exact h.e44
  unfold x0_costOf m_costs
  obtain ⟨v, w, h1, h2, u, h3, h4⟩ := lp_join (BX := x0_costOf_B4 F x1) (BM := m_costs_B4 F x1) (fun a b => ∃ (k : Nat) (y : Int32), k ≤ N ∧ a = (y, nI k, τ) ∧ b = (y, nI k, σ)) (fun a _ => N - cN a.2.1) (fun v w => ∃ u, v = (u, τ, 0, 0) ∧ w = (u, σ)) (by
    intro RX RM a b hi ih
    obtain ⟨k, y, hk, rfl, rfl⟩ := hi
    have hnext : ∀ y, k < N → ∃ v w, RX (y, nI k + 1, τ) = some v ∧ RM (y, nI k + 1, σ) = some w ∧ ∃ u, v = (u, τ, 0, 0) ∧ w = (u, σ) := by
      intro y hkN
      refine ih _ _ ⟨k + 1, y, by omega, by rw [nI_succ], by rw [nI_succ]⟩ ?_
      show N - cN (nI k + 1) < N - cN (nI k)
      rw [← nI_succ, cN_nI (by omega), cN_nI (by omega)]
      omega
    unfold x0_costOf_B4 m_costs_B4
    simp only [eN, hN, Int32.le_iff_toInt_le, ni_i (show k < 2147483648 by omega), ni_i (show N < 2147483648 by omega)]
    refine jn_ite (fun _ => ⟨_, _, rfl, rfl, _, rfl, rfl⟩) (fun c1 => ?_)
    refine jn_ite (fun _ => ?_) (fun _ => hnext _ (by omega))
    obtain ⟨ad, g1, g2⟩ := hl k (by omega)
    simp only [okI_nI (show k < 9 by omega) (show 9 < 2147483648 by omega), if_true, ni_c (show k < 2147483648 by omega), g1, ob_s, g2.gI (k := 1) (x := σ.2 80 k) (by simp) (List.mem_singleton.mpr rfl), nx_e]
    exact hnext _ (by omega)) F (0, 0, τ) (0, 0, σ) ⟨0, 0, by omega, rfl, rfl⟩ (by show N - cN 0 < F; omega)
  exact ⟨u, by rw [h1, h3], by rw [h2, h4]⟩
theorem saved_j (hF : 1000 ≤ F) (h : R τ σ) (x1 : Int32) : ∃ v, x0_savedBy F x1 τ = some (v, τ, 0, 0) ∧ m_saved F x1 σ = some (v, σ) := by
  obtain ⟨⟨N, hN, hNb⟩, hl⟩ := h.wo
  rw [hN, cN_nI (by omega)] at hl
  have eN : τ.1.1 44 = nI N := by rw [← hN]; exact h.e44
  obtain ⟨⟨W, hW, hWb⟩, hlw⟩ := h.wa
  rw [hW, cN_nI (by omega)] at hlw
  have eW : τ.1.1 26 = nI W := by rw [← hW]; exact h.e26
  unfold x0_savedBy m_saved
  obtain ⟨v, w, h1, h2, u, h3, h4⟩ := lp_join (BX := x0_savedBy_B4 F x1) (BM := m_saved_B4 F x1) (fun a b => ∃ (k : Nat) (y : Int32), k ≤ W ∧ a = (y, nI k, τ) ∧ b = (y, nI k, σ)) (fun a _ => W - cN a.2.1) (fun v w => ∃ u, v = (u, τ, 0, 0) ∧ w = (u, σ)) (by
    intro RX RM a b hi ih
    obtain ⟨i, y, hi, rfl, rfl⟩ := hi
    have hnext : ∀ y, i < W → ∃ v w, RX (y, nI i + 1, τ) = some v ∧ RM (y, nI i + 1, σ) = some w ∧ ∃ u, v = (u, τ, 0, 0) ∧ w = (u, σ) := by
      intro y hkN
      refine ih _ _ ⟨i + 1, y, by omega, by rw [nI_succ], by rw [nI_succ]⟩ ?_
      show W - cN (nI i + 1) < W - cN (nI i)
      rw [← nI_succ, cN_nI (by omega), cN_nI (by omega)]
      omega
    unfold x0_savedBy_B4 m_saved_B4
    simp only [eW, hW, Int32.le_iff_toInt_le, ni_i (show i < 2147483648 by omega), ni_i (show W < 2147483648 by omega)]
    refine jn_ite (fun _ => ⟨_, _, rfl, rfl, _, rfl, rfl⟩) (fun c1 => ?_)
    obtain ⟨aw, w1, w2⟩ := hlw i (by omega)
    unfold x0_savedOn
    have hx : ∃ z, lp (x0_savedOn_B5 F (nI i) x1) F (0, 0, τ) = some (if σ.2 59 i < z then σ.2 59 i else z, τ, 0, 0) ∧ ∀ K, lp (m_saved_B18 F K x1 y (nI i)) F (0, 0, σ) = K (z, nI N, σ) := by
      have gen : ∀ (fu k : Nat) (z : Int32), k ≤ N → N - k < fu → ∃ z', lp (x0_savedOn_B5 F (nI i) x1) fu (z, nI k, τ) = some (if σ.2 59 i < z' then σ.2 59 i else z', τ, 0, 0) ∧ ∀ K, lp (m_saved_B18 F K x1 y (nI i)) fu (z, nI k, σ) = K (z', nI N, σ) := by
        intro fu
        induction fu with
        | zero => intro k z _ hh; omega
        | succ fu ihf =>
          intro k z hk hfu
          have hK : ∀ K, lp (m_saved_B18 F K x1 y (nI i)) (fu + 1) (z, nI k, σ) = m_saved_B18 F K x1 y (nI i) (lp (m_saved_B18 F K x1 y (nI i)) fu) (z, nI k, σ) := fun K => rfl
          rw [lp_s]
          simp only [hK, m_saved_B18, x0_savedOn_B5]
          simp only [eN, hN, Int32.le_iff_toInt_le, ni_i (show k < 2147483648 by omega), ni_i (show N < 2147483648 by omega), okI_nI (show i < 30 by omega) (show 30 < 2147483648 by omega), if_true, ni_c (show i < 2147483648 by omega), w1, ob_s, w2.gI (k := 1) (x := σ.2 59 i) (by simp) (List.mem_singleton.mpr rfl), nx_e, Int32.add_zero]
          by_cases c2 : (N : Int) ≤ k
          · have : k = N := by omega
            subst this
            simp only [if_pos c2]
            exact ⟨z, rfl, fun K => rfl⟩
          · simp only [if_neg c2]
            obtain ⟨ad, g1, g2⟩ := hl k (by omega)
            simp only [okI_nI (show k < 9 by omega) (show 9 < 2147483648 by omega), if_true, ni_c (show k < 2147483648 by omega), g1, ob_s, g2.gI (k := 0) (x := σ.2 79 k) (by simp) (List.mem_singleton.mpr rfl), g2.gI (k := 2) (x := σ.2 81 k) (by simp) (List.mem_singleton.mpr rfl), ← nI_succ]
            by_cases c3 : (x1 >>> (nI k &&& 31)) &&& 1 = 1
            · simp only [if_pos c3]
              by_cases c4 : σ.2 79 k = nI i
              · simp only [if_pos c4]
                exact ihf (k + 1) _ (by omega) (by omega)
              · simp only [if_neg c4]
                exact ihf (k + 1) _ (by omega) (by omega)
            · simp only [if_neg c3]
              exact ihf (k + 1) _ (by omega) (by omega)
      exact gen F 0 0 (by omega) (by omega)
    obtain ⟨z, hz1, hz2⟩ := hx
    rw [hz2]
    simp only [hz1, ob_s, tk_00, okI_nI (show i < 30 by omega) (show 30 < 2147483648 by omega), if_true, ni_c (show i < 2147483648 by omega), nx_e, Int32.lt_iff_toInt_lt]
    by_cases c5 : (σ.2 59 i).toInt < z.toInt
    · rw [if_pos c5, if_pos (by omega)]
      exact hnext _ (by omega)
    · rw [if_neg c5]
      by_cases c6 : (σ.2 59 i).toInt ≤ z.toInt
      · rw [if_pos c6]
        have : σ.2 59 i = z := by rw [i_eq]; omega
        rw [this]
        exact hnext _ (by omega)
      · rw [if_neg c6]
        exact hnext _ (by omega)) F (0, 0, τ) (0, 0, σ) ⟨0, 0, by omega, rfl, rfl⟩ (by show W - cN 0 < F; omega)
  exact ⟨u, by rw [h1, h3], by rw [h2, h4]⟩
theorem op_saves (hF : 1000 ≤ F) (h : R τ σ) (x1 : Int32) : Op σ (x0_saves F x1 τ) (m_saves F x1 σ) := by
  obtain ⟨N, hN, hNb⟩ := h.wo.1
  have eN : τ.1.1 44 = nI N := by rw [← hN]; exact h.e44
  obtain ⟨p1, p2⟩ := pow9 hNb
  have hs : (nI (2 ^ N) - 1).toInt = (2 ^ N : Nat) - 1 := by
    rw [i_sub (by rw [ni_i (by omega), li_1]; omega) (by rw [ni_i (by omega), li_1]; omega), ni_i (by omega), li_1]
  obtain ⟨v, h1, h2⟩ := saved_j hF h x1
  simp only [x0_saves, m_saves, eN, hN, shl9 ⟨N, by omega⟩, x0_in_e, m_in_e, ob_s, bI_0, ite_not, h1, h2, tk_00, hs, li_0, ni_i (show 2 ^ N < 2147483648 by omega)]
  by_cases hC : 0 ≤ x1.toInt ∧ x1.toInt < (2 ^ N : Nat)
  · rw [if_pos hC, if_pos (by omega)]
    exact Op.same h rfl rfl
  · rw [if_neg hC, if_neg (by omega)]
    exact Op.same h rfl rfl
theorem op_best (hF : 1000 ≤ F) (h : R τ σ) (x1 : Int32) : Op σ (x0_best F x1 τ) (m_best F x1 σ) := by
  obtain ⟨N, hN, hNb⟩ := h.wo.1
  have eN : τ.1.1 44 = nI N := by rw [← hN]; exact h.e44
  obtain ⟨p1, p2⟩ := pow9 hNb
  simp only [x0_best, m_best, x0_in_e, m_in_e, ob_s, bI_0, ite_not, li_0, li_100000, li_100001]
  by_cases hC : 0 ≤ x1.toInt ∧ x1.toInt < 100001
  · rw [if_pos hC, if_pos (by omega)]
    obtain ⟨v, w, h1, h2, u, h3, h4⟩ := lp_join (BX := x0_best_B16 F x1) (BM := m_best_B17 F x1) (fun a b => ∃ (k : Nat) (y : Int32), 1 ≤ k ∧ k ≤ 2 ^ N ∧ a = (y, nI k, τ) ∧ b = (y, nI k, σ)) (fun a _ => 2 ^ N - cN a.2.1) (fun v w => ∃ u, v = (u, τ, 0, 0) ∧ w = (u, σ)) (by
      intro RX RM a b hi ih
      obtain ⟨k, y, hk1, hk, rfl, rfl⟩ := hi
      have hnext : ∀ y, k < 2 ^ N → ∃ v w, RX (y, nI k + 1, τ) = some v ∧ RM (y, nI k + 1, σ) = some w ∧ ∃ u, v = (u, τ, 0, 0) ∧ w = (u, σ) := by
        intro y hkN
        refine ih _ _ ⟨k + 1, y, by omega, by omega, by rw [nI_succ], by rw [nI_succ]⟩ ?_
        show 2 ^ N - cN (nI k + 1) < 2 ^ N - cN (nI k)
        rw [← nI_succ, cN_nI (by omega), cN_nI (by omega)]
        omega
      obtain ⟨v1, a1, b1⟩ := costs_j hF h (nI k)
      obtain ⟨v2, a2, b2⟩ := saved_j hF h (nI k)
      obtain ⟨v3, a3, b3⟩ := saved_j hF h y
      obtain ⟨v4, a4, b4⟩ := costs_j hF h y
      unfold x0_best_B16 m_best_B17
      simp only [eN, hN, shl9 ⟨N, by omega⟩, a1, b1, a2, b2, a3, b3, a4, b4, ob_s, tk_00, Int32.le_iff_toInt_le, ni_i (show k < 2147483648 by omega), ni_i (show 2 ^ N < 2147483648 by omega)]
      refine jn_ite (fun _ => ⟨_, _, rfl, rfl, _, rfl, rfl⟩) (fun c1 => ?_)
      refine jn_ite (fun _ => ?_) (fun _ => hnext _ (by omega))
      refine jn_ite (fun _ => hnext _ (by omega)) (fun _ => ?_)
      refine jn_ite (fun _ => ?_) (fun _ => hnext _ (by omega))
      exact jn_ite (fun _ => hnext _ (by omega)) (fun _ => hnext _ (by omega))) F (0, 1, τ) (0, 1, σ) ⟨1, 0, by omega, by omega, rfl, rfl⟩ (by show 2 ^ N - cN 1 < F; omega)
    exact Op.same h (by rw [h1, h3]) (by rw [h2, h4])
  · rw [if_neg hC, if_neg (by omega)]
    exact Op.same h rfl rfl
end WORKS
