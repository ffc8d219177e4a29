section SIMPLE
variable {F : Nat} {τ : XS} {σ : MS}
theorem op_now (h : R τ σ) (x1 : Int32) : Op σ (x0_now F x1 τ) (m_now F x1 σ) := by
  simp only [x0_now, m_now, x0_isWeek_e, m_in_e, ob_s, bI_0, nx_e, h.e2, ite_not]
  simp only [Int32.le_iff_toInt_le, li_0, li_1, li_2, li_3, li_4, li_5, li_6, li_7, li_8, li_9, li_10, li_11, li_12, li_13, li_14, li_15, li_16, li_19, li_20, li_22, li_24, li_25, li_29, li_30, li_32, li_40, li_48, li_57, li_60, li_63, li_99, li_100, li_150, li_160, li_180, li_200, li_255, li_256, li_400, li_1000, li_9999, li_10000, li_99999, li_100000, li_100001, li_10001, li_1048576, li_3600, li_m1, li_m2, cj_n, cj_a, cj_b]
  obtain ⟨s1, s2, s3, s4, s5, s6, s7, s8, s9⟩ := h.sc
  by_cases hC : (σ.1 2).toInt ≤ x1.toInt ∧ x1.toInt ≤ 9999
  · rw [if_pos (by omega), if_pos (by omega)]
    refine Op.mk rfl rfl ?_ (Nat.le_succ _) (by decide) (by decide)
    refine ⟨⟨h.s.1, h.s.2.1, rfl, h.s.2.2.2.1, h.s.2.2.2.2.1, h.s.2.2.2.2.2.1, h.s.2.2.2.2.2.2.1, h.s.2.2.2.2.2.2.2.1, h.s.2.2.2.2.2.2.2.2.1, h.s.2.2.2.2.2.2.2.2.2.1, h.s.2.2.2.2.2.2.2.2.2.2.1, h.s.2.2.2.2.2.2.2.2.2.2.2.1, h.s.2.2.2.2.2.2.2.2.2.2.2.2.1, h.s.2.2.2.2.2.2.2.2.2.2.2.2.2.1, h.s.2.2.2.2.2.2.2.2.2.2.2.2.2.2.1, h.s.2.2.2.2.2.2.2.2.2.2.2.2.2.2.2.1, h.s.2.2.2.2.2.2.2.2.2.2.2.2.2.2.2.2⟩, h.a, ⟨s1, s2, s3, s4, ?_, ?_, s7, s8, s9⟩, h.pl, h.dg, h.me, h.ru, ⟨h.fi.1, h.fi.2.1, fun i hi => ?_⟩, h.th, h.wa, h.dr, h.si, h.wo, h.as, h.wf⟩
    · show 0 ≤ x1.toInt; omega
    · show x1.toInt ≤ 9999; omega
    · have hb := h.fi.2.2 i hi
      refine ⟨hb.1, hb.2.1, hb.2.2.1, hb.2.2.2.1, hb.2.2.2.2.1, hb.2.2.2.2.2.1, ?_⟩
      show (σ.2 48 i).toInt ≤ x1.toInt
      omega
  · rw [if_neg (by omega), if_neg (by omega)]
    exact Op.same h rfl rfl
theorem wh_b (h : R τ σ) : (σ.1 0 * σ.1 1).toInt = (σ.1 0).toInt * (σ.1 1).toInt ∧ 16 ≤ (σ.1 0).toInt * (σ.1 1).toInt ∧ (σ.1 0).toInt * (σ.1 1).toInt ≤ 100 := by
  obtain ⟨s1, s2, s3, s4, -⟩ := h.sc
  have h1 : 4 * 4 ≤ (σ.1 0).toInt * (σ.1 1).toInt := Int.mul_le_mul s1 s3 (by omega) (by omega)
  have h2 : (σ.1 0).toInt * (σ.1 1).toInt ≤ 10 * 10 := Int.mul_le_mul s2 s4 (by omega) (by omega)
  exact ⟨i_mul (by omega) (by omega), by omega, by omega⟩
theorem op_ash (h : R τ σ) (x1 x2 x3 : Int32) : Op σ (x0_ash F x1 x2 x3 τ) (m_ash F x1 x2 x3 σ) := by
  simp only [x0_ash, m_ash, x0_isLayer_e, x0_in_e, x0_within_e, m_isLayer_e, m_in_e, ob_s, bI_0, nx_e, ite_not]
  simp only [li_0, li_1, li_2, li_3, li_4, li_5, li_6, li_7, li_8, li_9, li_10, li_11, li_12, li_13, li_14, li_15, li_16, li_19, li_20, li_22, li_24, li_25, li_29, li_30, li_32, li_40, li_48, li_57, li_60, li_63, li_99, li_100, li_150, li_160, li_180, li_200, li_255, li_256, li_400, li_1000, li_9999, li_10000, li_99999, li_100000, li_100001, li_10001, li_1048576, li_3600, li_m1, li_m2, cj_a]
  by_cases hC : (0 ≤ x1.toInt ∧ x1.toInt < 8) ∧ (0 ≤ x2.toInt ∧ x2.toInt < 100) ∧ (x2.toInt ≤ x3.toInt ∧ x3.toInt ≤ 99)
  · have ok : okI x1 8 = true := okI_i hC.1.1 (by omega)
    simp only [ok, if_true, and_self]
    rw [if_pos (by omega), if_pos (by omega)]
    refine Op.mk rfl rfl ?_ (Nat.le_succ _) (by decide) (by decide)
    refine ⟨h.s, ⟨h.a.1, h.a.2.1, h.a.2.2.1, ?_, ?_, h.a.2.2.2.2.2.1, h.a.2.2.2.2.2.2.1, h.a.2.2.2.2.2.2.2.1, h.a.2.2.2.2.2.2.2.2⟩, h.sc, h.pl, h.dg, h.me, h.ru, h.fi, h.th, h.wa, h.dr, h.si, h.wo, ⟨h.as.1, h.as.2.1, fun l hl => ?_, h.as.2.2.2⟩, h.wf⟩
    · show upd (τ.1.2 23) _ _ = upd (σ.2 66) _ _; rw [h.a23]
    · show upd (τ.1.2 24) _ _ = upd (σ.2 67) _ _; rw [h.a24]
    · show 0 ≤ (upd (σ.2 66) x1.toNatClampNeg x2 l).toInt ∧ (upd (σ.2 66) x1.toNatClampNeg x2 l).toInt ≤ (upd (σ.2 67) x1.toNatClampNeg x3 l).toInt ∧ (upd (σ.2 67) x1.toNatClampNeg x3 l).toInt ≤ 99
      by_cases hne : l = x1.toNatClampNeg
      · simp only [upd, hne, if_true]; omega
      · simp only [upd, hne, if_false]; exact h.as.2.2.1 l hl
  · rw [if_neg (by omega), if_neg (by omega)]
    exact Op.same h rfl rfl
theorem op_above (h : R τ σ) (x1 x2 : Int32) : Op σ (x0_above F x1 x2 τ) (m_above F x1 x2 σ) := by
  obtain ⟨N, hN, hNb⟩ := h.as.1
  have eN : τ.1.1 34 = nI N := by rw [← hN]; exact h.e34
  simp only [x0_above, m_above, x0_isLayer_e, m_isLayer_e, ob_s, bI_0, nx_e, ite_not, xA_1, sA_1, eN, hN, ni_c (show N < 2147483648 by omega)]
  simp only [i_eq, li_0, li_1, li_2, li_3, li_4, li_5, li_6, li_7, li_8, li_9, li_10, li_11, li_12, li_13, li_14, li_15, li_16, li_19, li_20, li_22, li_24, li_25, li_29, li_30, li_32, li_40, li_48, li_57, li_60, li_63, li_99, li_100, li_150, li_160, li_180, li_200, li_255, li_256, li_400, li_1000, li_9999, li_10000, li_99999, li_100000, li_100001, li_10001, li_1048576, li_3600, li_m1, li_m2, ni_i (show N < 2147483648 by omega), cj_n, cj_a, cj_b]
  by_cases hC : (0 ≤ x1.toInt ∧ x1.toInt < 8) ∧ (0 ≤ x2.toInt ∧ x2.toInt < 8) ∧ ¬ x1.toInt = x2.toInt ∧ N < 40
  · have ok : okI (nI N) 40 = true := okI_nI hC.2.2.2 (by omega)
    simp only [ok, if_true, and_self]
    rw [if_pos (by omega), if_pos (by omega)]
    refine Op.mk rfl rfl ?_ (Nat.le_succ _) (by decide) (by decide)
    have hc1 : cN (nI N + 1) = N + 1 := by rw [← nI_succ, cN_nI (by omega)]
    refine ⟨⟨h.s.1, h.s.2.1, h.s.2.2.1, h.s.2.2.2.1, h.s.2.2.2.2.1, h.s.2.2.2.2.2.1, h.s.2.2.2.2.2.2.1, h.s.2.2.2.2.2.2.2.1, h.s.2.2.2.2.2.2.2.2.1, h.s.2.2.2.2.2.2.2.2.2.1, h.s.2.2.2.2.2.2.2.2.2.2.1, h.s.2.2.2.2.2.2.2.2.2.2.2.1, h.s.2.2.2.2.2.2.2.2.2.2.2.2.1, rfl, h.s.2.2.2.2.2.2.2.2.2.2.2.2.2.2.1, h.s.2.2.2.2.2.2.2.2.2.2.2.2.2.2.2.1, h.s.2.2.2.2.2.2.2.2.2.2.2.2.2.2.2.2⟩, ⟨h.a.1, h.a.2.1, h.a.2.2.1, h.a.2.2.2.1, h.a.2.2.2.2.1, ?_, ?_, h.a.2.2.2.2.2.2.2.1, h.a.2.2.2.2.2.2.2.2⟩, h.sc, h.pl, h.dg, h.me, h.ru, h.fi, h.th, h.wa, h.dr, h.si, h.wo, ⟨⟨N + 1, (nI_succ N).symm, by omega⟩, h.as.2.1, h.as.2.2.1, ?_, h.as.2.2.2.2⟩, h.wf⟩
    · show upd (τ.1.2 27) _ _ = upd (σ.2 68) _ _; rw [h.a27]
    · show upd (τ.1.2 28) _ _ = upd (σ.2 69) _ _; rw [h.a28]
    · show ∀ k, k < cN (nI N + 1) → 0 ≤ (upd (σ.2 68) N x1 k).toInt ∧ (upd (σ.2 68) N x1 k).toInt < 8 ∧ 0 ≤ (upd (σ.2 69) N x2 k).toInt ∧ (upd (σ.2 69) N x2 k).toInt < 8 ∧ ¬ upd (σ.2 68) N x1 k = upd (σ.2 69) N x2 k
      rw [hc1]
      intro k hk
      have hb := h.as.2.2.2.1
      rw [hN, cN_nI (by omega)] at hb
      by_cases hne : k = N
      · simp only [upd, hne, if_true]
        exact ⟨by omega, by omega, by omega, by omega, fun q => hC.2.2.1 (by rw [q])⟩
      · simp only [upd, hne, if_false]; exact hb k (by omega)
  · rw [if_neg (by omega), if_neg (by omega)]
    exact Op.same h rfl rfl
theorem op_height (h : R τ σ) (x1 x2 : Int32) : Op σ (x0_height F x1 x2 τ) (m_height F x1 x2 σ) := by
  obtain ⟨w1, w2, w3⟩ := wh_b h
  simp only [x0_height, m_height, x0_isCell_e, x0_within_e, m_isCell_e, m_in_e, ob_s, bI_0, tk_00, nx_e, ite_not, h.e0, h.e1]
  simp only [li_0, li_1, li_2, li_3, li_4, li_5, li_6, li_7, li_8, li_9, li_10, li_11, li_12, li_13, li_14, li_15, li_16, li_19, li_20, li_22, li_24, li_25, li_29, li_30, li_32, li_40, li_48, li_57, li_60, li_63, li_99, li_100, li_150, li_160, li_180, li_200, li_255, li_256, li_400, li_1000, li_9999, li_10000, li_99999, li_100000, li_100001, li_10001, li_1048576, li_3600, li_m1, li_m2, cj_a]
  by_cases hC : (0 ≤ x1.toInt ∧ x1.toInt < (σ.1 0 * σ.1 1).toInt) ∧ (0 ≤ x2.toInt ∧ x2.toInt ≤ 8)
  · have ok : okI x1 100 = true := okI_i hC.1.1 (by omega)
    simp only [ok, if_true, and_self]
    rw [if_pos (by omega), if_pos (by omega)]
    refine Op.mk rfl rfl ?_ (Nat.le_succ _) (by decide) (by decide)
    refine ⟨h.s, ⟨?_, h.a.2.1, h.a.2.2.1, h.a.2.2.2.1, h.a.2.2.2.2.1, h.a.2.2.2.2.2.1, h.a.2.2.2.2.2.2.1, h.a.2.2.2.2.2.2.2.1, h.a.2.2.2.2.2.2.2.2⟩, h.sc, h.pl, h.dg, h.me, h.ru, h.fi, h.th, h.wa, h.dr, h.si, h.wo, h.as, h.wf⟩
    show upd (τ.1.2 3) _ _ = upd (σ.2 0) _ _; rw [h.a3]
  · rw [if_neg (by omega), if_neg (by omega)]
    exact Op.same h rfl rfl
theorem op_hollow (h : R τ σ) (x1 x2 : Int32) : Op σ (x0_hollow F x1 x2 τ) (m_hollow F x1 x2 σ) := by
  obtain ⟨w1, w2, w3⟩ := wh_b h
  obtain ⟨N, hN, hNb⟩ := h.as.2.1
  have eN : τ.1.1 35 = nI N := by rw [← hN]; exact h.e35
  simp only [x0_hollow, m_hollow, x0_isCell_e, x0_isLayer_e, m_isCell_e, m_isLayer_e, ob_s, bI_0, tk_00, nx_e, ite_not, h.e0, h.e1, xA_1, sA_1, eN, hN, ni_c (show N < 2147483648 by omega)]
  simp only [xS_at, sS_at, xA_1, sA_1, eN, hN, if_true]
  simp only [i_eq, li_0, li_1, li_2, li_3, li_4, li_5, li_6, li_7, li_8, li_9, li_10, li_11, li_12, li_13, li_14, li_15, li_16, li_19, li_20, li_22, li_24, li_25, li_29, li_30, li_32, li_40, li_48, li_57, li_60, li_63, li_99, li_100, li_150, li_160, li_180, li_200, li_255, li_256, li_400, li_1000, li_9999, li_10000, li_99999, li_100000, li_100001, li_10001, li_1048576, li_3600, li_m1, li_m2, ni_i (show N < 2147483648 by omega), cj_n, cj_a, cj_b]
  by_cases hC : (0 ≤ x1.toInt ∧ x1.toInt < (σ.1 0 * σ.1 1).toInt) ∧ (0 ≤ x2.toInt ∧ x2.toInt < 8) ∧ N < 40
  · have ok : okI (nI N) 40 = true := okI_nI hC.2.2 (by omega)
    simp only [ok, if_true, and_self]
    rw [if_pos (by omega), if_pos (by omega)]
    refine Op.mk rfl rfl ?_ (Nat.le_succ _) (by decide) (by decide)
    have hc1 : cN (nI N + 1) = N + 1 := by rw [← nI_succ, cN_nI (by omega)]
    refine ⟨⟨h.s.1, h.s.2.1, h.s.2.2.1, h.s.2.2.2.1, h.s.2.2.2.2.1, h.s.2.2.2.2.2.1, h.s.2.2.2.2.2.2.1, h.s.2.2.2.2.2.2.2.1, h.s.2.2.2.2.2.2.2.2.1, h.s.2.2.2.2.2.2.2.2.2.1, h.s.2.2.2.2.2.2.2.2.2.2.1, h.s.2.2.2.2.2.2.2.2.2.2.2.1, h.s.2.2.2.2.2.2.2.2.2.2.2.2.1, h.s.2.2.2.2.2.2.2.2.2.2.2.2.2.1, rfl, h.s.2.2.2.2.2.2.2.2.2.2.2.2.2.2.2.1, h.s.2.2.2.2.2.2.2.2.2.2.2.2.2.2.2.2⟩, ⟨h.a.1, h.a.2.1, h.a.2.2.1, h.a.2.2.2.1, h.a.2.2.2.2.1, h.a.2.2.2.2.2.1, h.a.2.2.2.2.2.2.1, ?_, ?_⟩, h.sc, h.pl, h.dg, h.me, h.ru, h.fi, h.th, h.wa, h.dr, h.si, h.wo, ⟨h.as.1, ⟨N + 1, (nI_succ N).symm, by omega⟩, h.as.2.2.1, h.as.2.2.2.1, ?_⟩, h.wf⟩
    · show upd (τ.1.2 29) _ _ = upd (σ.2 72) _ _; rw [h.a29]
    · show upd (τ.1.2 30) _ _ = upd (σ.2 73) _ _; rw [h.a30]
    · show ∀ k, k < cN (nI N + 1) → 0 ≤ (upd (σ.2 72) N x1 k).toInt ∧ (upd (σ.2 72) N x1 k).toInt < (σ.1 0).toInt * (σ.1 1).toInt ∧ 0 ≤ (upd (σ.2 73) N x2 k).toInt ∧ (upd (σ.2 73) N x2 k).toInt < 8
      rw [hc1]
      intro k hk
      have hb := h.as.2.2.2.2
      rw [hN, cN_nI (by omega)] at hb
      by_cases hne : k = N
      · simp only [upd, hne, if_true]
        exact ⟨by omega, by omega, by omega, by omega⟩
      · simp only [upd, hne, if_false]; exact hb k (by omega)
  · rw [if_neg (by omega), if_neg (by omega)]
    exact Op.same h rfl rfl
theorem op_joined (h : R τ σ) (x1 : Int32) : Op σ (x0_joined F x1 τ) (m_joined F x1 σ) := by
  obtain ⟨N, hN, hNb⟩ := h.sc.2.2.2.2.2.2.2.1
  have eN : τ.1.1 22 = nI N := by rw [← hN]; exact h.e22
  simp only [x0_joined, m_joined, x0_in_e, ob_s, bI_0, ite_not, eN, hN, h.a19]
  simp only [Int32.lt_iff_toInt_lt, Int32.le_iff_toInt_le, li_0, li_1, li_2, li_3, li_4, li_5, li_6, li_7, li_8, li_9, li_10, li_11, li_12, li_13, li_14, li_15, li_16, li_19, li_20, li_22, li_24, li_25, li_29, li_30, li_32, li_40, li_48, li_57, li_60, li_63, li_99, li_100, li_150, li_160, li_180, li_200, li_255, li_256, li_400, li_1000, li_9999, li_10000, li_99999, li_100000, li_100001, li_10001, li_1048576, li_3600, li_m1, li_m2, ni_i (show N < 2147483648 by omega), cj_n, cj_a, cj_b]
  by_cases hC : 0 ≤ x1.toInt ∧ x1.toInt < N
  · have ok : okI x1 8 = true := okI_i hC.1 (by omega)
    simp only [ok, if_true]
    rw [if_pos (by omega), if_neg (by omega), if_neg (by omega)]
    exact Op.same h rfl rfl
  · rw [if_neg (by omega)]
    by_cases hx : x1.toInt < 0
    · rw [if_pos hx]
      exact Op.same h rfl rfl
    · rw [if_neg hx, if_pos (by omega)]
      exact Op.same h rfl rfl
theorem sub20 (x : Int32) : (x - 20).toInt = x.toInt - 20 ∨ (2000000000 ≤ (x - 20).toInt ∧ x.toInt < 0) := by
  have h1 := x.le_toInt
  have h2 := x.toInt_lt
  by_cases hx : -2147483648 ≤ x.toInt - 20
  · exact Or.inl (by rw [i_sub (by rw [li_20]; omega) (by rw [li_20]; omega), li_20])
  · right
    have := Int.bmod_def (x.toInt - 20) 4294967296
    rw [Int32.toInt_sub, li_20]
    show 2000000000 ≤ (x.toInt - 20).bmod 4294967296 ∧ _
    omega
theorem op_count (h : R τ σ) (x1 : Int32) : Op σ (x0_count F x1 τ) (m_count F x1 σ) := by
  obtain ⟨⟨N, hN, hNb⟩, SA, hru, -⟩ := h.ru
  rw [hN, cN_nI (by omega)] at hru
  have eN : τ.1.1 14 = nI N := by rw [← hN]; exact h.e14
  have h19 : (19 + nI N).toInt = 19 + N := by rw [i_add (by rw [li_19, ni_i (by omega)]; omega) (by rw [li_19, ni_i (by omega)]; omega), li_19, ni_i (by omega)]
  have hs := sub20 x1
  simp only [x0_count, m_count, x0_in_e, m_in_e, ob_s, bI_0, ite_not, eN, hN, h19, h.e0, h.e1, h.e2, h.e3, h.e4, h.e5, h.e12, h.e16, h.e18, h.e26, h.e27, h.e34, h.e35, h.e42, h.e44]
  simp only [ni_i (show N < 2147483648 by omega), li_20]
  by_cases hC : 20 ≤ x1.toInt ∧ x1.toInt < 20 + N
  · have ok : okI (x1 - 20) 20 = true := okI_i (by omega) (by omega)
    have hcl : ((x1 - 20).toNatClampNeg : Int) = (x1 - 20).toInt := c_i (by omega)
    obtain ⟨a, h1, ca, V, f, g, h2, h3, h4, h5, -⟩ := hru (x1 - 20).toNatClampNeg (by omega)
    rw [if_pos (by omega)]
    simp only [ok, if_true, h1, ob_s, gI_of h2 (List.mem_singleton.mpr rfl) h5]
    simp only [i_eq, li_0, li_1, li_2, li_3, li_4, li_5, li_6, li_7, li_8, li_9, li_10, li_11, li_12, li_13, li_14, li_15, li_16, li_19, li_20, li_22, li_24, li_25, li_29, li_30, li_32, li_40, li_48, li_57, li_60, li_63, li_99, li_100, li_150, li_160, li_180, li_200, li_255, li_256, li_400, li_1000, li_9999, li_10000, li_99999, li_100000, li_100001, li_10001, li_1048576, li_3600, li_m1, li_m2]
    rw [if_neg (by omega), if_neg (by omega), if_neg (by omega), if_neg (by omega), if_neg (by omega), if_neg (by omega), if_neg (by omega), if_neg (by omega), if_neg (by omega), if_neg (by omega), if_neg (by omega), if_neg (by omega), if_neg (by omega), if_neg (by omega), if_neg (by omega), if_neg (by omega), if_pos (by omega)]
    exact Op.same h rfl rfl
  · rw [if_neg (show ¬ (0 ≤ (x1 - 20).toInt ∧ (x1 - 20).toInt < (N : Int)) by omega)]
    rw [if_neg (show ¬ (20 ≤ x1.toInt ∧ x1.toInt ≤ 19 + (N : Int)) by omega)]
    iterate 16 refine Op.ite (fun _ => Op.same h rfl rfl) (fun _ => ?_)
    exact Op.same h rfl rfl
end SIMPLE
