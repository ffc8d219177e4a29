section FORMS2
variable {F : Nat} {τ : XS} {σ : MS}
theorem x8_init_e (x1 x2 x3 x4 x5 : Int32) (V : Nat → Value) : x8_init F τ.2.2.2.2 x1 x2 x3 x4 x5 (xN τ (.inr (8, V))) = some (0, xN τ (.inr (8, updV (updV (updV (updV (updV V 0 (.int x1)) 1 (.int x2)) 2 (.int x3)) 3 (.int x4)) 4 (.int x5))), 0, 0) := by
  simp only [x8_init, pF_xN (List.mem_singleton.mpr rfl), ob_s]
theorem x20_init_e (x1 x2 x3 x4 x5 x6 x7 x8 x9 : Int32) (V : Nat → Value) : x20_init F τ.2.2.2.2 x1 x2 x3 x4 x5 x6 x7 x8 x9 (xN τ (.inr (20, V))) = some (0, xN τ (.inr (20, updV (updV (updV (updV (updV (updV (updV (updV (updV V 0 (.int x1)) 1 (.int x2)) 2 (.int x3)) 3 (.int x4)) 4 (.int x5)) 5 (.int x6)) 6 (.int x7)) 7 (.int x8)) 8 (.int x9))), 0, 0) := by
  simp only [x20_init, pF_xN (List.mem_singleton.mpr rfl), ob_s]
theorem x21_init_e (x1 x2 x3 : Int32) (V : Nat → Value) : x21_init F τ.2.2.2.2 x1 x2 x3 (xN τ (.inr (21, V))) = some (0, xN τ (.inr (21, updV (updV (updV V 0 (.int x1)) 1 (.int x2)) 2 (.int x3))), 0, 0) := by
  simp only [x21_init, pF_xN (List.mem_singleton.mpr rfl), ob_s]
theorem x22_init_e (x1 x2 : Int32) (V : Nat → Value) : x22_init F τ.2.2.2.2 x1 x2 (xN τ (.inr (22, V))) = some (0, xN τ (.inr (22, updV (updV V 0 (.int x1)) 1 (.int x2))), 0, 0) := by
  simp only [x22_init, pF_xN (List.mem_singleton.mpr rfl), ob_s]
theorem x24_init_e (x1 x2 x3 x4 : Int32) (V : Nat → Value) : x24_init F τ.2.2.2.2 x1 x2 x3 x4 (xN τ (.inr (24, V))) = some (0, xN τ (.inr (24, updV (updV (updV (updV V 0 (.int x1)) 1 (.int x2)) 2 (.int x3)) 3 (.int x4))), 0, 0) := by
  simp only [x24_init, pF_xN (List.mem_singleton.mpr rfl), ob_s]
theorem x25_init_e (x1 x2 x3 : Int32) (V : Nat → Value) : x25_init F τ.2.2.2.2 x1 x2 x3 (xN τ (.inr (25, V))) = some (0, xN τ (.inr (25, updV (updV (updV V 0 (.int x1)) 1 (.int x2)) 2 (.int x3))), 0, 0) := by
  simp only [x25_init, pF_xN (List.mem_singleton.mpr rfl), ob_s]
end FORMS2
section OPS
variable {F : Nat} {τ : XS} {σ : MS}
theorem op_means (h : R τ σ) (x1 x2 x3 x4 x5 : Int32) : Op σ (x0_means F x1 x2 x3 x4 x5 τ) (m_means F x1 x2 x3 x4 x5 σ) := by
  obtain ⟨N, hN, hNb⟩ := h.me.1
  have eN : τ.1.1 12 = nI N := by rw [← hN]; exact h.s.2.2.2.2.2.2.1
  have e3 : τ.1.1 3 = σ.1 3 := h.s.2.2.2.1
  simp only [x0_means, m_means, x0_in_e, x0_within_e, x0_isPlace_e, x0_isWeek_e, x0_isLayer_e, x0_isSpan_e, m_in_e, m_isPlace_e, m_isWeek_e, m_isLayer_e, m_isWall_e, x8_init_e, isC_xN, ob_s, bI_0, tk_00, nx_e, xN_1, xR_1, eN, e3, hN, sA_1, ni_c (show N < 2147483648 by omega), if_true, ite_not]
  try simp only [xS_at, sS_at, xR_1, xN_1, sA_1, eN, hN, if_true]
  simp only [i_eq, Int32.lt_iff_toInt_lt, Int32.le_iff_toInt_le, li_0, li_1, li_2, li_3, li_4, li_5, li_6, li_7, li_8, li_9, li_10, li_11, li_12, li_13, li_14, li_15, li_16, li_19, li_20, li_22, li_24, li_25, li_29, li_30, li_32, li_40, li_48, li_57, li_60, li_63, li_99, li_100, li_150, li_160, li_180, li_200, li_255, li_256, li_400, li_1000, li_9999, li_10000, li_99999, li_100000, li_100001, li_10001, li_1048576, li_3600, li_m1, li_m2, ni_i (show N < 2147483648 by omega), cj_n, cj_a, cj_b]
  by_cases hC : (0 ≤ x1.toInt ∧ x1.toInt < 4) ∧ (1 ≤ x2.toInt ∧ x2.toInt ≤ 99) ∧ (0 ≤ x3.toInt ∧ x3.toInt < (σ.1 3).toInt) ∧ (0 ≤ x4.toInt ∧ x4.toInt < 10000) ∧ (0 ≤ x5.toInt ∧ x5.toInt < 10000) ∧ ¬ x5.toInt < x4.toInt ∧ N < 200
  · have ok : okI (nI N) 200 = true := okI_nI (by omega) (by omega)
    simp only [ok, if_true, and_self, tk_s]
    rw [if_pos (by omega), if_pos (by omega)]
    have hp := PM.new (M := M0) (e := .inr (8, updV (updV (updV (updV (updV (fun q => defaultValue (tyX8 q)) 0 (.int x1)) 1 (.int x2)) 2 (.int x3)) 3 (.int x4)) 4 (.int x5))) h.wf
    refine Op.mk rfl rfl ?_ ?_ (by decide) (by decide)
    · refine ⟨⟨h.s.1, h.s.2.1, h.s.2.2.1, h.s.2.2.2.1, h.s.2.2.2.2.1, h.s.2.2.2.2.2.1, rfl, h.s.2.2.2.2.2.2.2.1, h.s.2.2.2.2.2.2.2.2.1, h.s.2.2.2.2.2.2.2.2.2.1, h.s.2.2.2.2.2.2.2.2.2.2.1, h.s.2.2.2.2.2.2.2.2.2.2.2.1, h.s.2.2.2.2.2.2.2.2.2.2.2.2.1, h.s.2.2.2.2.2.2.2.2.2.2.2.2.2.1, h.s.2.2.2.2.2.2.2.2.2.2.2.2.2.2.1, h.s.2.2.2.2.2.2.2.2.2.2.2.2.2.2.2.1, h.s.2.2.2.2.2.2.2.2.2.2.2.2.2.2.2.2⟩, h.a, h.sc, (h.pl.mono hp), (h.dg.mono hp ⟨rfl, rfl, rfl⟩), ?_, (h.ru.mono hp), (h.fi.mono hp), (h.th.mono hp rfl), (h.wa.mono hp), (h.dr.mono hp), (h.si.mono hp), (h.wo.mono hp), h.as, h.wf.new⟩
      have hm := h.me.2.mono hp (fun i z _ => mutF_k rfl)
      rw [hN, cN_nI (by omega)] at hm
      have hc1 : cN (nI N + 1) = N + 1 := by rw [← nI_succ, cN_nI (by omega)]
      have ho : OL _ _ (N + 1) 8 _ := hm.push (fs' := fun i => [(0, upd (σ.2 15) N x1 i), (1, upd (σ.2 16) N x2 i), (2, upd (σ.2 17) N x3 i), (3, upd (σ.2 18) N x4 i), (4, upd (σ.2 19) N x5 i)]) (a := τ.2.2.2.2) (fun i hi => by
        have hne : ¬ i = N := by omega
        simp [upd, hne]) ⟨_, if_pos rfl, by simp [upd, updV]⟩
      refine ⟨⟨N + 1, (nI_succ N).symm, by omega⟩, ?_⟩
      show OL _ _ (cN (nI N + 1)) _ _
      rw [hc1]
      exact ho
    · exact Nat.le_succ _
  · rw [if_neg (by omega), if_neg (by omega)]
    exact Op.same h rfl rfl
theorem op_wall (h : R τ σ) (x1 x2 : Int32) : Op σ (x0_wall F x1 x2 τ) (m_wall F x1 x2 σ) := by
  obtain ⟨N, hN, hNb⟩ := h.wa.1
  have eN : τ.1.1 26 = nI N := by rw [← hN]; exact h.s.2.2.2.2.2.2.2.2.2.2.2.1
  have e3 : τ.1.1 3 = σ.1 3 := h.s.2.2.2.1
  simp only [x0_wall, m_wall, x0_in_e, x0_within_e, x0_isPlace_e, x0_isWeek_e, x0_isLayer_e, x0_isSpan_e, m_in_e, m_isPlace_e, m_isWeek_e, m_isLayer_e, m_isWall_e, x22_init_e, isC_xN, ob_s, bI_0, tk_00, nx_e, xN_1, xR_1, eN, e3, hN, sA_1, ni_c (show N < 2147483648 by omega), if_true, ite_not]
  try simp only [xS_at, sS_at, xR_1, xN_1, sA_1, eN, hN, if_true]
  simp only [i_eq, Int32.lt_iff_toInt_lt, Int32.le_iff_toInt_le, li_0, li_1, li_2, li_3, li_4, li_5, li_6, li_7, li_8, li_9, li_10, li_11, li_12, li_13, li_14, li_15, li_16, li_19, li_20, li_22, li_24, li_25, li_29, li_30, li_32, li_40, li_48, li_57, li_60, li_63, li_99, li_100, li_150, li_160, li_180, li_200, li_255, li_256, li_400, li_1000, li_9999, li_10000, li_99999, li_100000, li_100001, li_10001, li_1048576, li_3600, li_m1, li_m2, ni_i (show N < 2147483648 by omega), cj_n, cj_a, cj_b]
  by_cases hC : (0 ≤ x1.toInt ∧ x1.toInt < (σ.1 3).toInt) ∧ (0 ≤ x2.toInt ∧ x2.toInt ≤ 10000) ∧ N < 30
  · have ok : okI (nI N) 30 = true := okI_nI (by omega) (by omega)
    simp only [ok, if_true, and_self, tk_s]
    rw [if_pos (by omega), if_pos (by omega)]
    have hp := PM.new (M := M0) (e := .inr (22, updV (updV (fun q => defaultValue (tyX22 q)) 0 (.int x1)) 1 (.int x2))) h.wf
    refine Op.mk rfl rfl ?_ ?_ (by decide) (by decide)
    · refine ⟨⟨h.s.1, h.s.2.1, h.s.2.2.1, h.s.2.2.2.1, h.s.2.2.2.2.1, h.s.2.2.2.2.2.1, h.s.2.2.2.2.2.2.1, h.s.2.2.2.2.2.2.2.1, h.s.2.2.2.2.2.2.2.2.1, h.s.2.2.2.2.2.2.2.2.2.1, h.s.2.2.2.2.2.2.2.2.2.2.1, rfl, h.s.2.2.2.2.2.2.2.2.2.2.2.2.1, h.s.2.2.2.2.2.2.2.2.2.2.2.2.2.1, h.s.2.2.2.2.2.2.2.2.2.2.2.2.2.2.1, h.s.2.2.2.2.2.2.2.2.2.2.2.2.2.2.2.1, h.s.2.2.2.2.2.2.2.2.2.2.2.2.2.2.2.2⟩, h.a, h.sc, (h.pl.mono hp), (h.dg.mono hp ⟨rfl, rfl, rfl⟩), (h.me.mono hp), (h.ru.mono hp), (h.fi.mono hp), (h.th.mono hp rfl), ?_, (h.dr.mono hp), (h.si.mono hp), (h.wo.mono hp), h.as, h.wf.new⟩
      have hm := h.wa.2.mono hp (fun i z _ => mutF_k rfl)
      rw [hN, cN_nI (by omega)] at hm
      have hc1 : cN (nI N + 1) = N + 1 := by rw [← nI_succ, cN_nI (by omega)]
      have ho : OL _ _ (N + 1) 22 _ := hm.push (fs' := fun i => [(0, upd (σ.2 58) N x1 i), (1, upd (σ.2 59) N x2 i)]) (a := τ.2.2.2.2) (fun i hi => by
        have hne : ¬ i = N := by omega
        simp [upd, hne]) ⟨_, if_pos rfl, by simp [upd, updV]⟩
      refine ⟨⟨N + 1, (nI_succ N).symm, by omega⟩, ?_⟩
      show OL _ _ (cN (nI N + 1)) _ _
      rw [hc1]
      exact ho
    · exact Nat.le_succ _
  · rw [if_neg (by omega), if_neg (by omega)]
    exact Op.same h rfl rfl
theorem op_work (h : R τ σ) (x1 x2 x3 : Int32) : Op σ (x0_work F x1 x2 x3 τ) (m_work F x1 x2 x3 σ) := by
  obtain ⟨N, hN, hNb⟩ := h.wo.1
  have eN : τ.1.1 44 = nI N := by rw [← hN]; exact h.s.2.2.2.2.2.2.2.2.2.2.2.2.2.2.2.2
  have e26 : τ.1.1 26 = σ.1 79 := h.s.2.2.2.2.2.2.2.2.2.2.2.1
  simp only [x0_work, m_work, x0_in_e, x0_within_e, x0_isPlace_e, x0_isWeek_e, x0_isLayer_e, x0_isSpan_e, m_in_e, m_isPlace_e, m_isWeek_e, m_isLayer_e, m_isWall_e, x25_init_e, isC_xN, ob_s, bI_0, tk_00, nx_e, xN_1, xR_1, eN, e26, hN, sA_1, ni_c (show N < 2147483648 by omega), if_true, ite_not]
  try simp only [xS_at, sS_at, xR_1, xN_1, sA_1, eN, hN, if_true]
  simp only [i_eq, Int32.lt_iff_toInt_lt, Int32.le_iff_toInt_le, li_0, li_1, li_2, li_3, li_4, li_5, li_6, li_7, li_8, li_9, li_10, li_11, li_12, li_13, li_14, li_15, li_16, li_19, li_20, li_22, li_24, li_25, li_29, li_30, li_32, li_40, li_48, li_57, li_60, li_63, li_99, li_100, li_150, li_160, li_180, li_200, li_255, li_256, li_400, li_1000, li_9999, li_10000, li_99999, li_100000, li_100001, li_10001, li_1048576, li_3600, li_m1, li_m2, ni_i (show N < 2147483648 by omega), cj_n, cj_a, cj_b]
  by_cases hC : (0 ≤ x1.toInt ∧ x1.toInt < (σ.1 79).toInt) ∧ (1 ≤ x2.toInt ∧ x2.toInt ≤ 10000) ∧ (1 ≤ x3.toInt ∧ x3.toInt ≤ 100) ∧ N < 9
  · have ok : okI (nI N) 9 = true := okI_nI (by omega) (by omega)
    simp only [ok, if_true, and_self, tk_s]
    rw [if_pos (by omega), if_pos (by omega)]
    have hp := PM.new (M := M0) (e := .inr (25, updV (updV (updV (fun q => defaultValue (tyX25 q)) 0 (.int x1)) 1 (.int x2)) 2 (.int x3))) h.wf
    refine Op.mk rfl rfl ?_ ?_ (by decide) (by decide)
    · refine ⟨⟨h.s.1, h.s.2.1, h.s.2.2.1, h.s.2.2.2.1, h.s.2.2.2.2.1, h.s.2.2.2.2.2.1, h.s.2.2.2.2.2.2.1, h.s.2.2.2.2.2.2.2.1, h.s.2.2.2.2.2.2.2.2.1, h.s.2.2.2.2.2.2.2.2.2.1, h.s.2.2.2.2.2.2.2.2.2.2.1, h.s.2.2.2.2.2.2.2.2.2.2.2.1, h.s.2.2.2.2.2.2.2.2.2.2.2.2.1, h.s.2.2.2.2.2.2.2.2.2.2.2.2.2.1, h.s.2.2.2.2.2.2.2.2.2.2.2.2.2.2.1, h.s.2.2.2.2.2.2.2.2.2.2.2.2.2.2.2.1, rfl⟩, h.a, h.sc, (h.pl.mono hp), (h.dg.mono hp ⟨rfl, rfl, rfl⟩), (h.me.mono hp), (h.ru.mono hp), (h.fi.mono hp), (h.th.mono hp rfl), (h.wa.mono hp), (h.dr.mono hp), (h.si.mono hp), ?_, h.as, h.wf.new⟩
      have hm := h.wo.2.mono hp (fun i z _ => mutF_k rfl)
      rw [hN, cN_nI (by omega)] at hm
      have hc1 : cN (nI N + 1) = N + 1 := by rw [← nI_succ, cN_nI (by omega)]
      have ho : OL _ _ (N + 1) 25 _ := hm.push (fs' := fun i => [(0, upd (σ.2 79) N x1 i), (1, upd (σ.2 80) N x2 i), (2, upd (σ.2 81) N x3 i)]) (a := τ.2.2.2.2) (fun i hi => by
        have hne : ¬ i = N := by omega
        simp [upd, hne]) ⟨_, if_pos rfl, by simp [upd, updV]⟩
      refine ⟨⟨N + 1, (nI_succ N).symm, by omega⟩, ?_⟩
      show OL _ _ (cN (nI N + 1)) _ _
      rw [hc1]
      exact ho
    · exact Nat.le_succ _
  · rw [if_neg (by omega), if_neg (by omega)]
    exact Op.same h rfl rfl
theorem op_sign (h : R τ σ) (x1 x2 x3 x4 : Int32) : Op σ (x0_sign F x1 x2 x3 x4 τ) (m_sign F x1 x2 x3 x4 σ) := by
  obtain ⟨N, hN, hNb⟩ := h.si.1
  have eN : τ.1.1 42 = nI N := by rw [← hN]; exact h.s.2.2.2.2.2.2.2.2.2.2.2.2.2.2.2.1
  have e3 : τ.1.1 3 = σ.1 3 := h.s.2.2.2.1
  have e2 : τ.1.1 2 = σ.1 2 := h.s.2.2.1
  simp only [x0_sign, m_sign, x0_in_e, x0_within_e, x0_isPlace_e, x0_isWeek_e, x0_isLayer_e, x0_isSpan_e, m_in_e, m_isPlace_e, m_isWeek_e, m_isLayer_e, m_isWall_e, x24_init_e, isC_xN, ob_s, bI_0, tk_00, nx_e, xN_1, xR_1, eN, e3, e2, hN, sA_1, ni_c (show N < 2147483648 by omega), if_true, ite_not]
  try simp only [xS_at, sS_at, xR_1, xN_1, sA_1, eN, hN, if_true]
  simp only [i_eq, Int32.lt_iff_toInt_lt, Int32.le_iff_toInt_le, li_0, li_1, li_2, li_3, li_4, li_5, li_6, li_7, li_8, li_9, li_10, li_11, li_12, li_13, li_14, li_15, li_16, li_19, li_20, li_22, li_24, li_25, li_29, li_30, li_32, li_40, li_48, li_57, li_60, li_63, li_99, li_100, li_150, li_160, li_180, li_200, li_255, li_256, li_400, li_1000, li_9999, li_10000, li_99999, li_100000, li_100001, li_10001, li_1048576, li_3600, li_m1, li_m2, ni_i (show N < 2147483648 by omega), cj_n, cj_a, cj_b]
  by_cases hC : (0 ≤ x1.toInt ∧ x1.toInt < 30) ∧ (0 ≤ x2.toInt ∧ x2.toInt < 8) ∧ (0 ≤ x3.toInt ∧ x3.toInt < (σ.1 3).toInt) ∧ (0 ≤ x4.toInt ∧ x4.toInt ≤ (σ.1 2).toInt) ∧ N < 100
  · have ok : okI (nI N) 100 = true := okI_nI (by omega) (by omega)
    simp only [ok, if_true, and_self, tk_s]
    rw [if_pos (by omega), if_pos (by omega)]
    have hp := PM.new (M := M0) (e := .inr (24, updV (updV (updV (updV (fun q => defaultValue (tyX24 q)) 0 (.int x1)) 1 (.int x2)) 2 (.int x3)) 3 (.int x4))) h.wf
    refine Op.mk rfl rfl ?_ ?_ (by decide) (by decide)
    · refine ⟨⟨h.s.1, h.s.2.1, h.s.2.2.1, h.s.2.2.2.1, h.s.2.2.2.2.1, h.s.2.2.2.2.2.1, h.s.2.2.2.2.2.2.1, h.s.2.2.2.2.2.2.2.1, h.s.2.2.2.2.2.2.2.2.1, h.s.2.2.2.2.2.2.2.2.2.1, h.s.2.2.2.2.2.2.2.2.2.2.1, h.s.2.2.2.2.2.2.2.2.2.2.2.1, h.s.2.2.2.2.2.2.2.2.2.2.2.2.1, h.s.2.2.2.2.2.2.2.2.2.2.2.2.2.1, h.s.2.2.2.2.2.2.2.2.2.2.2.2.2.2.1, rfl, h.s.2.2.2.2.2.2.2.2.2.2.2.2.2.2.2.2⟩, h.a, h.sc, (h.pl.mono hp), (h.dg.mono hp ⟨rfl, rfl, rfl⟩), (h.me.mono hp), (h.ru.mono hp), (h.fi.mono hp), (h.th.mono hp rfl), (h.wa.mono hp), (h.dr.mono hp), ?_, (h.wo.mono hp), h.as, h.wf.new⟩
      have hm := h.si.2.1.mono hp (fun i z _ => mutF_k rfl)
      rw [hN, cN_nI (by omega)] at hm
      have hc1 : cN (nI N + 1) = N + 1 := by rw [← nI_succ, cN_nI (by omega)]
      have ho : OL _ _ (N + 1) 24 _ := hm.push (fs' := fun i => [(0, upd (σ.2 75) N x1 i), (1, upd (σ.2 76) N x2 i), (2, upd (σ.2 77) N x3 i), (3, upd (σ.2 78) N x4 i)]) (a := τ.2.2.2.2) (fun i hi => by
        have hne : ¬ i = N := by omega
        simp [upd, hne]) ⟨_, if_pos rfl, by simp [upd, updV]⟩
      have hb := h.si.2.2
      rw [hN, cN_nI (by omega)] at hb
      refine ⟨⟨N + 1, (nI_succ N).symm, by omega⟩, ?_, ?_⟩
      · show OL _ _ (cN (nI N + 1)) _ _
        rw [hc1]
        exact ho
      · show ∀ i, i < cN (nI N + 1) → 0 ≤ (upd (σ.2 75) N x1 i).toInt ∧ (upd (σ.2 75) N x1 i).toInt < 30
        rw [hc1]
        intro i hi
        by_cases hne : i = N
        · simp only [upd, hne, if_true]; omega
        · simp only [upd, hne, if_false]; exact hb i (by omega)
    · exact Nat.le_succ _
  · rw [if_neg (by omega), if_neg (by omega)]
    exact Op.same h rfl rfl
theorem op_thing (h : R τ σ) (x1 x2 x3 : Int32) : Op σ (x0_thing F x1 x2 x3 τ) (m_thing F x1 x2 x3 σ) := by
  obtain ⟨N, hN, hNb⟩ := h.th.1
  have eN : τ.1.1 18 = nI N := by rw [← hN]; exact h.s.2.2.2.2.2.2.2.2.2.1
  simp only [x0_thing, m_thing, x0_in_e, x0_within_e, x0_isPlace_e, x0_isWeek_e, x0_isLayer_e, x0_isSpan_e, m_in_e, m_isPlace_e, m_isWeek_e, m_isLayer_e, m_isWall_e, x21_init_e, isC_xN, ob_s, bI_0, tk_00, nx_e, xN_1, xR_1, eN, hN, sA_1, ni_c (show N < 2147483648 by omega), if_true, ite_not]
  try simp only [xS_at, sS_at, xR_1, xN_1, sA_1, eN, hN, if_true]
  simp only [i_eq, Int32.lt_iff_toInt_lt, Int32.le_iff_toInt_le, li_0, li_1, li_2, li_3, li_4, li_5, li_6, li_7, li_8, li_9, li_10, li_11, li_12, li_13, li_14, li_15, li_16, li_19, li_20, li_22, li_24, li_25, li_29, li_30, li_32, li_40, li_48, li_57, li_60, li_63, li_99, li_100, li_150, li_160, li_180, li_200, li_255, li_256, li_400, li_1000, li_9999, li_10000, li_99999, li_100000, li_100001, li_10001, li_1048576, li_3600, li_m1, li_m2, ni_i (show N < 2147483648 by omega), cj_n, cj_a, cj_b]
  by_cases hC : (0 ≤ x1.toInt ∧ x1.toInt < 10) ∧ (0 ≤ x2.toInt ∧ x2.toInt < 8) ∧ (0 ≤ x3.toInt ∧ x3.toInt < 256) ∧ N < 60
  · have ok : okI (nI N) 60 = true := okI_nI (by omega) (by omega)
    simp only [ok, if_true, and_self, tk_s]
    rw [if_pos (by omega), if_pos (by omega)]
    have hp := PM.new (M := M0) (e := .inr (21, updV (updV (updV (fun q => defaultValue (tyX21 q)) 0 (.int x1)) 1 (.int x2)) 2 (.int x3))) h.wf
    refine Op.mk rfl rfl ?_ ?_ (by decide) (by decide)
    · refine ⟨⟨h.s.1, h.s.2.1, h.s.2.2.1, h.s.2.2.2.1, h.s.2.2.2.2.1, h.s.2.2.2.2.2.1, h.s.2.2.2.2.2.2.1, h.s.2.2.2.2.2.2.2.1, h.s.2.2.2.2.2.2.2.2.1, rfl, h.s.2.2.2.2.2.2.2.2.2.2.1, h.s.2.2.2.2.2.2.2.2.2.2.2.1, h.s.2.2.2.2.2.2.2.2.2.2.2.2.1, h.s.2.2.2.2.2.2.2.2.2.2.2.2.2.1, h.s.2.2.2.2.2.2.2.2.2.2.2.2.2.2.1, h.s.2.2.2.2.2.2.2.2.2.2.2.2.2.2.2.1, h.s.2.2.2.2.2.2.2.2.2.2.2.2.2.2.2.2⟩, h.a, h.sc, (h.pl.mono hp), (h.dg.mono hp ⟨rfl, rfl, rfl⟩), (h.me.mono hp), (h.ru.mono hp), (h.fi.mono hp), ?_, (h.wa.mono hp), (h.dr.mono hp), (h.si.mono hp), (h.wo.mono hp), h.as, h.wf.new⟩
      have hm := h.th.2.1.mono hp (fun i z _ => mutF_n rfl)
      rw [hN, cN_nI (by omega)] at hm
      have hc1 : cN (nI N + 1) = N + 1 := by rw [← nI_succ, cN_nI (by omega)]
      have ho : OL _ _ (N + 1) 21 _ := hm.push (fs' := fun i => [(0, upd (σ.2 49) N x1 i), (1, upd (σ.2 50) N x2 i), (2, upd (σ.2 51) N x3 i), (3, σ.2 55 i)]) (a := τ.2.2.2.2) (fun i hi => by
        have hne : ¬ i = N := by omega
        simp [upd, hne]) ⟨_, if_pos rfl, by simp [upd, updV, tyX21, show σ.2 55 N = 0 from h.th.2.2.2.1 N (by rw [hN, cN_nI (by omega)]; exact Nat.le_refl _), defaultValue]⟩
      obtain ⟨-, ha0, hb, hz, hi⟩ := h.th
      rw [hN, cN_nI (by omega)] at hb hz hi ha0
      refine ⟨⟨N + 1, (nI_succ N).symm, by omega⟩, ?_, ?_, ?_, ?_⟩
      · show OL _ _ (cN (nI N + 1)) _ _
        rw [hc1]
        exact ho
      · show ∀ i, i < cN (nI N + 1) → 0 ≤ (upd (σ.2 51) N x3 i).toInt ∧ (upd (σ.2 51) N x3 i).toInt ≤ 255 ∧ okB (σ.2 55 i) = true
        rw [hc1]
        intro i hi
        by_cases hne : i = N
        · subst hne
          rw [hz i (Nat.le_refl _)]
          simp only [upd, if_true]
          exact ⟨by omega, by omega, rfl⟩
        · simp only [upd, hne, if_false]; exact hb i (by omega)
      · show ∀ i, cN (nI N + 1) ≤ i → σ.2 55 i = 0
        rw [hc1]
        exact fun i h => hz i (by omega)
      · show ∀ i j, i < cN (nI N + 1) → j < cN (nI N + 1) → va_up (τ.2.1 8) N (some τ.2.2.2.2) i = va_up (τ.2.1 8) N (some τ.2.2.2.2) j → i = j
        rw [hc1]
        have hlt : ∀ i, i < N → ∃ a, τ.2.1 8 i = some a ∧ a < τ.2.2.2.2 := by
          intro i hi
          obtain ⟨a, h1, V, h2, -⟩ := ha0 i hi
          exact ⟨a, h1, h.wf a _ h2⟩
        intro i j h1 h2 h3
        by_cases hin : i = N
        · by_cases hjn : j = N
          · omega
          · rw [hin, va_up_self, va_up_ne _ _ hjn] at h3
            obtain ⟨a, g1, g2⟩ := hlt j (by omega)
            rw [g1] at h3
            have := Option.some.inj h3
            omega
        · by_cases hjn : j = N
          · rw [hjn, va_up_self, va_up_ne _ _ hin] at h3
            obtain ⟨a, g1, g2⟩ := hlt i (by omega)
            rw [g1] at h3
            have := Option.some.inj h3
            omega
          · rw [va_up_ne _ _ hin, va_up_ne _ _ hjn] at h3
            exact hi i j (by omega) (by omega) h3
    · exact Nat.le_succ _
  · rw [if_neg (by omega), if_neg (by omega)]
    exact Op.same h rfl rfl
theorem op_find (h : R τ σ) (x1 x2 x3 x4 x5 x6 x7 x8 : Int32) : Op σ (x0_find F x1 x2 x3 x4 x5 x6 x7 x8 τ) (m_find F x1 x2 x3 x4 x5 x6 x7 x8 σ) := by
  obtain ⟨N, hN, hNb⟩ := h.fi.1
  have eN : τ.1.1 16 = nI N := by rw [← hN]; exact h.s.2.2.2.2.2.2.2.2.1
  have e2 : τ.1.1 2 = σ.1 2 := h.s.2.2.1
  simp only [x0_find, m_find, x0_in_e, x0_within_e, x0_isPlace_e, x0_isWeek_e, x0_isLayer_e, x0_isSpan_e, m_in_e, m_isPlace_e, m_isWeek_e, m_isLayer_e, m_isWall_e, x20_init_e, isC_xN, ob_s, bI_0, tk_00, nx_e, xN_1, xR_1, eN, e2, hN, sA_1, ni_c (show N < 2147483648 by omega), if_true, ite_not]
  try simp only [xS_at, sS_at, xR_1, xN_1, sA_1, eN, hN, if_true]
  simp only [i_eq, Int32.lt_iff_toInt_lt, Int32.le_iff_toInt_le, li_0, li_1, li_2, li_3, li_4, li_5, li_6, li_7, li_8, li_9, li_10, li_11, li_12, li_13, li_14, li_15, li_16, li_19, li_20, li_22, li_24, li_25, li_29, li_30, li_32, li_40, li_48, li_57, li_60, li_63, li_99, li_100, li_150, li_160, li_180, li_200, li_255, li_256, li_400, li_1000, li_9999, li_10000, li_99999, li_100000, li_100001, li_10001, li_1048576, li_3600, li_m1, li_m2, ni_i (show N < 2147483648 by omega), cj_n, cj_a, cj_b]
  by_cases hC : (0 ≤ x1.toInt ∧ x1.toInt < 8) ∧ (0 ≤ x2.toInt ∧ x2.toInt ≤ x3.toInt ∧ x3.toInt ≤ (σ.1 2).toInt) ∧ ¬ 20 ≤ (x3 - x2).toInt ∧ (0 ≤ x4.toInt ∧ x4.toInt ≤ 99) ∧ (0 ≤ x5.toInt ∧ x5.toInt < 8) ∧ (x5.toInt ≤ x6.toInt ∧ x6.toInt ≤ 7) ∧ (0 ≤ x7.toInt ∧ x7.toInt < 8) ∧ (0 ≤ x8.toInt ∧ x8.toInt < 256) ∧ N < 150
  · have ok : okI (nI N) 150 = true := okI_nI (by omega) (by omega)
    simp only [ok, if_true, and_self, tk_s]
    rw [if_pos (by omega), if_pos (by omega)]
    have hp := PM.new (M := M0) (e := .inr (20, updV (updV (updV (updV (updV (updV (updV (updV (updV (fun q => defaultValue (tyX20 q)) 0 (.int x1)) 1 (.int x2)) 2 (.int x3)) 3 (.int x4)) 4 (.int x5)) 5 (.int x6)) 6 (.int x7)) 7 (.int x8)) 8 (.int (σ.1 2)))) h.wf
    refine Op.mk rfl rfl ?_ ?_ (by decide) (by decide)
    · refine ⟨⟨h.s.1, h.s.2.1, h.s.2.2.1, h.s.2.2.2.1, h.s.2.2.2.2.1, h.s.2.2.2.2.2.1, h.s.2.2.2.2.2.2.1, h.s.2.2.2.2.2.2.2.1, rfl, h.s.2.2.2.2.2.2.2.2.2.1, h.s.2.2.2.2.2.2.2.2.2.2.1, h.s.2.2.2.2.2.2.2.2.2.2.2.1, h.s.2.2.2.2.2.2.2.2.2.2.2.2.1, h.s.2.2.2.2.2.2.2.2.2.2.2.2.2.1, h.s.2.2.2.2.2.2.2.2.2.2.2.2.2.2.1, h.s.2.2.2.2.2.2.2.2.2.2.2.2.2.2.2.1, h.s.2.2.2.2.2.2.2.2.2.2.2.2.2.2.2.2⟩, h.a, h.sc, (h.pl.mono hp), (h.dg.mono hp ⟨rfl, rfl, rfl⟩), (h.me.mono hp), (h.ru.mono hp), ?_, (h.th.mono hp rfl), (h.wa.mono hp), (h.dr.mono hp), (h.si.mono hp), (h.wo.mono hp), h.as, h.wf.new⟩
      have hm := h.fi.2.1.mono hp (fun i z _ => mutF_k rfl)
      rw [hN, cN_nI (by omega)] at hm
      have hc1 : cN (nI N + 1) = N + 1 := by rw [← nI_succ, cN_nI (by omega)]
      have ho : OL _ _ (N + 1) 20 _ := hm.push (fs' := fun i => [(0, upd (σ.2 40) N x1 i), (1, upd (σ.2 41) N x2 i), (2, upd (σ.2 42) N x3 i), (3, upd (σ.2 43) N x4 i), (4, upd (σ.2 44) N x5 i), (5, upd (σ.2 45) N x6 i), (6, upd (σ.2 46) N x7 i), (7, upd (σ.2 47) N x8 i), (8, upd (σ.2 48) N (σ.1 2) i)]) (a := τ.2.2.2.2) (fun i hi => by
        have hne : ¬ i = N := by omega
        simp [upd, hne]) ⟨_, if_pos rfl, by simp [upd, updV]⟩
      have hb := h.fi.2.2
      rw [hN, cN_nI (by omega)] at hb
      have hn9 := h.sc.2.2.2.2.2.1
      have hsp : (x3 - x2).toInt = x3.toInt - x2.toInt := i_sub (by omega) (by omega)
      refine ⟨⟨N + 1, (nI_succ N).symm, by omega⟩, ?_, ?_⟩
      · show OL _ _ (cN (nI N + 1)) _ _
        rw [hc1]
        exact ho
      · show ∀ i, i < cN (nI N + 1) → 0 ≤ (upd (σ.2 41) N x2 i).toInt ∧ (upd (σ.2 41) N x2 i).toInt ≤ (upd (σ.2 42) N x3 i).toInt ∧ (upd (σ.2 42) N x3 i).toInt ≤ (upd (σ.2 41) N x2 i).toInt + 19 ∧ (upd (σ.2 42) N x3 i).toInt ≤ 9999 ∧ 0 ≤ (upd (σ.2 47) N x8 i).toInt ∧ (upd (σ.2 47) N x8 i).toInt ≤ 255 ∧ (upd (σ.2 48) N (σ.1 2) i).toInt ≤ (σ.1 2).toInt
        rw [hc1]
        intro i hi
        by_cases hne : i = N
        · simp only [upd, hne, if_true]; omega
        · simp only [upd, hne, if_false]; exact hb i (by omega)
    · show cN (σ.1 3) + cN (nI N + 1) ≤ pf σ + 1
      unfold pf
      rw [hN, ← nI_succ, cN_nI (by omega), cN_nI (by omega)]
      omega
  · rw [if_neg (by omega), if_neg (by omega)]
    exact Op.same h rfl rfl
end OPS
