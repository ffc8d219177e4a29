section DIG2
variable {F : Nat} {τ : XS} {σ : MS}
theorem dig_60 (h : R τ σ) {N : Nat} (hN : σ.1 4 = nI N) (hNb : N ≤ 100) (e : pE) (x1 x2 x5 x6 x7 x8 : Int32) (r : Nat) (hk : 0 ≤ x2.toInt ∧ x2.toInt ≤ 2) (h0 : x2 = 0 → x5 = 0) :
    x0_dig_60 F x1 x2 x5 x6 x7 x8 (some r) (xN τ e) = if (0 ≤ x7.toInt ∧ x7.toInt ≤ x8.toInt ∧ x8.toInt ≤ (σ.1 2).toInt) ∧ ¬ (N : Int) = 100 then tk 1 9 (x0_dig_173 F (τ.2.2.2.2 + 1) (xN (xN τ e) (.inr (5 + cN x2, dgV (5 + cN x2) (nI N) x1 r x5 x6 x7 x8 (σ.1 2))))) else some (-1, xN τ e, 0, 0) := by
  have e4 : τ.1.1 4 = nI N := by rw [← hN]; exact h.e4
  have hsz : (xN τ e).2.2.2.2 = τ.2.2.2.2 + 1 := rfl
  have i5 := fun V (y4 y5 y6 y7 y8 : Int32) => x4_init_e (F := F) (τ := xN τ e) (c := 5) (by simp) (nI N) x1 y4 y5 y6 y7 y8 r V
  have i6 := fun V (y4 y5 y6 y7 y8 : Int32) => x4_init_e (F := F) (τ := xN τ e) (c := 6) (by simp) (nI N) x1 y4 y5 y6 y7 y8 r V
  have i7 := fun V (y4 y5 y6 y7 y8 : Int32) => x4_init_e (F := F) (τ := xN τ e) (c := 7) (by simp) (nI N) x1 y4 y5 y6 y7 y8 r V
  simp only [x0_dig_60, x0_isSpan_e, ob_s, tk_00, bI_0, ite_not, nx_e, xN_1, e4, h.e2, x5_init, x6_init, x7_init, i5, i6, i7]
  have hc : ((nI N = 100) = ((N : Int) = 100)) := by rw [i_eq, ni_i (by omega), li_100]
  simp only [hc]
  by_cases c1 : 0 ≤ x7.toInt ∧ x7.toInt ≤ x8.toInt ∧ x8.toInt ≤ (σ.1 2).toInt
  · rw [if_pos c1]
    by_cases c2 : (N : Int) = 100
    · rw [if_pos c2, if_neg (fun q : (0 ≤ x7.toInt ∧ x7.toInt ≤ x8.toInt ∧ x8.toInt ≤ (σ.1 2).toInt) ∧ ¬ (N : Int) = 100 => q.2 c2)]
    · rw [if_neg c2, if_pos (show (0 ≤ x7.toInt ∧ x7.toInt ≤ x8.toInt ∧ x8.toInt ≤ (σ.1 2).toInt) ∧ ¬ (N : Int) = 100 from ⟨c1, c2⟩)]
      rcases kind_c hk.1 hk.2 with ⟨rfl, ec⟩ | ⟨rfl, ec⟩ | ⟨rfl, ec⟩
      · rw [if_pos (show (0 : Int32) = 0 from rfl), ec, h0 rfl]
        rfl
      · rw [if_neg (show ¬ (1 : Int32) = 0 by decide), if_pos (show (1 : Int32) = 1 from rfl), ec]
        rfl
      · rw [if_neg (show ¬ (2 : Int32) = 0 by decide), if_neg (show ¬ (2 : Int32) = 1 by decide), ec]
        rfl
  · rw [if_neg c1, if_neg (fun q : (0 ≤ x7.toInt ∧ x7.toInt ≤ x8.toInt ∧ x8.toInt ≤ (σ.1 2).toInt) ∧ ¬ (N : Int) = 100 => c1 q.1)]
theorem op_dig (hF : 200 ≤ F) (h : R τ σ) (x1 x2 x3 x4 x5 x6 x7 x8 : Int32) : Op σ (x0_dig F x1 x2 x3 x4 x5 x6 x7 x8 τ) (m_dig F x1 x2 x3 x4 x5 x6 x7 x8 σ) := by
  obtain ⟨N, hN, hNb⟩ := h.dg.1
  have dR := Classical.propDecidable (okR (σ.1 0) (σ.1 1) x3 x4)
  have hm58 : ∀ σ' , σ' = σ → m_dig_58 F x1 x2 x3 x4 x5 x6 x7 x8 σ' = if (0 ≤ x7.toInt ∧ x7.toInt ≤ x8.toInt ∧ x8.toInt ≤ (σ.1 2).toInt) ∧ ¬ (N : Int) = 100 then some (nI N + 1 - 1, sS (sA (sA (sA (sA (sA (sA (sA (sA (sA (sA σ 5 N x1) 6 N x2) 7 N x3) 8 N x4) 9 N x5) 10 N x6) 11 N x7) 12 N x8) 13 N (σ.1 2)) 14 N (-1)) 4 (nI N + 1)) else some (-1, σ) := by
    intro σ' e
    subst e
    unfold m_dig_58
    simp only [m_in_e, ob_s, bI_0, ite_not, hN, nx_e, sA_1, sS_at, if_true, ni_c (show N < 2147483648 by omega), li_0]
    have hc : ((nI N = 100) = ((N : Int) = 100)) := by rw [i_eq, ni_i (by omega), li_100]
    simp only [hc]
    by_cases c1 : 0 ≤ x7.toInt ∧ x7.toInt ≤ x8.toInt ∧ x8.toInt ≤ (σ'.1 2).toInt
    · by_cases c2 : (N : Int) = 100
      · rw [if_neg (fun q : (0 ≤ x7.toInt ∧ x7.toInt ≤ x8.toInt ∧ x8.toInt ≤ (σ'.1 2).toInt) ∧ ¬ (N : Int) = 100 => q.2 c2), if_pos (show 0 ≤ x7.toInt ∧ x7.toInt ≤ (σ'.1 2).toInt by omega), if_pos (show x7.toInt ≤ x8.toInt ∧ x8.toInt ≤ (σ'.1 2).toInt by omega), if_pos c2]
      · have ok : okI (nI N) 100 = true := okI_nI (by omega) (by omega)
        simp only [ok, if_true]
        rw [if_pos (show (0 ≤ x7.toInt ∧ x7.toInt ≤ x8.toInt ∧ x8.toInt ≤ (σ'.1 2).toInt) ∧ ¬ (N : Int) = 100 from ⟨c1, c2⟩), if_pos (show 0 ≤ x7.toInt ∧ x7.toInt ≤ (σ'.1 2).toInt by omega), if_pos (show x7.toInt ≤ x8.toInt ∧ x8.toInt ≤ (σ'.1 2).toInt by omega), if_neg c2]
    · rw [if_neg (fun q : (0 ≤ x7.toInt ∧ x7.toInt ≤ x8.toInt ∧ x8.toInt ≤ (σ'.1 2).toInt) ∧ ¬ (N : Int) = 100 => c1 q.1)]
      by_cases c3 : 0 ≤ x7.toInt ∧ x7.toInt ≤ (σ'.1 2).toInt
      · rw [if_pos c3, if_neg (show ¬ (x7.toInt ≤ x8.toInt ∧ x8.toInt ≤ (σ'.1 2).toInt) by omega)]
      · rw [if_neg c3]
  unfold x0_dig m_dig
  simp only [m_in_e, m_isRect_e (d := dR) h, m_isLayer_e, ob_s, bI_0, ite_not, hm58 σ rfl]
  simp only [li_0, li_1, li_2, li_3, li_4, li_5, li_6, li_7, li_8, li_9, li_10, li_11, li_12, li_13, li_14, li_15, li_16, li_19, li_20, li_22, li_24, li_25, li_29, li_30, li_32, li_40, li_48, li_57, li_60, li_63, li_99, li_100, li_150, li_160, li_180, li_200, li_255, li_256, li_400, li_1000, li_9999, li_10000, li_99999, li_100000, li_100001, li_10001, li_1048576, li_3600, li_m1, li_m2]
  rcases between_e (F := F) h x3 x4 with ⟨hok, hbe⟩ | ⟨hok, hbe⟩
  · have hR1 := h.new (.inr (2, rcV (σ.1 0) x3 x4))
    have hfail : Op σ (some ((-1 : Int32), xN τ (.inr (2, rcV (σ.1 0) x3 x4)), 1, 4)) (some (-1, σ)) := Op.mk rfl rfl hR1 (Nat.le_succ _) (by decide) (by decide)
    simp only [hbe, ob_s, x0_in_e, x0_isLayer_e, x0_within_e, bI_0, ite_not]
    rw [if_neg (show ¬ (some τ.2.2.2.2 = none) by simp)]
    by_cases c1 : ¬ (0 ≤ x1.toInt ∧ x1.toInt < (8 : Int32).toInt)
    · rw [if_neg c1, tk_s]
      rw [li_8] at c1
      rw [if_neg (show ¬ (0 ≤ x1.toInt ∧ x1.toInt ≤ 7) by omega)]
      exact hfail
    replace c1 := Classical.not_not.mp c1
    rw [if_pos c1]
    rw [li_8] at c1
    rw [if_pos (show 0 ≤ x1.toInt ∧ x1.toInt ≤ 7 by omega)]
    by_cases c2 : ¬ (0 ≤ x2.toInt ∧ x2.toInt < (3 : Int32).toInt)
    · rw [if_neg c2, tk_s]
      rw [li_3] at c2
      rw [if_neg (show ¬ (0 ≤ x2.toInt ∧ x2.toInt ≤ 2) by omega)]
      exact hfail
    replace c2 := Classical.not_not.mp c2
    rw [if_pos c2]
    rw [li_3] at c2
    rw [if_pos (show 0 ≤ x2.toInt ∧ x2.toInt ≤ 2 by omega), if_pos hok]
    by_cases c3 : ¬ (0 ≤ x5.toInt ∧ x5.toInt < 8)
    · rw [if_neg c3, tk_s, if_neg c3]
      exact hfail
    replace c3 := Classical.not_not.mp c3
    rw [if_pos c3, if_pos c3]
    by_cases c4 : ¬ (x5.toInt ≤ x6.toInt ∧ x6.toInt ≤ (7 : Int32).toInt)
    · rw [if_neg c4, tk_s]
      rw [li_7] at c4
      rw [if_neg c4]
      exact hfail
    replace c4 := Classical.not_not.mp c4
    rw [if_pos c4]
    rw [li_7] at c4
    rw [if_pos c4]
    by_cases c5 : x2 = 0 ∧ 0 < x5
    · have c52 := c5.2
      rw [Int32.lt_iff_toInt_lt, li_0] at c52
      rw [if_pos c5.1, if_pos c5.2, tk_s, if_pos c5.1, if_neg (fun q : x5 = 0 => by rw [q, li_0] at c52; omega)]
      exact hfail
    have h0 : x2 = 0 → x5 = 0 := by
      intro q
      rw [i_eq, li_0]
      have : ¬ 0 < x5 := fun z => c5 ⟨q, z⟩
      rw [Int32.lt_iff_toInt_lt, li_0] at this
      omega
    have hD : ∀ D : XR Int32, (if x2 = 0 then (if 0 < x5 then some ((-1 : Int32), xN τ (.inr (2, rcV (σ.1 0) x3 x4)), 0, 0) else D) else D) = D := by
      intro D
      by_cases q : x2 = 0
      · rw [if_pos q, if_neg (fun z => c5 ⟨q, z⟩)]
      · rw [if_neg q]
    have hD2 : ∀ D : Option (Int32 × MS), (if x2 = 0 then (if x5 = 0 then D else some ((-1 : Int32), σ)) else D) = D := by
      intro D
      by_cases q : x2 = 0
      · rw [if_pos q, if_pos (h0 q)]
      · rw [if_neg q]
    rw [hD, hD2, dig_60 h hN hNb _ x1 x2 x5 x6 x7 x8 _ (by omega) h0]
    by_cases c6 : (0 ≤ x7.toInt ∧ x7.toInt ≤ x8.toInt ∧ x8.toInt ≤ (σ.1 2).toInt) ∧ ¬ (N : Int) = 100
    · rw [if_pos c6, if_pos c6]
      obtain ⟨τ', d1, d2⟩ := dig_173 hF h hN (by omega) x1 x2 x3 x4 x5 x6 x7 x8 hok (by omega) c6.1.1
      rw [d1, tk_s, tk_s]
      exact Op.mk rfl rfl d2 (Nat.le_succ _) (by decide) (by decide)
    · rw [if_neg c6, if_neg c6, tk_s]
      exact hfail
  · simp only [hbe, ob_s, x0_in_e, x0_isLayer_e, x0_within_e, bI_0, ite_not, tk_00, if_true]
    by_cases c1 : 0 ≤ x1.toInt ∧ x1.toInt < (8 : Int32).toInt
    · rw [if_pos c1]
      rw [li_8] at c1
      rw [if_pos (show 0 ≤ x1.toInt ∧ x1.toInt ≤ 7 by omega)]
      by_cases c2 : 0 ≤ x2.toInt ∧ x2.toInt < (3 : Int32).toInt
      · rw [if_pos c2]
        rw [li_3] at c2
        rw [if_pos (show 0 ≤ x2.toInt ∧ x2.toInt ≤ 2 by omega), if_neg hok]
        exact Op.same h rfl rfl
      · rw [if_neg c2]
        rw [li_3] at c2
        rw [if_neg (show ¬ (0 ≤ x2.toInt ∧ x2.toInt ≤ 2) by omega)]
        exact Op.same h rfl rfl
    · rw [if_neg c1]
      rw [li_8] at c1
      rw [if_neg (show ¬ (0 ≤ x1.toInt ∧ x1.toInt ≤ 7) by omega)]
      exact Op.same h rfl rfl
end DIG2
