def aS (σ : MS) (j : Nat) (f : Nat → Int32) : MS := (σ.1, fun q => if q = j then f else σ.2 q)
theorem aS_aS (σ : MS) (j : Nat) (f g : Nat → Int32) : aS (aS σ j f) j g = aS σ j g := by
  unfold aS
  simp only [Prod.mk.injEq, true_and]
  funext q
  by_cases hq : q = j <;> simp [hq]
theorem sA_aS (σ : MS) (j i : Nat) (f : Nat → Int32) (v : Int32) : sA (aS σ j f) j i v = aS σ j (upd f i v) := by
  unfold sA aS
  simp only [Prod.mk.injEq, true_and]
  funext q
  by_cases hq : q = j <;> simp [hq]
theorem sA_aS_ne (σ : MS) (j j' i : Nat) (f : Nat → Int32) (v : Int32) (h : ¬ j' = j) : sA (aS σ j f) j' i v = aS (sA σ j' i v) j f := by
  unfold sA aS
  simp only [Prod.mk.injEq, true_and]
  funext q
  by_cases hq : q = j
  · have : ¬ j = j' := fun e => h e.symm
    simp [hq, this]
  · by_cases hq2 : q = j' <;> simp [hq, hq2, h]
def fl (n : Nat) (v : Int32) (f : Nat → Int32) : Nat → Int32 := fun i => if i < n then v else f i
theorem fl_0 (v : Int32) (f : Nat → Int32) : fl 0 v f = f := by funext i; simp [fl]
theorem fl_s (n : Nat) (v : Int32) (f : Nat → Int32) : upd (fl n v f) n v = fl (n + 1) v f := by
  funext i
  unfold upd fl
  by_cases h1 : i = n
  · simp [h1]
  · by_cases h2 : i < n
    · have : i < n + 1 := by omega
      simp [h1, h2, this]
    · have : ¬ i < n + 1 := by omega
      simp [h1, h2, this]
theorem aS_id (σ : MS) (j : Nat) : aS σ j (σ.2 j) = σ := by
  unfold aS
  apply Prod.ext
  · rfl
  · funext q
    by_cases hq : q = j <;> simp [hq]
section SIMPLE3
variable {F : Nat} {τ : XS} {σ : MS}
theorem city_fill (hF : 200 ≤ F) : lp (x0_city_B55 F) F (0, τ) = some (1, (aS τ.1 3 (fl 100 8 (τ.1.2 3)), τ.2), 0, 0) := by
  obtain ⟨v, h1, h2⟩ := lp_one (B := x0_city_B55 F) (fun a => ∃ k : Nat, k ≤ 100 ∧ a = (nI k, (aS τ.1 3 (fl k 8 (τ.1.2 3)), τ.2))) (fun a => 100 - cN a.1) (fun v => v = (1, (aS τ.1 3 (fl 100 8 (τ.1.2 3)), τ.2), 0, 0)) (by
    intro R a hi ih
    obtain ⟨k, hk, rfl⟩ := hi
    unfold x0_city_B55
    simp only [Int32.le_iff_toInt_le, li_100, ni_i (show k < 2147483648 by omega)]
    by_cases hk2 : k = 100
    · subst hk2
      rw [if_pos (by omega)]
      exact ⟨_, rfl, rfl⟩
    · rw [if_neg (by omega), if_pos (okI_nI (by omega) (by omega)), nx_e, ni_c (by omega)]
      refine ih _ ⟨k + 1, by omega, ?_⟩ ?_
      · unfold xA
        rw [sA_aS, fl_s, ← nI_succ]
      · show 100 - cN (nI k + 1) < 100 - cN (nI k)
        rw [← nI_succ, cN_nI (by omega), cN_nI (by omega)]
        omega) F (0, τ) ⟨0, by omega, by rw [fl_0, aS_id]; rfl⟩ (by show 100 - cN 0 < F; omega)
  rw [h1, h2]
theorem begins_fill (hF : 200 ≤ F) : lp (m_begins_B12 F) F (0, σ) = some (0, aS (aS σ 0 (fl 100 8 (σ.2 0))) 1 (fl 100 (-1) (σ.2 1))) := by
  obtain ⟨v, h1, h2⟩ := lp_one (B := m_begins_B12 F) (fun a => ∃ k : Nat, k ≤ 100 ∧ a = (nI k, aS (aS σ 0 (fl k 8 (σ.2 0))) 1 (fl k (-1) (σ.2 1)))) (fun a => 100 - cN a.1) (fun v => v = (0, aS (aS σ 0 (fl 100 8 (σ.2 0))) 1 (fl 100 (-1) (σ.2 1)))) (by
    intro R a hi ih
    obtain ⟨k, hk, rfl⟩ := hi
    unfold m_begins_B12
    simp only [Int32.le_iff_toInt_le, li_100, ni_i (show k < 2147483648 by omega)]
    by_cases hk2 : k = 100
    · subst hk2
      rw [if_pos (by omega)]
      exact ⟨_, rfl, rfl⟩
    · rw [if_neg (by omega), if_pos (okI_nI (by omega) (by omega)), nx_e, nx_e, ni_c (by omega), if_pos (okI_nI (by omega) (by omega))]
      refine ih _ ⟨k + 1, by omega, ?_⟩ ?_
      · rw [sA_aS_ne _ _ _ _ _ _ (by decide), sA_aS, sA_aS, fl_s, fl_s, ← nI_succ]
      · show 100 - cN (nI k + 1) < 100 - cN (nI k)
        rw [← nI_succ, cN_nI (by omega), cN_nI (by omega)]
        omega) F (0, σ) ⟨0, by omega, by
          rw [fl_0, fl_0, aS_id]
          show (0, σ) = (nI 0, aS σ 1 (σ.2 1))
          rw [aS_id]
          rfl⟩ (by show 100 - cN 0 < F; omega)
  rw [h1, h2]
theorem cN_le0 {x : Int32} (h : x.toInt ≤ 0) : cN x = 0 := by
  unfold cN
  have h4 : x.toNatClampNeg = x.toInt.toNat := rfl
  omega
theorem op_city (hF : 200 ≤ F) (h : R τ σ) (x1 x2 : Int32) : Op σ (x0_city F x1 x2 τ) (m_city F x1 x2 σ) := by
  simp only [x0_city, m_city, m_begins, x0_within_e, m_in_e, ob_s, bI_0, nx_e, ite_not, h.e3, h.e4, h.e35, city_fill hF, begins_fill hF]
  simp only [Int32.lt_iff_toInt_lt, Int32.le_iff_toInt_le, li_0, li_1, li_2, li_3, li_4, li_5, li_6, li_7, li_8, li_9, li_10, li_11, li_12, li_13, li_14, li_15, li_16, li_19, li_20, li_22, li_24, li_25, li_29, li_30, li_32, li_40, li_48, li_57, li_60, li_63, li_99, li_100, li_150, li_160, li_180, li_200, li_255, li_256, li_400, li_1000, li_9999, li_10000, li_99999, li_100000, li_100001, li_10001, li_1048576, li_3600, li_m1, li_m2, cj_n, cj_a, cj_b]
  by_cases hC : (4 ≤ x1.toInt ∧ x1.toInt ≤ 10) ∧ (4 ≤ x2.toInt ∧ x2.toInt ≤ 10) ∧ ¬ 0 < (σ.1 3).toInt ∧ ¬ 0 < (σ.1 4).toInt ∧ (σ.1 90).toInt ≤ 0
  · rw [if_pos (by omega), if_pos (by omega)]
    refine Op.mk rfl rfl ?_ (Nat.le_succ _) (by decide) (by decide)
    obtain ⟨s1, s2, s3, s4, s5⟩ := h.sc
    have n3 : cN (σ.1 3) = 0 := cN_le0 (by omega)
    have n4 : cN (σ.1 4) = 0 := cN_le0 (by omega)
    have n90 : cN (σ.1 90) = 0 := cN_le0 (by omega)
    have hw : x1.toInt * x2.toInt ≤ 10 * 10 := Int.mul_le_mul (by omega) (by omega) (by omega) (by omega)
    refine ⟨⟨rfl, rfl, h.s.2.2.1, h.s.2.2.2.1, h.s.2.2.2.2.1, h.s.2.2.2.2.2.1, h.s.2.2.2.2.2.2.1, h.s.2.2.2.2.2.2.2.1, h.s.2.2.2.2.2.2.2.2.1, h.s.2.2.2.2.2.2.2.2.2.1, h.s.2.2.2.2.2.2.2.2.2.2.1, h.s.2.2.2.2.2.2.2.2.2.2.2.1, h.s.2.2.2.2.2.2.2.2.2.2.2.2.1, h.s.2.2.2.2.2.2.2.2.2.2.2.2.2.1, h.s.2.2.2.2.2.2.2.2.2.2.2.2.2.2.1, h.s.2.2.2.2.2.2.2.2.2.2.2.2.2.2.2.1, h.s.2.2.2.2.2.2.2.2.2.2.2.2.2.2.2.2⟩, ⟨?_, h.a.2.1, h.a.2.2.1, h.a.2.2.2.1, h.a.2.2.2.2.1, h.a.2.2.2.2.2.1, h.a.2.2.2.2.2.2.1, h.a.2.2.2.2.2.2.2.1, h.a.2.2.2.2.2.2.2.2⟩, ⟨hC.1.1, hC.1.2, hC.2.1.1, hC.2.1.2, s5⟩, ⟨h.pl.1, fun p hp => ?_, fun c hc => ⟨Or.inl ?_, fun p hp => ?_⟩⟩, ⟨h.dg.1, fun i hi => ?_, id, fun k hk => ?_, fun k hk => ?_, fun k l hk hl => ?_⟩, h.me, h.ru, h.fi, h.th, h.wa, h.dr, h.si, h.wo, ⟨h.as.1, h.as.2.1, h.as.2.2.1, h.as.2.2.2.1, fun k hk => ?_⟩, h.wf⟩
    · show fl 100 8 (τ.1.2 3) = fl 100 8 (σ.2 0); rw [h.a3]
    · have hp : p < cN (σ.1 3) := hp
      omega
    · have hc : (c : Int) < x1.toInt * x2.toInt := hc
      show fl 100 (-1) (σ.2 1) c = -1
      unfold fl
      rw [if_pos (by omega)]
    · have hp : p < cN (σ.1 3) := hp
      omega
    · have hi : i < cN (σ.1 4) := hi
      omega
    · have hk : k < cN (σ.1 4) := hk
      omega
    · have hk : k < cN (σ.1 4) := hk
      omega
    · have hl : l < cN (σ.1 4) := hl
      omega
    · have hk : k < cN (σ.1 90) := hk
      omega
  · rw [if_neg (by omega), if_neg (by omega)]
    exact Op.same h rfl rfl
theorem x23_init_e (x1 x2 x3 x4 x5 x6 : Int32) (V : Nat → Value) (hb : okB x5 = true) : x23_init F τ.2.2.2.2 x1 x2 x3 x4 x5 x6 (xN τ (.inr (23, V))) = some (0, xN τ (.inr (23, updV (updV (updV (updV (updV (updV V 0 (.int x1)) 1 (.int x2)) 2 (.int x3)) 3 (.int x4)) 5 (.int x5)) 4 (.int x6))), 0, 0) := by
  simp only [x23_init, pF_xN (List.mem_singleton.mpr rfl), ob_s, hb, if_true]
theorem draws_op (h : R τ σ) {N : Nat} (hN : σ.1 80 = nI N) (hNb : N < 100) (x1 x2 x3 x4 : Int32) (hb : okB x4 = true) : ∃ τ' σ', x0_draws F x1 x2 x3 x4 τ = some (nI N + 1 - 1, τ', 1, 6) ∧ m_draws F x1 x2 x3 x4 σ = some (nI N + 1 - 1, σ') ∧ R τ' σ' ∧ pf σ' = pf σ := by
  have eN : τ.1.1 27 = nI N := by rw [← hN]; exact h.e27
  have hnr : vp_nar .boolean x4 = x4 := by unfold vp_nar; rw [okB_nar hb]
  have ok : okI (nI N) 100 = true := okI_nI hNb (by omega)
  have hp := PM.new (M := M0) (e := .inr (23, updV (updV (updV (updV (updV (updV (fun q => defaultValue (tyX23 q)) 0 (.int (nI N))) 1 (.int x1)) 2 (.int x2)) 3 (.int x3)) 5 (.int x4)) 4 (.int (σ.1 2)))) h.wf
  generalize hE : updV (updV (updV (updV (updV (updV (fun q => defaultValue (tyX23 q)) 0 (.int (nI N))) 1 (.int x1)) 2 (.int x2)) 3 (.int x3)) 5 (.int x4)) 4 (.int (σ.1 2)) = E at hp
  refine ⟨xS (xR (xN τ (.inr (23, E))) 22 N (some τ.2.2.2.2)) 27 (nI N + 1), sS (sA (sA (sA (sA (sA σ 60 N x1) 61 N x2) 62 N x3) 63 N (σ.1 2)) 65 N x4) 80 (nI N + 1), ?_, ?_, ?_, rfl⟩
  · simp only [x0_draws, nx_e, xN_1, eN, h.e2, x23_init_e _ _ _ _ _ _ _ hb, ob_s, tk_00, isC_xN, if_true, ok, ni_c (show N < 2147483648 by omega), xR_1, xS_at, tk_s, hE]
  · simp only [m_draws, nx_e, hN, sA_1, ok, if_true, ni_c (show N < 2147483648 by omega), sS_at, hnr]
  · refine ⟨⟨h.s.1, h.s.2.1, h.s.2.2.1, h.s.2.2.2.1, h.s.2.2.2.2.1, h.s.2.2.2.2.2.1, h.s.2.2.2.2.2.2.1, h.s.2.2.2.2.2.2.2.1, h.s.2.2.2.2.2.2.2.2.1, h.s.2.2.2.2.2.2.2.2.2.1, h.s.2.2.2.2.2.2.2.2.2.2.1, h.s.2.2.2.2.2.2.2.2.2.2.2.1, rfl, h.s.2.2.2.2.2.2.2.2.2.2.2.2.2.1, h.s.2.2.2.2.2.2.2.2.2.2.2.2.2.2.1, h.s.2.2.2.2.2.2.2.2.2.2.2.2.2.2.2.1, h.s.2.2.2.2.2.2.2.2.2.2.2.2.2.2.2.2⟩, h.a, h.sc, (h.pl.mono hp), (h.dg.mono hp ⟨rfl, rfl, rfl⟩), (h.me.mono hp), (h.ru.mono hp), (h.fi.mono hp), (h.th.mono hp rfl), (h.wa.mono hp), ?_, (h.si.mono hp), (h.wo.mono hp), h.as, h.wf.new⟩
    have hm := h.dr.2.mono hp (fun i z _ => mutF_k rfl)
    rw [hN, cN_nI (by omega)] at hm
    have hc1 : cN (nI N + 1) = N + 1 := by rw [← nI_succ, cN_nI (by omega)]
    have ho : OL _ _ (N + 1) 23 _ := hm.push (fs' := fun i => [(0, nI i), (1, upd (σ.2 60) N x1 i), (2, upd (σ.2 61) N x2 i), (3, upd (σ.2 62) N x3 i), (4, upd (σ.2 63) N (σ.1 2) i), (5, upd (σ.2 65) N x4 i)]) (a := τ.2.2.2.2) (fun i hi => by
        have hne : ¬ i = N := by omega
        simp [upd, hne]) ⟨_, if_pos rfl, by rw [← hE]; simp [upd, updV]⟩
    refine ⟨⟨N + 1, (nI_succ N).symm, by omega⟩, ?_⟩
    show OL _ _ (cN (nI N + 1)) _ _
    rw [hc1]
    exact ho
theorem op_draw (h : R τ σ) (x1 x2 x3 : Int32) : Op σ (x0_draw F x1 x2 x3 τ) (m_draw F x1 x2 x3 σ) := by
  obtain ⟨N, hN, hNb⟩ := h.dr.1
  have eN : τ.1.1 27 = nI N := by rw [← hN]; exact h.e27
  simp only [x0_draw, m_draw, x0_in_e, x0_within_e, m_isWall_e, m_in_e, ob_s, bI_0, ite_not, eN, hN, h.e26, h.e2]
  simp only [Int32.le_iff_toInt_le, li_0, li_1, li_2, li_3, li_4, li_5, li_6, li_7, li_8, li_9, li_10, li_11, li_12, li_13, li_14, li_15, li_16, li_19, li_20, li_22, li_24, li_25, li_29, li_30, li_32, li_40, li_48, li_57, li_60, li_63, li_99, li_100, li_150, li_160, li_180, li_200, li_255, li_256, li_400, li_1000, li_9999, li_10000, li_99999, li_100000, li_100001, li_10001, li_1048576, li_3600, li_m1, li_m2, ni_i (show N < 2147483648 by omega), cj_n, cj_a, cj_b]
  by_cases hC : (0 ≤ x1.toInt ∧ x1.toInt < (σ.1 79).toInt) ∧ (0 ≤ x2.toInt ∧ x2.toInt ≤ (σ.1 2).toInt) ∧ (0 ≤ x3.toInt ∧ x3.toInt < 256) ∧ N < 100
  · rw [if_pos (by omega), if_pos (by omega)]
    obtain ⟨τ', σ', h1, h2, h3, h4⟩ := draws_op (F := F) h hN hC.2.2.2 x1 x2 x3 0 rfl
    simp only [h1, h2, ob_s, tk_s]
    exact Op.mk rfl rfl h3 (by omega) (by decide) (by decide)
  · rw [if_neg (by omega), if_neg (by omega)]
    exact Op.same h rfl rfl
theorem op_copy (h : R τ σ) (x1 x2 : Int32) : Op σ (x0_copy F x1 x2 τ) (m_copy F x1 x2 σ) := by
  obtain ⟨⟨N, hN, hNb⟩, hl⟩ := h.dr
  rw [hN, cN_nI (by omega)] at hl
  have eN : τ.1.1 27 = nI N := by rw [← hN]; exact h.e27
  simp only [x0_copy, m_copy, x0_in_e, x0_within_e, m_in_e, ob_s, bI_0, ite_not, eN, hN, h.e2]
  simp only [Int32.lt_iff_toInt_lt, Int32.le_iff_toInt_le, li_0, li_1, li_2, li_3, li_4, li_5, li_6, li_7, li_8, li_9, li_10, li_11, li_12, li_13, li_14, li_15, li_16, li_19, li_20, li_22, li_24, li_25, li_29, li_30, li_32, li_40, li_48, li_57, li_60, li_63, li_99, li_100, li_150, li_160, li_180, li_200, li_255, li_256, li_400, li_1000, li_9999, li_10000, li_99999, li_100000, li_100001, li_10001, li_1048576, li_3600, li_m1, li_m2, ni_i (show N < 2147483648 by omega)]
  simp only [cj_n, cj_a, cj_b]
  by_cases hC : (0 ≤ x1.toInt ∧ x1.toInt < N) ∧ (0 ≤ x2.toInt ∧ x2.toInt ≤ (σ.1 2).toInt) ∧ N < 100
  · have ok : okI x1 100 = true := okI_i hC.1.1 (by omega)
    have hcl := c_i hC.1.1
    obtain ⟨a, h1, h2⟩ := hl x1.toNatClampNeg (by omega)
    simp only [ok, if_true, and_self, h1, ob_s, h2.gI (k := 1) (x := σ.2 60 x1.toNatClampNeg) (by simp) (List.mem_singleton.mpr rfl), h2.gI (k := 3) (x := σ.2 62 x1.toNatClampNeg) (by simp) (List.mem_singleton.mpr rfl)]
    rw [if_pos (by omega), if_pos (by omega)]
    obtain ⟨τ', σ', h1, h2, h3, h4⟩ := draws_op (F := F) h hN hC.2.2 (σ.2 60 x1.toNatClampNeg) x2 (σ.2 62 x1.toNatClampNeg) 1 rfl
    simp only [h1, h2, ob_s, tk_s]
    exact Op.mk rfl rfl h3 (by omega) (by decide) (by decide)
  · rw [if_neg (by omega), if_neg (by omega)]
    exact Op.same h rfl rfl
/-! loops downward -/
theorem dn_0 : nI 0 - 1 = -1 := by decide
theorem dn_s (k : Nat) : nI (k + 1) - 1 = nI k := by rw [nI_succ]; exact Int32.add_sub_cancel _ _
theorem dn_m (k : Nat) : nI k + (-1) = nI k - 1 := by rw [Int32.sub_eq_add_neg]
theorem dn_n {k : Nat} (h : k < 2147483648) : ¬ nI k < 0 := by rw [Int32.lt_iff_toInt_lt, ni_i h, li_0]; omega
theorem meaningOf_j (hF : 300 ≤ F) (h : R τ σ) (x1 x2 x3 : Int32) : ∃ v, x0_meaningOf F x1 x2 x3 τ = some (v, τ, 0, 0) ∧ m_meaningOf F x1 x2 x3 σ = some (v, σ) := by
  obtain ⟨⟨N, hN, hNb⟩, hl⟩ := h.me
  rw [hN, cN_nI (by omega)] at hl
  have eN : τ.1.1 12 = nI N := by rw [← hN]; exact h.e12
  unfold x0_meaningOf m_meaningOf
  rw [nx_e, eN, hN]
  obtain ⟨v, w, h1, h2, u, h3, h4⟩ := lp_join (BX := x0_meaningOf_B8 F x1 x2 x3) (BM := m_meaningOf_B8 F x1 x2 x3) (fun a b => ∃ k : Nat, k ≤ N ∧ a = (nI k - 1, τ) ∧ b = (nI k - 1, σ)) (fun a _ => cN (a.1 + 1)) (fun v w => ∃ u, v = (u, τ, 0, 0) ∧ w = (u, σ)) (by
    intro RX RM a b hi ih
    obtain ⟨k, hk, rfl, rfl⟩ := hi
    unfold x0_meaningOf_B8 m_meaningOf_B8
    cases k with
    | zero =>
      rw [if_pos (show (nI 0 - 1 : Int32) < 0 by decide), if_pos (show (nI 0 - 1 : Int32) < 0 by decide)]
      exact ⟨_, _, rfl, rfl, _, rfl, rfl⟩
    | succ k =>
      obtain ⟨ad, g1, g2⟩ := hl k (by omega)
      have ok : okI (nI k) 200 = true := okI_nI (by omega) (by omega)
      have ih' := ih (nI k - 1, τ) (nI k - 1, σ) ⟨k, by omega, rfl, rfl⟩ (by
        show cN (nI k - 1 + 1) < cN (nI (k + 1) - 1 + 1)
        rw [Int32.sub_add_cancel, Int32.sub_add_cancel, cN_nI (by omega), cN_nI (by omega)]
        omega)
      simp only [dn_s, dn_n (show k < 2147483648 by omega), if_false, ok, if_true, ni_c (show k < 2147483648 by omega), g1, ob_s, g2.gI (k := 0) (x := σ.2 15 k) (by simp) (List.mem_singleton.mpr rfl), g2.gI (k := 1) (x := σ.2 16 k) (by simp) (List.mem_singleton.mpr rfl), g2.gI (k := 2) (x := σ.2 17 k) (by simp) (List.mem_singleton.mpr rfl), g2.gI (k := 3) (x := σ.2 18 k) (by simp) (List.mem_singleton.mpr rfl), g2.gI (k := 4) (x := σ.2 19 k) (by simp) (List.mem_singleton.mpr rfl), x0_within_e, m_in_e, bI_0, ite_not, dn_m]
      by_cases c1 : σ.2 15 k = x1
      · rw [if_pos c1, if_pos c1]
        by_cases c2 : σ.2 16 k = x2
        · rw [if_pos c2, if_pos c2]
          by_cases c3 : (σ.2 18 k).toInt ≤ x3.toInt ∧ x3.toInt ≤ (σ.2 19 k).toInt
          · rw [if_pos c3, if_pos c3]
            exact ⟨_, _, rfl, rfl, _, rfl, rfl⟩
          · rw [if_neg c3, if_neg c3]
            exact ih'
        · rw [if_neg c2, if_neg c2]
          exact ih'
      · rw [if_neg c1, if_neg c1]
        exact ih') F (nI N - 1, τ) (nI N - 1, σ) ⟨N, Nat.le_refl _, rfl, rfl⟩ (by
        show cN (nI N - 1 + 1) < F
        rw [Int32.sub_add_cancel, cN_nI (by omega)]
        omega)
  exact ⟨u, by rw [h1, h3], by rw [h2, h4]⟩
theorem op_meaning (hF : 300 ≤ F) (h : R τ σ) (x1 x2 x3 : Int32) : Op σ (x0_meaning F x1 x2 x3 τ) (m_meaning F x1 x2 x3 σ) := by
  obtain ⟨v, h1, h2⟩ := meaningOf_j hF h x1 x2 x3
  simp only [x0_meaning, m_meaning, x0_in_e, x0_within_e, x0_isWeek_e, m_in_e, m_isWeek_e, ob_s, bI_0, ite_not, h1, h2, tk_00]
  simp only [li_0, li_1, li_2, li_3, li_4, li_5, li_6, li_7, li_8, li_9, li_10, li_11, li_12, li_13, li_14, li_15, li_16, li_19, li_20, li_22, li_24, li_25, li_29, li_30, li_32, li_40, li_48, li_57, li_60, li_63, li_99, li_100, li_150, li_160, li_180, li_200, li_255, li_256, li_400, li_1000, li_9999, li_10000, li_99999, li_100000, li_100001, li_10001, li_1048576, li_3600, li_m1, li_m2, cj_a]
  by_cases hC : (0 ≤ x1.toInt ∧ x1.toInt < 4) ∧ (1 ≤ x2.toInt ∧ x2.toInt ≤ 99) ∧ (0 ≤ x3.toInt ∧ x3.toInt < 10000)
  · rw [if_pos (by omega), if_pos (by omega)]
    exact Op.same h rfl rfl
  · rw [if_neg (by omega), if_neg (by omega)]
    exact Op.same h rfl rfl
end SIMPLE3
