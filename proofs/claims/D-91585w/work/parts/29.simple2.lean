section SIMPLE2
variable {F : Nat} {τ : XS} {σ : MS}
theorem PM.upE {M : Nat → Bool} {τ : XS} {a c k : Nat} {V : Nat → Value} {v : Value} (h0 : τ.2.2.2.1 a = some (.inr (c, V))) (hm : mutF M c k = true) : PM M τ.2.2.2.1 (xP τ a (.inr (c, updV V k v))).2.2.2.1 := by
  refine PM.up h0 (Or.inr (Or.inl ⟨c, V, _, rfl, rfl, fun q hq => ?_⟩))
  unfold updV
  by_cases hqk : q = k
  · rw [hqk, hm] at hq; cases hq
  · rw [if_neg hqk]
theorem kind3 {k : Int32} (h0 : 0 ≤ k.toInt) (h2 : k.toInt ≤ 2) : 5 + cN k ∈ [5, 6, 7] ∧ (5 + cN k = 5 ∨ 5 + cN k = 6 ∨ 5 + cN k = 7) := by
  have hc := c_i h0
  have : cN k = 0 ∨ cN k = 1 ∨ cN k = 2 := by unfold cN; omega
  rcases this with h | h | h <;> rw [h] <;> simp
theorem op_strike (h : R τ σ) (x1 : Int32) : Op σ (x0_strike F x1 τ) (m_strike F x1 σ) := by
  obtain ⟨⟨N, hN, hNb⟩, hd, ho⟩ := h.dg
  rw [hN, cN_nI (by omega)] at hd
  have eN : τ.1.1 4 = nI N := by rw [← hN]; exact h.e4
  simp only [x0_strike, m_strike, x0_in_e, m_isDig_e, ob_s, bI_0, ite_not, eN, hN, nx_e, h.e2]
  simp only [ni_i (show N < 2147483648 by omega)]
  by_cases hC : 0 ≤ x1.toInt ∧ x1.toInt < N
  · have hcl := c_i hC.1
    have ok : okI x1 100 = true := okI_i hC.1 (by omega)
    obtain ⟨a, h1, hdo, hr, hk0, hk2, hfr⟩ := hd x1.toNatClampNeg (by omega)
    obtain ⟨b, V, g0, g1, g2, g3, g4, g5, g6, g7, g8, g9, g10⟩ := hdo
    obtain ⟨hc1, hc2⟩ := kind3 hk0 hk2
    rw [if_pos hC, if_pos hC]
    simp only [ok, if_true, h1, ob_s, gI_of g0 hc1 g9, pF_of g0 hc1]
    by_cases hs : σ.2 14 x1.toNatClampNeg = -1
    · rw [if_pos hs, if_pos hs]
      have hmu : mutF Md (5 + cN (σ.2 6 x1.toNatClampNeg)) 8 = true := by rcases hc2 with q | q | q <;> rw [q] <;> rfl
      have hp : PM Md τ.2.2.2.1 (xP τ a (.inr (5 + cN (σ.2 6 x1.toNatClampNeg), updV V 8 (.int (σ.1 2))))).2.2.2.1 := PM.upE g0 hmu
      refine Op.mk rfl rfl ?_ (Nat.le_succ _) (by decide) (by decide)
      refine ⟨h.s, h.a, h.sc, (h.pl.mono hp), ?_, (h.me.mono hp), (h.ru.mono hp), (h.fi.mono hp), (h.th.mono hp rfl), (h.wa.mono hp), (h.dr.mono hp), (h.si.mono hp), (h.wo.mono hp), h.as, h.wf.up g0⟩
      refine ⟨⟨N, hN, hNb⟩, ?_, ho⟩
      show ∀ i, i < cN (σ.1 4) → _
      rw [hN, cN_nI (by omega)]
      intro i hi
      obtain ⟨a', k1, k2, k3, k4, k5, k6⟩ := hd i hi
      refine ⟨a', k1, ?_, k3, k4, k5, k6⟩
      by_cases hix : i = x1.toNatClampNeg
      · subst hix
        cases h1.symm.trans k1
        refine ⟨b, updV V 8 (.int (σ.1 2)), if_pos rfl, g1, g2, g3, g4, g5, g6, g7, g8, ?_, g10.mono hp⟩
        show Value.int (σ.1 2) = .int (upd (σ.2 14) x1.toNatClampNeg (σ.1 2) x1.toNatClampNeg)
        simp [upd]
      · obtain ⟨b', V', q0, q1, q2, q3, q4, q5, q6, q7, q8, q9, q10⟩ := k2
        have hne : ¬ a' = a := by
          intro e
          rw [e] at q0
          have e2 := Sum.inr.inj (Option.some.inj (g0.symm.trans q0))
          have e3 := congrArg Prod.snd e2
          have e4 : V = V' := e3
          rw [← e4, g1] at q1
          have e5 := ni_inj (by omega) (by omega) (Value.int.inj q1)
          omega
        refine ⟨b', V', (if_neg hne).trans q0, q1, q2, q3, q4, q5, q6, q7, q8, ?_, q10.mono hp⟩
        show V' 8 = .int (upd (σ.2 14) x1.toNatClampNeg (σ.1 2) i)
        rw [q9]
        simp [upd, hix]
    · rw [if_neg hs, if_neg hs]
      exact Op.same h rfl rfl
  · rw [if_neg hC, if_neg hC]
    exact Op.same h rfl rfl
theorem op_gone (h : R τ σ) (x1 x2 : Int32) (hb : okB x2 = true) : Op σ (x0_gone F x1 x2 τ) (m_gone F x1 x2 σ) := by
  obtain ⟨⟨N, hN, hNb⟩, hl, hbd, hz, hinj⟩ := h.th
  rw [hN, cN_nI (by omega)] at hl hbd hz hinj
  have eN : τ.1.1 18 = nI N := by rw [← hN]; exact h.e18
  simp only [x0_gone, m_gone, x0_in_e, m_isThing_e, ob_s, bI_0, ite_not, eN, hN, nx_e, hb, if_true]
  simp only [ni_i (show N < 2147483648 by omega)]
  by_cases hC : 0 ≤ x1.toInt ∧ x1.toInt < N
  · have hcl := c_i hC.1
    have ok : okI x1 60 = true := okI_i hC.1 (by omega)
    obtain ⟨a, h1, V, g0, g1⟩ := hl x1.toNatClampNeg (by omega)
    have g3 : V 3 = .int (σ.2 55 x1.toNatClampNeg) := g1 (3, _) (by simp)
    rw [if_pos hC, if_pos hC]
    simp only [ok, if_true, h1, ob_s, gI_of g0 (List.mem_singleton.mpr rfl) g3, pF_of g0 (List.mem_singleton.mpr rfl)]
    by_cases hs : σ.2 55 x1.toNatClampNeg = x2
    · rw [if_pos hs, if_pos hs]
      exact Op.same h rfl rfl
    · rw [if_neg hs, if_neg hs]
      have hnr : vp_nar .boolean x2 = x2 := by unfold vp_nar; rw [okB_nar hb]
      rw [hnr]
      have hp : PM Mt τ.2.2.2.1 (xP τ a (.inr (21, updV V 3 (.int x2)))).2.2.2.1 := PM.upE g0 rfl
      refine Op.mk rfl rfl ?_ (Nat.le_succ _) (by decide) (by decide)
      refine ⟨h.s, h.a, h.sc, (h.pl.mono hp), (h.dg.mono hp ⟨rfl, rfl, rfl⟩), (h.me.mono hp), (h.ru.mono hp), (h.fi.mono hp), ?_, (h.wa.mono hp), (h.dr.mono hp), (h.si.mono hp), (h.wo.mono hp), h.as, h.wf.up g0⟩
      refine ⟨⟨N, hN, hNb⟩, ?_, ?_, ?_, ?_⟩
      · show OL _ _ (cN (σ.1 68)) _ _
        rw [hN, cN_nI (by omega)]
        intro i hi
        obtain ⟨a', k1, V', k2, k3⟩ := hl i hi
        by_cases hix : i = x1.toNatClampNeg
        · subst hix
          cases h1.symm.trans k1
          refine ⟨a, h1, updV V 3 (.int x2), if_pos rfl, ?_⟩
          have j0 := g1 (0, σ.2 49 x1.toNatClampNeg) (by simp)
          have j1 := g1 (1, σ.2 50 x1.toNatClampNeg) (by simp)
          have j2 := g1 (2, σ.2 51 x1.toNatClampNeg) (by simp)
          simp only at j0 j1 j2
          show ∀ z ∈ [(0, σ.2 49 x1.toNatClampNeg), (1, σ.2 50 x1.toNatClampNeg), (2, σ.2 51 x1.toNatClampNeg), (3, upd (σ.2 55) x1.toNatClampNeg x2 x1.toNatClampNeg)], _
          simp [upd, updV, j0, j1, j2]
        · have hne : ¬ a' = a := by
            intro e
            exact hix (hinj i _ hi (by omega) (by rw [k1, h1, e]))
          refine ⟨a', k1, V', (if_neg hne).trans k2, ?_⟩
          show ∀ z ∈ [(0, σ.2 49 i), (1, σ.2 50 i), (2, σ.2 51 i), (3, upd (σ.2 55) x1.toNatClampNeg x2 i)], _
          simp only [upd, hix, if_false]
          exact k3
      · show ∀ i, i < cN (σ.1 68) → 0 ≤ (σ.2 51 i).toInt ∧ (σ.2 51 i).toInt ≤ 255 ∧ okB (upd (σ.2 55) x1.toNatClampNeg x2 i) = true
        rw [hN, cN_nI (by omega)]
        intro i hi
        by_cases hix : i = x1.toNatClampNeg
        · simp only [upd, hix, if_true]
          exact ⟨(hbd _ (by omega)).1, (hbd _ (by omega)).2.1, hb⟩
        · simp only [upd, hix, if_false]
          exact hbd i hi
      · show ∀ i, cN (σ.1 68) ≤ i → upd (σ.2 55) x1.toNatClampNeg x2 i = 0
        rw [hN, cN_nI (by omega)]
        intro i hi
        have hix : ¬ i = x1.toNatClampNeg := by omega
        simp only [upd, hix, if_false]
        exact hz i hi
      · show ∀ i j, i < cN (σ.1 68) → j < cN (σ.1 68) → _
        rw [hN, cN_nI (by omega)]
        exact hinj
  · rw [if_neg hC, if_neg hC]
    exact Op.same h rfl rfl
/-! tape -/
def tpX (τ : XS) (f : Nat → Int32) (n : Nat) : XS := ((fun q => if q = 5 then nI n else τ.1.1 q, fun q => if q = 4 then f else τ.1.2 q), τ.2)
def tpM (σ : MS) (f : Nat → Int32) (n : Nat) : MS := (fun q => if q = 28 then nI n else σ.1 q, fun q => if q = 20 then f else σ.2 q)
theorem tpX2 (τ : XS) (f g : Nat → Int32) (n m : Nat) : tpX (tpX τ f n) g m = tpX τ g m := by
  unfold tpX
  simp only [Prod.mk.injEq, and_true]
  constructor <;> funext q
  · by_cases hq : q = 5 <;> simp [hq]
  · by_cases hq : q = 4 <;> simp [hq]
theorem tpM2 (σ : MS) (f g : Nat → Int32) (n m : Nat) : tpM (tpM σ f n) g m = tpM σ g m := by
  unfold tpM
  simp only [Prod.mk.injEq]
  constructor <;> funext q
  · by_cases hq : q = 28 <;> simp [hq]
  · by_cases hq : q = 20 <;> simp [hq]
theorem tpX_st (τ : XS) (f : Nat → Int32) (n i : Nat) (v : Int32) (h : i = n) (hn : n < 2147483648) : xS (xA (tpX τ f n) 4 i v) 5 ((xA (tpX τ f n) 4 i v).1.1 5 + 1) = tpX τ (upd f n v) (n + 1) := by
  subst h
  unfold tpX xS xA sS sA
  simp only [Prod.mk.injEq, and_true, if_true]
  constructor <;> funext q
  · by_cases hq : q = 5 <;> simp [hq, nI_succ]
  · by_cases hq : q = 4 <;> simp [hq]
theorem tpM_st (σ : MS) (f : Nat → Int32) (n i : Nat) (v : Int32) (h : i = n) (hn : n < 2147483648) : sS (sA (tpM σ f n) 20 i v) 28 ((sA (tpM σ f n) 20 i v).1 28 + 1) = tpM σ (upd f n v) (n + 1) := by
  subst h
  unfold tpM sS sA
  simp only [Prod.mk.injEq, if_true]
  constructor <;> funext q
  · by_cases hq : q = 28 <;> simp [hq, nI_succ]
  · by_cases hq : q = 20 <;> simp [hq]
theorem push_one {G : Nat} (x k : Int32) (τ : XS) (f : Nat → Int32) (n : Nat) (hn : n < 400) (hk : ¬ k < 0) (R : Int32 × XS → XR Int32) : x0_push_B3 G x R (k, tpX τ f n) = R (k + (-8), tpX τ (upd f n (vp_nar .byte ((x >>> (k &&& 31)).toInt8.toInt32))) (n + 1)) := by
  have e5 : (tpX τ f n).1.1 5 = nI n := rfl
  simp only [x0_push_B3, hk, if_false, e5, okI_nI hn (by omega), if_true, nx_e]
  rw [tpX_st _ _ _ _ _ (ni_c (by omega)) (by omega)]
theorem type_one {G : Nat} (x k : Int32) (σ : MS) (f : Nat → Int32) (n : Nat) (hn : n < 400) (hk : ¬ k < 0) (R : Int32 × MS → Option (Int32 × MS)) : m_types_B2 G x R (k, tpM σ f n) = R (k + (-1), tpM σ (upd f n (vp_nar .byte ((x >>> ((8 * k) &&& 31)).toInt8.toInt32))) (n + 1)) := by
  have e5 : (tpM σ f n).1 28 = nI n := rfl
  simp only [m_types_B2, hk, if_false, e5, okI_nI hn (by omega), if_true, nx_e]
  rw [tpM_st _ _ _ _ _ (ni_c (by omega)) (by omega)]
theorem push_types (hF : 10 ≤ F) (x : Int32) (τ : XS) (σ : MS) (f : Nat → Int32) (n : Nat) (hn : n + 4 ≤ 400) : ∃ g, x0_push F x (tpX τ f n) = some (0, tpX τ g (n + 4), 0, 0) ∧ m_types F x (tpM σ f n) = some (0, tpM σ g (n + 4)) := by
  obtain ⟨G, rfl⟩ : ∃ G, F = G + 5 := ⟨F - 5, by omega⟩
  refine ⟨upd (upd (upd (upd f n (vp_nar .byte ((x >>> (24 &&& 31)).toInt8.toInt32))) (n + 1) (vp_nar .byte ((x >>> (16 &&& 31)).toInt8.toInt32))) (n + 2) (vp_nar .byte ((x >>> (8 &&& 31)).toInt8.toInt32))) (n + 3) (vp_nar .byte ((x >>> (0 &&& 31)).toInt8.toInt32)), ?_, ?_⟩
  · unfold x0_push
    rw [lp_s, push_one _ _ _ _ _ (by omega) (by decide), lp_s, push_one _ _ _ _ _ (by omega) (by decide), lp_s, push_one _ _ _ _ _ (by omega) (by decide), lp_s, push_one _ _ _ _ _ (by omega) (by decide), lp_s, x0_push_B3, if_pos (show (24 + -8 + -8 + -8 + -8 : Int32) < 0 by decide)]
    rfl
  · unfold m_types
    rw [lp_s, type_one _ _ _ _ _ (by omega) (by decide), lp_s, type_one _ _ _ _ _ (by omega) (by decide), lp_s, type_one _ _ _ _ _ (by omega) (by decide), lp_s, type_one _ _ _ _ _ (by omega) (by decide), lp_s, m_types_B2, if_pos (show (3 + -1 + -1 + -1 + -1 : Int32) < 0 by decide)]
    rfl
theorem tpX_id (τ : XS) (n : Nat) (h : τ.1.1 5 = nI n) : tpX τ (τ.1.2 4) n = τ := by
  obtain ⟨⟨s, a⟩, r⟩ := τ
  unfold tpX
  simp only [Prod.mk.injEq, and_true]
  constructor <;> funext q
  · by_cases hq : q = 5
    · simp only [hq, if_true]; exact h.symm
    · simp [hq]
  · by_cases hq : q = 4 <;> simp [hq]
theorem tpM_id (σ : MS) (n : Nat) (h : σ.1 28 = nI n) : tpM σ (σ.2 20) n = σ := by
  obtain ⟨s, a⟩ := σ
  unfold tpM
  simp only [Prod.mk.injEq]
  constructor <;> funext q
  · by_cases hq : q = 28
    · simp only [hq, if_true]; exact h.symm
    · simp [hq]
  · by_cases hq : q = 20 <;> simp [hq]
theorem op_feed (hF : 10 ≤ F) (h : R τ σ) (x1 x2 x3 x4 x5 : Int32) : Op σ (x0_feed F x1 x2 x3 x4 x5 τ) (m_feed F x1 x2 x3 x4 x5 σ) := by
  obtain ⟨s1, s2, s3, s4, s5, s6, ⟨N, hN, hNb⟩, s8, s9⟩ := h.sc
  have eN : τ.1.1 5 = nI N := by rw [← hN]; exact h.e5
  have h20 : (nI N + 20).toInt = N + 20 := by rw [i_add (by rw [li_20, ni_i (by omega)]; omega) (by rw [li_20, ni_i (by omega)]; omega), li_20, ni_i (by omega)]
  unfold x0_feed m_feed
  simp only [eN, hN, Int32.le_iff_toInt_le, h20, li_400]
  by_cases hC : (N : Int) + 20 ≤ 400
  · rw [if_pos hC, if_pos hC]
    obtain ⟨g1, p1, q1⟩ := push_types hF x1 τ σ (τ.1.2 4) N (by omega)
    obtain ⟨g2, p2, q2⟩ := push_types hF x2 τ σ g1 (N + 4) (by omega)
    obtain ⟨g3, p3, q3⟩ := push_types hF x3 τ σ g2 (N + 4 + 4) (by omega)
    obtain ⟨g4, p4, q4⟩ := push_types hF x4 τ σ g3 (N + 4 + 4 + 4) (by omega)
    obtain ⟨g5, p5, q5⟩ := push_types hF x5 τ σ g4 (N + 4 + 4 + 4 + 4) (by omega)
    rw [tpX_id _ _ eN] at p1
    rw [h.a4, tpM_id _ _ hN] at q1
    simp only [p1, p2, p3, p4, p5, q1, q2, q3, q4, q5, ob_s, tk_00]
    refine Op.mk rfl rfl ?_ (Nat.le_succ _) (by decide) (by decide)
    exact ⟨⟨h.s.1, h.s.2.1, h.s.2.2.1, h.s.2.2.2.1, h.s.2.2.2.2.1, rfl, h.s.2.2.2.2.2.2.1, h.s.2.2.2.2.2.2.2.1, h.s.2.2.2.2.2.2.2.2.1, h.s.2.2.2.2.2.2.2.2.2.1, h.s.2.2.2.2.2.2.2.2.2.2.1, h.s.2.2.2.2.2.2.2.2.2.2.2.1, h.s.2.2.2.2.2.2.2.2.2.2.2.2.1, h.s.2.2.2.2.2.2.2.2.2.2.2.2.2.1, h.s.2.2.2.2.2.2.2.2.2.2.2.2.2.2.1, h.s.2.2.2.2.2.2.2.2.2.2.2.2.2.2.2.1, h.s.2.2.2.2.2.2.2.2.2.2.2.2.2.2.2.2⟩, ⟨h.a.1, rfl, h.a.2.2.1, h.a.2.2.2.1, h.a.2.2.2.2.1, h.a.2.2.2.2.2.1, h.a.2.2.2.2.2.2.1, h.a.2.2.2.2.2.2.2.1, h.a.2.2.2.2.2.2.2.2⟩, ⟨s1, s2, s3, s4, s5, s6, ⟨N + 4 + 4 + 4 + 4 + 4, rfl, by omega⟩, s8, s9⟩, h.pl, h.dg, h.me, h.ru, h.fi, h.th, h.wa, h.dr, h.si, h.wo, h.as, h.wf⟩
  · rw [if_neg hC, if_neg hC]
    exact Op.same h rfl rfl
end SIMPLE2
