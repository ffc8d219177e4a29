section PLACE2
variable {F : Nat} {τ : XS} {σ : MS}
theorem op_placeOf (hF : 200 ≤ F) (h : R τ σ) (x1 : Int32) : Op σ (x0_placeOf F x1 τ) (m_placeOf F x1 σ) := by
  obtain ⟨w1, w2, w3⟩ := wh_b h
  obtain ⟨s1, s2, s3, s4, -⟩ := h.sc
  obtain ⟨⟨N, hN, hNb⟩, hp, hpat⟩ := h.pl
  rw [hN, cN_nI (by omega)] at hp hpat
  have e3 : τ.1.1 3 = nI N := by rw [← hN]; exact h.e3
  have hw := w_ne h
  simp only [x0_placeOf, m_placeOf, x0_isCell_e, m_isCell_e, ob_s, tk_00, bI_0, ite_not, h.e0, h.e1]
  by_cases hC : 0 ≤ x1.toInt ∧ x1.toInt < (σ.1 0 * σ.1 1).toInt
  · rw [if_pos hC, if_pos hC, if_pos (okI_i hC.1 (by omega))]
    have hcl := c_i hC.1
    obtain ⟨hq1, hq2⟩ := hpat x1.toNatClampNeg (by omega)
    have dI := fun w c A B => Classical.propDecidable (inS w c A B)
    obtain ⟨v, h1, h2⟩ := lp_one (B := x0_placeOf_B12 F x1) (fun a => ∃ p : Nat, p ≤ N ∧ a = (nI p, τ) ∧ ∀ q, q < p → ¬ inR (σ.1 0) x1.toInt (σ.2 3 q) (σ.2 4 q)) (fun a => N - cN a.1) (fun v => v = (σ.2 1 x1.toNatClampNeg, τ, 0, 0)) (by
      intro RX a hi ih
      obtain ⟨p, hpN, rfl, hno⟩ := hi
      unfold x0_placeOf_B12
      simp only [e3, Int32.le_iff_toInt_le, ni_i (show p < 2147483648 by omega), ni_i (show N < 2147483648 by omega)]
      by_cases hend : p = N
      · subst hend
        rw [if_pos (by omega)]
        refine ⟨_, rfl, ?_⟩
        rcases hq1 with hq1 | ⟨q, hq3, hq4⟩
        · rw [hq1]
        · have := (hq2 q hq3).mp hq4
          rw [hcl] at this
          exact absurd this (hno q hq3)
      rw [if_neg (by omega)]
      obtain ⟨⟨a, b, V, k1, k2, k3, k4, k5, k6⟩, hr⟩ := hp p (by omega)
      simp only [okI_nI (show p < 30 by omega) (show 30 < 2147483648 by omega), if_true, ni_c (show p < 2147483648 by omega), k1, ob_s, gN_of k2 (List.mem_singleton.mpr rfl) k5, h.e0, hw, not_false_eq_true, k6.isC (List.mem_singleton.mpr rfl), x2_has_e (d := dI) x1 k6, tk_00, bI_0, ite_not]
      have hin := inS_inR (w := σ.1 0) (c := x1) (A := σ.2 3 p) (B := σ.2 4 p) (by omega) hC.1 hr.1 hr.2.2.1
      by_cases hs : inS (σ.1 0) x1 (σ.2 3 p) (σ.2 4 p)
      · rw [if_pos hs]
        refine ⟨_, rfl, ?_⟩
        rw [(hq2 p (by omega)).mpr (by rw [hcl]; exact hin.mp hs)]
      · rw [if_neg hs]
        refine ih _ ⟨p + 1, by omega, by rw [nI_succ], fun q hq => ?_⟩ ?_
        · by_cases hqp : q = p
          · rw [hqp]; exact fun z => hs (hin.mpr z)
          · exact hno q (by omega)
        · show N - cN (nI p + 1) < N - cN (nI p)
          rw [← nI_succ, cN_nI (by omega), cN_nI (by omega)]
          omega) F (0, τ) ⟨0, by omega, rfl, fun q hq => by omega⟩ (by show N - cN 0 < F; omega)
    subst h2
    exact Op.same h h1 rfl
  · rw [if_neg hC, if_neg hC]
    exact Op.same h rfl rfl
/-- where a place comes to lie -/
noncomputable def ptk (w A B v : Int32) (f : Nat → Int32) (k : Nat) : Nat → Int32 := fun c => @ite _ (c < k ∧ inR w c A B) (Classical.propDecidable _) v (f c)
theorem ptk_0 (w A B v : Int32) (f : Nat → Int32) : ptk w A B v f 0 = f := by
  funext c
  unfold ptk
  exact if_neg (fun q => by omega)
theorem ptk_y {w A B v : Int32} {f : Nat → Int32} {k : Nat} (h : inR w k A B) : upd (ptk w A B v f k) k v = ptk w A B v f (k + 1) := by
  funext c
  unfold upd ptk
  by_cases hc : c = k
  · subst hc
    rw [if_pos rfl, if_pos ⟨by omega, h⟩]
  · rw [if_neg hc]
    by_cases hi : c < k ∧ inR w c A B
    · rw [if_pos hi, if_pos ⟨by omega, hi.2⟩]
    · rw [if_neg hi, if_neg (fun q => hi ⟨by omega, q.2⟩)]
theorem ptk_n {w A B v : Int32} {f : Nat → Int32} {k : Nat} (h : ¬ inR w k A B) : ptk w A B v f k = ptk w A B v f (k + 1) := by
  funext c
  unfold ptk
  by_cases hi : c < k ∧ inR w c A B
  · rw [if_pos hi, if_pos ⟨by omega, hi.2⟩]
  · rw [if_neg hi, if_neg (fun q => by
      by_cases hc : c = k
      · subst hc; exact h q.2
      · exact hi ⟨by omega, q.2⟩)]
theorem place_m1 (hF : 200 ≤ F) {W : Nat} (hW : σ.1 0 * σ.1 1 = nI W) (hWb : W ≤ 100) (hw : 0 < (σ.1 0).toInt) (K : Int32 × MS → Option (Int32 × MS)) (x1 A B : Int32) (hA : 0 ≤ A.toInt) (hB : 0 ≤ B.toInt) :
    ((∃ c : Nat, c < W ∧ inR (σ.1 0) c A B ∧ ¬ σ.2 1 c = -1) ∧ lp (m_place_B32 F K x1 A B) F (0, σ) = some (-1, σ)) ∨ ((∀ c : Nat, c < W → inR (σ.1 0) c A B → σ.2 1 c = -1) ∧ lp (m_place_B32 F K x1 A B) F (0, σ) = K (nI W, σ)) := by
  have hwn : ¬ σ.1 0 = 0 := by rw [i_eq, li_0]; omega
  have dI := fun w c A B => Classical.propDecidable (inS w c A B)
  refine lp_to (fun a => ∃ c : Nat, c ≤ W ∧ a = (nI c, σ) ∧ ∀ q : Nat, q < c → inR (σ.1 0) q A B → σ.2 1 q = -1) (fun a => W - cN a.1) (fun o => ((∃ c : Nat, c < W ∧ inR (σ.1 0) c A B ∧ ¬ σ.2 1 c = -1) ∧ o = some (-1, σ)) ∨ ((∀ c : Nat, c < W → inR (σ.1 0) c A B → σ.2 1 c = -1) ∧ o = K (nI W, σ))) ?_ F _ ⟨0, by omega, rfl, fun q hq => by omega⟩ (by show W - cN 0 < F; omega)
  intro RX a hi ih
  obtain ⟨c, hc, rfl, hno⟩ := hi
  unfold m_place_B32
  simp only [hW, Int32.le_iff_toInt_le, ni_i (show c < 2147483648 by omega), ni_i (show W < 2147483648 by omega), m_isIn_e (d := dI) hwn, ob_s, bI_0, ite_not]
  by_cases hend : c = W
  · subst hend
    rw [if_pos (by omega)]
    exact Or.inr ⟨hno, rfl⟩
  rw [if_neg (by omega), if_pos (okI_nI (show c < 100 by omega) (by omega)), ni_c (by omega)]
  have hin := inS_inR (w := σ.1 0) (c := nI c) (A := A) (B := B) hw (by rw [ni_i (by omega)]; omega) hA hB
  rw [ni_i (by omega)] at hin
  have hnext : (inR (σ.1 0) c A B → σ.2 1 c = -1) → ((∃ c : Nat, c < W ∧ inR (σ.1 0) c A B ∧ ¬ σ.2 1 c = -1) ∧ RX (nI c + 1, σ) = some (-1, σ)) ∨ ((∀ c : Nat, c < W → inR (σ.1 0) c A B → σ.2 1 c = -1) ∧ RX (nI c + 1, σ) = K (nI W, σ)) := by
    intro hcc
    refine ih _ ⟨c + 1, by omega, by rw [nI_succ], fun q hq hr => ?_⟩ ?_
    · by_cases hqc : q = c
      · subst hqc; exact hcc hr
      · exact hno q (by omega) hr
    · show W - cN (nI c + 1) < W - cN (nI c)
      rw [← nI_succ, cN_nI (by omega), cN_nI (by omega)]
      omega
  by_cases hs : inS (σ.1 0) (nI c) A B
  · rw [if_pos hs]
    by_cases hp : σ.2 1 c = -1
    · rw [if_pos hp]
      exact hnext (fun _ => hp)
    · rw [if_neg hp]
      exact Or.inl ⟨⟨c, by omega, hin.mp hs, hp⟩, rfl⟩
  · rw [if_neg hs]
    exact hnext (fun z => absurd (hin.mpr z) hs)
theorem place_m2 (hF : 200 ≤ F) {W : Nat} (hW : σ.1 0 * σ.1 1 = nI W) (hWb : W ≤ 100) (hw : 0 < (σ.1 0).toInt) (K : Int32 × MS → Option (Int32 × MS)) (x1 A B : Int32) (hA : 0 ≤ A.toInt) (hB : 0 ≤ B.toInt) :
    lp (m_place_B79 F K x1 A B) F (0, σ) = K (nI W, aS σ 1 (ptk (σ.1 0) A B (σ.1 3) (σ.2 1) W)) := by
  have hwn : ¬ σ.1 0 = 0 := by rw [i_eq, li_0]; omega
  have dI := fun w c A B => Classical.propDecidable (inS w c A B)
  refine lp_to (fun a => ∃ c : Nat, c ≤ W ∧ a = (nI c, aS σ 1 (ptk (σ.1 0) A B (σ.1 3) (σ.2 1) c))) (fun a => W - cN a.1) (fun o => o = K (nI W, aS σ 1 (ptk (σ.1 0) A B (σ.1 3) (σ.2 1) W))) ?_ F _ ⟨0, by omega, by rw [ptk_0, aS_id]; rfl⟩ (by show W - cN 0 < F; omega)
  intro RX a hi ih
  obtain ⟨c, hc, rfl⟩ := hi
  unfold m_place_B79
  have eW : ∀ f, (aS σ 1 f).1 0 * (aS σ 1 f).1 1 = nI W := fun f => hW
  have e0 : ∀ f, (aS σ 1 f).1 0 = σ.1 0 := fun f => rfl
  have eW2 : ∀ f, σ.1 0 * (aS σ 1 f).1 1 = nI W := fun f => hW
  have e3 : ∀ f, (aS σ 1 f).1 3 = σ.1 3 := fun f => rfl
  have hw' : ∀ f, ¬ (aS σ 1 f).1 0 = 0 := fun f => hwn
  simp only [eW, eW2, Int32.le_iff_toInt_le, ni_i (show c < 2147483648 by omega), ni_i (show W < 2147483648 by omega), m_isIn_e (d := dI) (hw' _), ob_s, bI_0, ite_not, e0, e3]
  by_cases hend : c = W
  · subst hend
    rw [if_pos (by omega)]
  rw [if_neg (by omega), if_pos (okI_nI (show c < 100 by omega) (by omega)), ni_c (by omega), nx_e]
  have hin := inS_inR (w := σ.1 0) (c := nI c) (A := A) (B := B) hw (by rw [ni_i (by omega)]; omega) hA hB
  rw [ni_i (by omega)] at hin
  have hms : W - cN (nI c + 1) < W - cN (nI c) := by
    rw [← nI_succ, cN_nI (by omega), cN_nI (by omega)]
    omega
  by_cases hs : inS (σ.1 0) (nI c) A B
  · rw [if_pos hs, sA_aS, ptk_y (hin.mp hs)]
    exact ih _ ⟨c + 1, by omega, by rw [nI_succ]⟩ hms
  · rw [if_neg hs, ptk_n (fun z => hs (hin.mpr z))]
    exact ih _ ⟨c + 1, by omega, by rw [nI_succ]⟩ hms
theorem place_x (hF : 200 ≤ F) {N : Nat} (hN : τ.1.1 3 = nI N) (hNb : N ≤ 30) {w h : Int32} (hw : 0 < w.toInt) {kd As Bs : Nat → Int32} (hp : ∀ p, p < N → Po τ.2.2.2.1 (τ.2.1 0) w p (kd p) (As p) (Bs p) ∧ okR w h (As p) (Bs p)) (K : Int32 × XS → XR Int32) (x1 A B : Int32) {r : Nat} (hr : Rc τ.2.2.2.1 r w A B) (hA : 0 ≤ A.toInt) (hB : 0 ≤ B.toInt) :
    ((∃ p : Nat, p < N ∧ mee w (As p) (Bs p) A B) ∧ lp (x0_place_B35 F K x1 (some r)) F (0, τ) = some (-1, τ, 0, 0)) ∨ ((∀ p : Nat, p < N → ¬ mee w (As p) (Bs p) A B) ∧ lp (x0_place_B35 F K x1 (some r)) F (0, τ) = K (nI N, τ)) := by
  refine lp_to (fun a => ∃ p : Nat, p ≤ N ∧ a = (nI p, τ) ∧ ∀ q : Nat, q < p → ¬ mee w (As q) (Bs q) A B) (fun a => N - cN a.1) (fun o => ((∃ p : Nat, p < N ∧ mee w (As p) (Bs p) A B) ∧ o = some (-1, τ, 0, 0)) ∨ ((∀ p : Nat, p < N → ¬ mee w (As p) (Bs p) A B) ∧ o = K (nI N, τ))) ?_ F _ ⟨0, by omega, rfl, fun q hq => by omega⟩ (by show N - cN 0 < F; omega)
  intro RX a hi ih
  obtain ⟨p, hpN, rfl, hno⟩ := hi
  unfold x0_place_B35
  simp only [hN, Int32.le_iff_toInt_le, ni_i (show p < 2147483648 by omega), ni_i (show N < 2147483648 by omega)]
  by_cases hend : p = N
  · subst hend
    rw [if_pos (by omega)]
    exact Or.inr ⟨hno, rfl⟩
  rw [if_neg (by omega)]
  obtain ⟨⟨a, b, V, k1, k2, k3, k4, k5, k6⟩, hr2⟩ := hp p (by omega)
  have dd := Classical.propDecidable (mee w (As p) (Bs p) A B)
  simp only [okI_nI (show p < 30 by omega) (show 30 < 2147483648 by omega), if_true, ni_c (show p < 2147483648 by omega), k1, ob_s, gN_of k2 (List.mem_singleton.mpr rfl) k5, k6.isC (List.mem_singleton.mpr rfl), x2_meets_e (dd := dd) k6 hr hr2.1 hr2.2.2.1 hA hB hw, tk_00, bI_0, ite_not]
  by_cases hm : mee w (As p) (Bs p) A B
  · rw [if_pos hm]
    exact Or.inl ⟨⟨p, by omega, hm⟩, rfl⟩
  · rw [if_neg hm]
    refine ih _ ⟨p + 1, by omega, by rw [nI_succ], fun q hq => ?_⟩ ?_
    · by_cases hqp : q = p
      · rw [hqp]; exact hm
      · exact hno q (by omega)
    · show N - cN (nI p + 1) < N - cN (nI p)
      rw [← nI_succ, cN_nI (by omega), cN_nI (by omega)]
      omega
theorem x3_init_e (x1 x2 : Int32) (x3 : Nat) (V : Nat → Value) : x3_init F τ.2.2.2.2 x1 x2 x3 (xN τ (.inr (3, V))) = some (0, xN τ (.inr (3, updV (updV (updV V 0 (.int x1)) 1 (.int x2)) 2 (.ref x3))), 0, 0) := by
  simp only [x3_init, pF_xN (List.mem_singleton.mpr rfl), ob_s]
theorem op_place (hF : 200 ≤ F) (h : R τ σ) (x1 x2 x3 : Int32) : Op σ (x0_place F x1 x2 x3 τ) (m_place F x1 x2 x3 σ) := by
  obtain ⟨w1, w2, w3⟩ := wh_b h
  obtain ⟨s1, s2, s3, s4, -⟩ := h.sc
  obtain ⟨⟨N, hN, hNb⟩, hp, hpat⟩ := h.pl
  rw [hN, cN_nI (by omega)] at hp hpat
  have e3 : τ.1.1 3 = nI N := by rw [← hN]; exact h.e3
  have dR := Classical.propDecidable (okR (σ.1 0) (σ.1 1) x2 x3)
  unfold x0_place m_place
  rcases between_e (F := F) h x2 x3 with ⟨hok, hbe⟩ | ⟨hok, hbe⟩
  · have hR1 := h.new (.inr (2, rcV (σ.1 0) x2 x3))
    have hfail : Op σ (some ((-1 : Int32), xN τ (.inr (2, rcV (σ.1 0) x2 x3)), 1, 4)) (some (-1, σ)) := Op.mk rfl rfl hR1 (Nat.le_succ _) (by decide) (by decide)
    simp only [hbe, m_isRect_e (d := dR) h, ob_s, x0_in_e, m_in_e, bI_0, ite_not, xN_1, e3, hN]
    rw [if_neg (show ¬ (some τ.2.2.2.2 = none) by simp)]
    simp only [i_eq, li_0, li_1, li_2, li_3, li_4, li_5, li_6, li_7, li_8, li_9, li_10, li_11, li_12, li_13, li_14, li_15, li_16, li_19, li_20, li_22, li_24, li_25, li_29, li_30, li_32, li_40, li_48, li_57, li_60, li_63, li_99, li_100, li_150, li_160, li_180, li_200, li_255, li_256, li_400, li_1000, li_9999, li_10000, li_99999, li_100000, li_100001, li_10001, li_1048576, li_3600, li_m1, li_m2, ni_i (show N < 2147483648 by omega)]
    by_cases hk : 0 ≤ x1.toInt ∧ x1.toInt < 3
    · rw [if_pos hk, if_pos (show 0 ≤ x1.toInt ∧ x1.toInt ≤ 2 by omega), if_pos hok]
      by_cases hfu : (N : Int) = 30
      · rw [if_pos hfu, if_pos hfu, tk_s]
        exact hfail
      rw [if_neg hfu, if_neg hfu]
      have hWc := c_i (show 0 ≤ (σ.1 0 * σ.1 1).toInt by omega)
      have hWe := (ni_eq (show 0 ≤ (σ.1 0 * σ.1 1).toInt by omega)).symm
      generalize (σ.1 0 * σ.1 1).toNatClampNeg = W at hWc hWe
      have hpM : PM M0 τ.2.2.2.1 (xN τ (.inr (2, rcV (σ.1 0) x2 x3))).2.2.2.1 := PM.new h.wf
      have hX := fun K => place_x (F := F) (τ := xN τ (.inr (2, rcV (σ.1 0) x2 x3))) hF (show (xN τ _).1.1 3 = nI N from e3) hNb (w := σ.1 0) (h := σ.1 1) (by omega) (kd := σ.2 2) (As := σ.2 3) (Bs := σ.2 4) (fun p hpp => ⟨(hp p hpp).1.mono hpM, (hp p hpp).2⟩) K x1 x2 x3 (rcV_ob (σ.1 0) x2 x3 τ) hok.1 hok.2.2.1
      have hM := fun K => place_m1 (F := F) hF hWe (by omega) (by omega) K x1 x2 x3 hok.1 hok.2.2.1
      by_cases hme : ∃ p : Nat, p < N ∧ mee (σ.1 0) (σ.2 3 p) (σ.2 4 p) x2 x3
      · have hX' := fun K => ((hX K).resolve_right (fun q => by obtain ⟨p, q1, q2⟩ := hme; exact q.1 p q1 q2)).2
        obtain ⟨p, hpN, hm⟩ := hme
        by_cases hce : ∃ c : Nat, c < W ∧ inR (σ.1 0) c x2 x3 ∧ ¬ σ.2 1 c = -1
        · have hM' := fun K => ((hM K).resolve_right (fun q => by obtain ⟨c, q1, q2, q3⟩ := hce; exact q3 (q.1 c q1 q2))).2
          rw [hX', hM', tk_s]
          exact hfail
        · exfalso
          have hno : ∀ c : Nat, c < W → inR (σ.1 0) c x2 x3 → σ.2 1 c = -1 := fun c c1 c2 => Classical.byContradiction (fun c3 => hce ⟨c, c1, c2, c3⟩)
          obtain ⟨c, hc1, hc2, hc3⟩ := (mee_cell (by omega) (hp p hpN).2 hok).mp hm
          have h5 := hno c (by omega) hc3
          have h6 := ((hpat c (by omega)).2 p hpN).mpr hc2
          rw [h5] at h6
          have h7 := congrArg Int32.toInt h6
          rw [li_m1, ni_i (by omega)] at h7
          omega
      · have hX' := fun K => ((hX K).resolve_left (fun q => hme q.1)).2
        have hno : ∀ p, p < N → ¬ mee (σ.1 0) (σ.2 3 p) (σ.2 4 p) x2 x3 := fun p p1 p2 => hme ⟨p, p1, p2⟩
        by_cases hce : ∃ c : Nat, c < W ∧ inR (σ.1 0) c x2 x3 ∧ ¬ σ.2 1 c = -1
        · exfalso
          obtain ⟨c, hc1, hc2, hc3⟩ := hce
          rcases (hpat c (by omega)).1 with h5 | ⟨p, hpN, h5⟩
          · exact hc3 h5
          · have h6 := ((hpat c (by omega)).2 p hpN).mp h5
            exact hno p hpN ((mee_cell (by omega) (hp p hpN).2 hok).mpr ⟨c, by omega, h6, hc2⟩)
        · have hM' := fun K => ((hM K).resolve_left (fun q => hce q.1)).2
          rw [hX', hM']
          have ok : okI (nI N) 30 = true := okI_nI (by omega) (by omega)
          have e3' : ∀ f, (aS σ 1 f).1 3 = nI N := fun f => hN
          rw [place_m2 hF hWe (by omega) (by omega) _ x1 x2 x3 hok.1 hok.2.2.1]
          simp only [nx_e, ob_s, x3_init_e, tk_00, isC_xN, if_true, xN_1, e3, ok, ni_c (show N < 2147483648 by omega), xR_1, xS_at, tk_s, e3', sA_1, sS_at, hN]
          have hpM2 := PM.new (M := M0) (e := .inr (3, updV (updV (updV (fun q => defaultValue (tyX3 q)) 0 (.int (nI N))) 1 (.int x1)) 2 (.ref τ.2.2.2.2))) hR1.wf
          have hpM3 := hpM.tr hpM2
          refine Op.mk rfl rfl ?_ ?_ (by decide) (by decide)
          · have hc1 : cN (nI N + 1) = N + 1 := by rw [← nI_succ, cN_nI (by omega)]
            refine ⟨⟨h.s.1, h.s.2.1, h.s.2.2.1, rfl, h.s.2.2.2.2.1, h.s.2.2.2.2.2.1, h.s.2.2.2.2.2.2.1, h.s.2.2.2.2.2.2.2.1, h.s.2.2.2.2.2.2.2.2.1, h.s.2.2.2.2.2.2.2.2.2.1, h.s.2.2.2.2.2.2.2.2.2.2.1, h.s.2.2.2.2.2.2.2.2.2.2.2.1, h.s.2.2.2.2.2.2.2.2.2.2.2.2.1, h.s.2.2.2.2.2.2.2.2.2.2.2.2.2.1, h.s.2.2.2.2.2.2.2.2.2.2.2.2.2.2.1, h.s.2.2.2.2.2.2.2.2.2.2.2.2.2.2.2.1, h.s.2.2.2.2.2.2.2.2.2.2.2.2.2.2.2.2⟩, h.a, h.sc, ?_, (h.dg.mono hpM3 ⟨rfl, rfl, rfl⟩), (h.me.mono hpM3), (h.ru.mono hpM3), (h.fi.mono hpM3), (h.th.mono hpM3 rfl), (h.wa.mono hpM3), (h.dr.mono hpM3), ⟨(h.si.mono hpM3).1, (h.si.mono hpM3).2⟩, (h.wo.mono hpM3), h.as, hR1.wf.new⟩
            refine ⟨⟨N + 1, (nI_succ N).symm, by omega⟩, ?_, ?_⟩
            · show ∀ p, p < cN (nI N + 1) → Po _ _ _ p (upd (σ.2 2) N x1 p) (upd (σ.2 3) N x2 p) (upd (σ.2 4) N x3 p) ∧ okR (σ.1 0) (σ.1 1) (upd (σ.2 3) N x2 p) (upd (σ.2 4) N x3 p)
              rw [hc1]
              intro p hpN
              by_cases hpe : p = N
              · subst hpe
                simp only [upd, if_true]
                refine ⟨⟨_, τ.2.2.2.2, _, va_up_self _ _ _, if_pos rfl, by simp [updV], by simp [updV], by simp [updV], ?_⟩, hok⟩
                exact (rcV_ob (σ.1 0) x2 x3 τ).mono hpM2
              · simp only [upd, hpe, if_false]
                obtain ⟨⟨a, b, V, k1, k⟩, hr⟩ := hp p (by omega)
                have hpo := Po.mono hpM3 ⟨a, b, V, k1, k⟩
                obtain ⟨a', b', V', k1', k'⟩ := hpo
                exact ⟨⟨a', b', V', (va_up_ne _ _ hpe).trans k1', k'⟩, hr⟩
            · show ∀ c : Nat, (c : Int) < (σ.1 0).toInt * (σ.1 1).toInt → (ptk (σ.1 0) x2 x3 (nI N) (σ.2 1) W c = -1 ∨ ∃ p, p < cN (nI N + 1) ∧ ptk (σ.1 0) x2 x3 (nI N) (σ.2 1) W c = nI p) ∧ ∀ p, p < cN (nI N + 1) → (ptk (σ.1 0) x2 x3 (nI N) (σ.2 1) W c = nI p ↔ inR (σ.1 0) c (upd (σ.2 3) N x2 p) (upd (σ.2 4) N x3 p))
              rw [hc1]
              intro c hc
              obtain ⟨q1, q2⟩ := hpat c hc
              by_cases hcr : inR (σ.1 0) c x2 x3
              · have hv : ptk (σ.1 0) x2 x3 (nI N) (σ.2 1) W c = nI N := if_pos ⟨by omega, hcr⟩
                rw [hv]
                refine ⟨Or.inr ⟨N, by omega, rfl⟩, fun p hpN => ?_⟩
                by_cases hpe : p = N
                · subst hpe
                  simp only [upd, if_true]
                  exact ⟨fun _ => hcr, fun _ => trivial⟩
                · simp only [upd, hpe, if_false]
                  constructor
                  · intro e
                    have := ni_inj (by omega) (by omega) e
                    omega
                  · intro hcp
                    exact absurd ((mee_cell (by omega) (hp p (by omega)).2 hok).mpr ⟨c, hc, hcp, hcr⟩) (hno p (by omega))
              · have hv : ptk (σ.1 0) x2 x3 (nI N) (σ.2 1) W c = σ.2 1 c := if_neg (fun z => hcr z.2)
                rw [hv]
                refine ⟨?_, fun p hpN => ?_⟩
                · rcases q1 with q1 | ⟨p, q1, q3⟩
                  · exact Or.inl q1
                  · exact Or.inr ⟨p, by omega, q3⟩
                · by_cases hpe : p = N
                  · subst hpe
                    simp only [upd, if_true]
                    constructor
                    · intro e
                      exfalso
                      rcases q1 with q1 | ⟨q, q1, q3⟩
                      · rw [q1] at e
                        have h7 := congrArg Int32.toInt e
                        rw [li_m1, ni_i (by omega)] at h7
                        omega
                      · rw [q3] at e
                        have := ni_inj (by omega) (by omega) e
                        omega
                    · exact fun z => absurd z hcr
                  · simp only [upd, hpe, if_false]
                    exact q2 p (by omega)
          · show cN (nI N + 1) + cN (σ.1 57) ≤ pf σ + 1
            unfold pf
            rw [hN, ← nI_succ, cN_nI (by omega), cN_nI (by omega)]
            omega
    · rw [if_neg hk, if_neg (show ¬ (0 ≤ x1.toInt ∧ x1.toInt ≤ 2) by omega), tk_s]
      exact hfail
  · simp only [hbe, m_isRect_e (d := dR) h, ob_s, x0_in_e, m_in_e, bI_0, ite_not, tk_00, if_true]
    by_cases hk : 0 ≤ x1.toInt ∧ x1.toInt < (3 : Int32).toInt
    · rw [if_pos hk, if_pos (by rw [li_3] at hk; rw [li_0, li_2]; omega), if_neg hok]
      exact Op.same h rfl rfl
    · rw [if_neg hk, if_neg (by rw [li_3] at hk; rw [li_0, li_2]; omega)]
      exact Op.same h rfl rfl
end PLACE2
