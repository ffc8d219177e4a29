/-! places -/
section PLACE
variable {F : Nat} {τ : XS} {σ : MS}
def rcV (w A B : Int32) : Nat → Value := updV (updV (updV (updV (fun q => defaultValue (tyX2 q)) 0 (.int (jrem A w))) 1 (.int (A / w))) 2 (.int (jrem B w))) 3 (.int (B / w))
theorem okR_iff (h : R τ σ) (A B : Int32) : okR (σ.1 0) (σ.1 1) A B ↔ (0 ≤ A.toInt ∧ A.toInt < (σ.1 0 * σ.1 1).toInt) ∧ (0 ≤ B.toInt ∧ B.toInt < (σ.1 0 * σ.1 1).toInt) ∧ ¬ (jrem B (σ.1 0)).toInt < (jrem A (σ.1 0)).toInt ∧ (A / σ.1 0).toInt ≤ (B / σ.1 0).toInt := by
  obtain ⟨w1, w2, w3⟩ := wh_b h
  obtain ⟨s1, s2, s3, s4, -⟩ := h.sc
  unfold okR
  rw [w1]
  constructor
  · intro ⟨h1, h2, h3, h4, h5, h6⟩
    rw [i_rem h1 (by omega), i_rem h3 (by omega), i_div h1 (by omega), i_div h3 (by omega)]
    omega
  · intro ⟨⟨h1, h2⟩, ⟨h3, h4⟩, h5, h6⟩
    rw [i_rem h1 (by omega), i_rem h3 (by omega)] at h5
    rw [i_div h1 (by omega), i_div h3 (by omega)] at h6
    omega
theorem m_isRect_e {A B : Int32} [d : Decidable (okR (σ.1 0) (σ.1 1) A B)] (h : R τ σ) : m_isRectangle F A B σ = some (bI (okR (σ.1 0) (σ.1 1) A B), σ) := by
  have hw := w_ne h
  have hi := okR_iff h A B
  simp only [m_isRectangle, m_isCell_e, ob_s, bI_0, ite_not, hw, if_false, Int32.lt_iff_toInt_lt]
  by_cases hC : okR (σ.1 0) (σ.1 1) A B
  · rw [bI_t hC]
    obtain ⟨h1, h2, h3, h4⟩ := hi.mp hC
    rw [if_pos h1, if_pos h2, if_neg h3, if_neg (by omega)]
  · rw [bI_f hC]
    by_cases h1 : 0 ≤ A.toInt ∧ A.toInt < (σ.1 0 * σ.1 1).toInt
    · rw [if_pos h1]
      by_cases h2 : 0 ≤ B.toInt ∧ B.toInt < (σ.1 0 * σ.1 1).toInt
      · rw [if_pos h2]
        by_cases h3 : (jrem B (σ.1 0)).toInt < (jrem A (σ.1 0)).toInt
        · rw [if_pos h3]
        · rw [if_neg h3]
          by_cases h4 : (B / σ.1 0).toInt < (A / σ.1 0).toInt
          · rw [if_pos h4]
          · exact absurd (hi.mpr ⟨h1, h2, h3, by omega⟩) hC
      · rw [if_neg h2]
    · rw [if_neg h1]
theorem x2_init_e (x1 x2 x3 x4 : Int32) (V : Nat → Value) : x2_init F τ.2.2.2.2 x1 x2 x3 x4 (xN τ (.inr (2, V))) = some (0, xN τ (.inr (2, updV (updV (updV (updV V 0 (.int x1)) 1 (.int x2)) 2 (.int x3)) 3 (.int x4))), 0, 0) := by
  simp only [x2_init, pF_xN (List.mem_singleton.mpr rfl), ob_s]
theorem between_e (h : R τ σ) (A B : Int32) : (okR (σ.1 0) (σ.1 1) A B ∧ x0_between F A B τ = some (some τ.2.2.2.2, xN τ (.inr (2, rcV (σ.1 0) A B)), 1, 4)) ∨ (¬ okR (σ.1 0) (σ.1 1) A B ∧ x0_between F A B τ = some (none, τ, 0, 0)) := by
  have hw := w_ne h
  have hi := okR_iff h A B
  simp only [x0_between, x0_isCell_e, ob_s, bI_0, ite_not, tk_00, h.e0, h.e1, hw, if_false, Int32.lt_iff_toInt_lt, Int32.le_iff_toInt_le, nx_e, xN_1, x2_init_e]
  by_cases hC : okR (σ.1 0) (σ.1 1) A B
  · left
    refine ⟨hC, ?_⟩
    obtain ⟨h1, h2, h3, h4⟩ := hi.mp hC
    rw [if_pos h1, if_pos h2, if_neg h3, if_pos h4, tk_s]
    rfl
  · right
    refine ⟨hC, ?_⟩
    by_cases h1 : 0 ≤ A.toInt ∧ A.toInt < (σ.1 0 * σ.1 1).toInt
    · rw [if_pos h1]
      by_cases h2 : 0 ≤ B.toInt ∧ B.toInt < (σ.1 0 * σ.1 1).toInt
      · rw [if_pos h2]
        by_cases h3 : (jrem B (σ.1 0)).toInt < (jrem A (σ.1 0)).toInt
        · rw [if_pos h3]
        · rw [if_neg h3]
          by_cases h4 : (A / σ.1 0).toInt ≤ (B / σ.1 0).toInt
          · exact absurd (hi.mpr ⟨h1, h2, h3, h4⟩) hC
          · rw [if_neg h4]
      · rw [if_neg h2]
    · rw [if_neg h1]
theorem R.new (h : R τ σ) (e : pE) : R (xN τ e) σ := by
  have hp : PM M0 τ.2.2.2.1 (xN τ e).2.2.2.1 := PM.new h.wf
  exact ⟨h.s, h.a, h.sc, (h.pl.mono hp), (h.dg.mono hp ⟨rfl, rfl, rfl⟩), (h.me.mono hp), (h.ru.mono hp), (h.fi.mono hp), (h.th.mono hp rfl), (h.wa.mono hp), (h.dr.mono hp), (h.si.mono hp), (h.wo.mono hp), h.as, h.wf.new⟩
theorem rcV_ob (w A B : Int32) (e : XS) : Rc (xN e (.inr (2, rcV w A B))).2.2.2.1 e.2.2.2.2 w A B := ⟨_, if_pos rfl, by simp [rcV, updV]⟩
/-- two rectangles meet -/
def mee (w A B C D : Int32) : Prop := A.toInt % w.toInt ≤ D.toInt % w.toInt ∧ C.toInt % w.toInt ≤ B.toInt % w.toInt ∧ A.toInt / w.toInt ≤ D.toInt / w.toInt ∧ C.toInt / w.toInt ≤ B.toInt / w.toInt
theorem x2_meets_e {a b : Nat} {w A B C D : Int32} [dd : Decidable (mee w A B C D)] (ha : Rc τ.2.2.2.1 a w A B) (hb : Rc τ.2.2.2.1 b w C D) (hA : 0 ≤ A.toInt) (hB : 0 ≤ B.toInt) (hC : 0 ≤ C.toInt) (hD : 0 ≤ D.toInt) (hw : 0 < w.toInt) : x2_meets F a b τ = some (bI (mee w A B C D), τ, 0, 0) := by
  simp only [x2_meets, ha.gI (k := 0) (x := jrem A w) (by simp) (List.mem_singleton.mpr rfl), ha.gI (k := 1) (x := A / w) (by simp) (List.mem_singleton.mpr rfl), ha.gI (k := 2) (x := jrem B w) (by simp) (List.mem_singleton.mpr rfl), ha.gI (k := 3) (x := B / w) (by simp) (List.mem_singleton.mpr rfl), hb.gI (k := 0) (x := jrem C w) (by simp) (List.mem_singleton.mpr rfl), hb.gI (k := 1) (x := C / w) (by simp) (List.mem_singleton.mpr rfl), hb.gI (k := 2) (x := jrem D w) (by simp) (List.mem_singleton.mpr rfl), hb.gI (k := 3) (x := D / w) (by simp) (List.mem_singleton.mpr rfl), ob_s, Int32.lt_iff_toInt_lt, i_rem hA hw, i_rem hB hw, i_rem hC hw, i_rem hD hw, i_div hA hw, i_div hB hw, i_div hC hw, i_div hD hw]
  by_cases h1 : D.toInt % w.toInt < A.toInt % w.toInt
  · rw [if_pos h1, bI_f (fun q : mee _ _ _ _ _ => by have := q.1; omega)]
  rw [if_neg h1]
  by_cases h2 : B.toInt % w.toInt < C.toInt % w.toInt
  · rw [if_pos h2, bI_f (fun q : mee _ _ _ _ _ => by have := q.2.1; omega)]
  rw [if_neg h2]
  by_cases h3 : D.toInt / w.toInt < A.toInt / w.toInt
  · rw [if_pos h3, bI_f (fun q : mee _ _ _ _ _ => by have := q.2.2.1; omega)]
  rw [if_neg h3]
  by_cases h4 : B.toInt / w.toInt < C.toInt / w.toInt
  · rw [if_pos h4, bI_f (fun q : mee _ _ _ _ _ => by have := q.2.2.2; omega)]
  rw [if_neg h4, bI_t (show mee _ _ _ _ _ from ⟨by omega, by omega, by omega, by omega⟩)]
/-- rectangles meet in a cell -/
theorem mee_cell {w h A B C D : Int32} (hw : 0 < w.toInt) (h1 : okR w h A B) (h2 : okR w h C D) : mee w A B C D ↔ ∃ c : Nat, (c : Int) < w.toInt * h.toInt ∧ inR w c A B ∧ inR w c C D := by
  obtain ⟨a1, a2, a3, a4, a5, a6⟩ := h1
  obtain ⟨b1, b2, b3, b4, b5, b6⟩ := h2
  unfold mee inR
  constructor
  · intro ⟨m1, m2, m3, m4⟩
    have pA := Int.emod_lt_of_pos A.toInt hw
    have pC := Int.emod_lt_of_pos C.toInt hw
    have nA := Int.emod_nonneg A.toInt (show w.toInt ≠ 0 by omega)
    have nC := Int.emod_nonneg C.toInt (show w.toInt ≠ 0 by omega)
    have qA : 0 ≤ A.toInt / w.toInt := Int.ediv_nonneg a1 (by omega)
    have qC : 0 ≤ C.toInt / w.toInt := Int.ediv_nonneg b1 (by omega)
    obtain ⟨x, hx1, hx2, hx3, hx4, hx5⟩ : ∃ x : Int, A.toInt % w.toInt ≤ x ∧ C.toInt % w.toInt ≤ x ∧ x ≤ B.toInt % w.toInt ∧ x ≤ D.toInt % w.toInt ∧ x < w.toInt := by
      by_cases hh : A.toInt % w.toInt ≤ C.toInt % w.toInt
      · exact ⟨C.toInt % w.toInt, by omega, by omega, by omega, by omega, by omega⟩
      · exact ⟨A.toInt % w.toInt, by omega, by omega, by omega, by omega, by omega⟩
    obtain ⟨y, hy1, hy2, hy3, hy4⟩ : ∃ y : Int, A.toInt / w.toInt ≤ y ∧ C.toInt / w.toInt ≤ y ∧ y ≤ B.toInt / w.toInt ∧ y ≤ D.toInt / w.toInt := by
      by_cases hh : A.toInt / w.toInt ≤ C.toInt / w.toInt
      · exact ⟨C.toInt / w.toInt, by omega, by omega, by omega, by omega⟩
      · exact ⟨A.toInt / w.toInt, by omega, by omega, by omega, by omega⟩
    have hBh : B.toInt / w.toInt < h.toInt := Int.ediv_lt_of_lt_mul hw (by rw [Int.mul_comm]; exact a4)
    have hyw : y * w.toInt ≤ (h.toInt - 1) * w.toInt := Int.mul_le_mul_of_nonneg_right (by omega) (by omega)
    have e1 : (h.toInt - 1) * w.toInt = w.toInt * h.toInt - w.toInt := by rw [Int.sub_mul, Int.one_mul, Int.mul_comm]
    have hy0 : 0 ≤ y * w.toInt := Int.mul_nonneg (by omega) (by omega)
    have hm : (y * w.toInt + x) % w.toInt = x := by
      rw [Int.add_comm, Int.add_mul_emod_self_right]
      exact Int.emod_eq_of_lt (by omega) hx5
    have hd : (y * w.toInt + x) / w.toInt = y := by
      rw [Int.add_comm, Int.add_mul_ediv_right _ _ (by omega), Int.ediv_eq_zero_of_lt (by omega) hx5]
      omega
    refine ⟨(y * w.toInt + x).toNat, ?_, ?_, ?_⟩
    · omega
    · rw [Int.toNat_of_nonneg (by omega), hm, hd]
      exact ⟨hx1, hx3, hy1, hy3⟩
    · rw [Int.toNat_of_nonneg (by omega), hm, hd]
      exact ⟨hx2, hx4, hy2, hy4⟩
  · intro ⟨c, _, ⟨p1, p2, p3, p4⟩, q1, q2, q3, q4⟩
    exact ⟨by omega, by omega, by omega, by omega⟩
theorem inS_inR {w c A B : Int32} (hw : 0 < w.toInt) (hc : 0 ≤ c.toInt) (hA : 0 ≤ A.toInt) (hB : 0 ≤ B.toInt) : inS w c A B ↔ inR w c.toInt A B := by
  unfold inS inR
  rw [i_rem hc hw, i_rem hA hw, i_rem hB hw, i_div hc hw, i_div hA hw, i_div hB hw]
  omega
end PLACE
