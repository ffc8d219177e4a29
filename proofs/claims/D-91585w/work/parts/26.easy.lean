/-! closed forms of small methods; what a call owes -/
theorem i_eq (a b : Int32) : (a = b) = (a.toInt = b.toInt) := propext ⟨fun h => by rw [h], fun h => Int32.toInt_inj.mp h⟩
theorem li_0 : (0 : Int32).toInt = 0 := by decide
theorem li_1 : (1 : Int32).toInt = 1 := by decide
theorem li_2 : (2 : Int32).toInt = 2 := by decide
theorem li_3 : (3 : Int32).toInt = 3 := by decide
theorem li_4 : (4 : Int32).toInt = 4 := by decide
theorem li_5 : (5 : Int32).toInt = 5 := by decide
theorem li_6 : (6 : Int32).toInt = 6 := by decide
theorem li_7 : (7 : Int32).toInt = 7 := by decide
theorem li_8 : (8 : Int32).toInt = 8 := by decide
theorem li_9 : (9 : Int32).toInt = 9 := by decide
theorem li_10 : (10 : Int32).toInt = 10 := by decide
theorem li_11 : (11 : Int32).toInt = 11 := by decide
theorem li_12 : (12 : Int32).toInt = 12 := by decide
theorem li_13 : (13 : Int32).toInt = 13 := by decide
theorem li_14 : (14 : Int32).toInt = 14 := by decide
theorem li_15 : (15 : Int32).toInt = 15 := by decide
theorem li_16 : (16 : Int32).toInt = 16 := by decide
theorem li_19 : (19 : Int32).toInt = 19 := by decide
theorem li_20 : (20 : Int32).toInt = 20 := by decide
theorem li_22 : (22 : Int32).toInt = 22 := by decide
theorem li_24 : (24 : Int32).toInt = 24 := by decide
theorem li_25 : (25 : Int32).toInt = 25 := by decide
theorem li_29 : (29 : Int32).toInt = 29 := by decide
theorem li_30 : (30 : Int32).toInt = 30 := by decide
theorem li_32 : (32 : Int32).toInt = 32 := by decide
theorem li_40 : (40 : Int32).toInt = 40 := by decide
theorem li_48 : (48 : Int32).toInt = 48 := by decide
theorem li_57 : (57 : Int32).toInt = 57 := by decide
theorem li_60 : (60 : Int32).toInt = 60 := by decide
theorem li_63 : (63 : Int32).toInt = 63 := by decide
theorem li_99 : (99 : Int32).toInt = 99 := by decide
theorem li_100 : (100 : Int32).toInt = 100 := by decide
theorem li_150 : (150 : Int32).toInt = 150 := by decide
theorem li_160 : (160 : Int32).toInt = 160 := by decide
theorem li_180 : (180 : Int32).toInt = 180 := by decide
theorem li_200 : (200 : Int32).toInt = 200 := by decide
theorem li_255 : (255 : Int32).toInt = 255 := by decide
theorem li_256 : (256 : Int32).toInt = 256 := by decide
theorem li_400 : (400 : Int32).toInt = 400 := by decide
theorem li_1000 : (1000 : Int32).toInt = 1000 := by decide
theorem li_9999 : (9999 : Int32).toInt = 9999 := by decide
theorem li_10000 : (10000 : Int32).toInt = 10000 := by decide
theorem li_99999 : (99999 : Int32).toInt = 99999 := by decide
theorem li_100000 : (100000 : Int32).toInt = 100000 := by decide
theorem li_100001 : (100001 : Int32).toInt = 100001 := by decide
theorem li_10001 : (10001 : Int32).toInt = 10001 := by decide
theorem li_1048576 : (1048576 : Int32).toInt = 1048576 := by decide
theorem li_3600 : (3600 : Int32).toInt = 3600 := by decide
theorem li_m1 : (-1 : Int32).toInt = -1 := by decide
theorem li_m2 : (-2 : Int32).toInt = -2 := by decide
theorem sA_1 (σ : MS) (j i : Nat) (v : Int32) : (sA σ j i v).1 = σ.1 := rfl
theorem sS_2 (σ : MS) (k : Nat) (v : Int32) : (sS σ k v).2 = σ.2 := rfl
theorem sS_at (σ : MS) (k q : Nat) (v : Int32) : (sS σ k v).1 q = if q = k then v else σ.1 q := rfl
theorem sA_at (σ : MS) (j i q : Nat) (v : Int32) : (sA σ j i v).2 q = if q = j then upd (σ.2 j) i v else σ.2 q := rfl
theorem xN_1 (τ : XS) (e : pE) : (xN τ e).1 = τ.1 := rfl
theorem xN_2 (τ : XS) (e : pE) : (xN τ e).2.1 = τ.2.1 := rfl
theorem xN_s (τ : XS) (e : pE) : (xN τ e).2.2.2.2 = τ.2.2.2.2 + 1 := rfl
theorem xR_1 (τ : XS) (j i : Nat) (r : Option Nat) : (xR τ j i r).1 = τ.1 := rfl
theorem xA_1 (τ : XS) (j i : Nat) (v : Int32) : (xA τ j i v).1.1 = τ.1.1 := rfl
theorem xS_at (τ : XS) (k q : Nat) (v : Int32) : (xS τ k v).1.1 q = if q = k then v else τ.1.1 q := rfl
theorem isC_xN (τ : XS) (c : Nat) (V : Nat → Value) : isC (xN τ (.inr (c, V))) τ.2.2.2.2 [c] = true := isC_of (c := c) (V := V) (by simp [xN, pup]) (by simp)
def pf (σ : MS) : Nat := cN (σ.1 3) + cN (σ.1 57)
def OpQ (σ : MS) (v : Int32 × XS × Nat × Nat) (w : Int32 × MS) : Prop := v.1 = w.1 ∧ R v.2.1 w.2 ∧ pf w.2 ≤ pf σ + 1 ∧ v.2.2.1 ≤ 2000 + 5 * (pf σ * pf σ) ∧ v.2.2.2 ≤ 10000 + 30 * (pf σ * pf σ)
/-- a call's two sides -/
def Op (σ : MS) (X : XR Int32) (Y : Option (Int32 × MS)) : Prop := ∃ v w, X = some v ∧ Y = some w ∧ OpQ σ v w
theorem Op.same {τ : XS} {σ : MS} {a : Int32} {X : XR Int32} {Y : Option (Int32 × MS)} (h : R τ σ) (hx : X = some (a, τ, 0, 0)) (hy : Y = some (a, σ)) : Op σ X Y :=
  ⟨_, _, hx, hy, rfl, h, Nat.le_succ _, Nat.zero_le _, Nat.zero_le _⟩
theorem cj_n {α : Type} {p q : Prop} [Decidable p] [Decidable q] (a b : α) : (if p then a else if q then b else a) = if ¬ p ∧ q then b else a := by
  by_cases hp : p <;> by_cases hq : q <;> simp [hp, hq]
theorem cj_a {α : Type} {p q : Prop} [Decidable p] [Decidable q] (a b : α) : (if p then if q then b else a else a) = if p ∧ q then b else a := by
  by_cases hp : p <;> by_cases hq : q <;> simp [hp, hq]
theorem cj_b {α : Type} {p q : Prop} [Decidable p] [Decidable q] (a b : α) : (if p then if q then a else b else a) = if p ∧ ¬ q then b else a := by
  by_cases hp : p <;> by_cases hq : q <;> simp [hp, hq]
section FORMS
variable {F : Nat} {τ : XS} {σ : MS}
theorem m_in_e (a b c : Int32) : m_in F a b c = some (bI (b.toInt ≤ a.toInt ∧ a.toInt ≤ c.toInt)) := by
  simp only [m_in, Int32.lt_iff_toInt_lt]
  split
  · rw [bI_f (by omega)]
  · split
    · rw [bI_f (by omega)]
    · rw [bI_t (by omega)]
theorem m_isWeek_e (a : Int32) : m_isWeek F a = some (bI (0 ≤ a.toInt ∧ a.toInt ≤ 9999)) := by
  simp only [m_isWeek, Int32.lt_iff_toInt_lt, li_0, li_9999]
  split
  · rw [bI_f (by omega)]
  · split
    · rw [bI_f (by omega)]
    · rw [bI_t (by omega)]
theorem m_isLayer_e (a : Int32) : m_isLayer F a = some (bI (0 ≤ a.toInt ∧ a.toInt < 8)) := by
  simp only [m_isLayer, Int32.lt_iff_toInt_lt, Int32.le_iff_toInt_le, li_0, li_8]
  split
  · rw [bI_f (by omega)]
  · split
    · rw [bI_f (by omega)]
    · rw [bI_t (by omega)]
theorem m_isCell_e (a : Int32) : m_isCell F a σ = some (bI (0 ≤ a.toInt ∧ a.toInt < (σ.1 0 * σ.1 1).toInt), σ) := by
  simp only [m_isCell, Int32.lt_iff_toInt_lt, Int32.le_iff_toInt_le, li_0]
  split
  · rw [bI_f (by omega)]
  · split
    · rw [bI_f (by omega)]
    · rw [bI_t (by omega)]
theorem m_isPlace_e (a : Int32) : m_isPlace F a σ = some (bI (0 ≤ a.toInt ∧ a.toInt < (σ.1 3).toInt), σ) := by
  simp only [m_isPlace, Int32.lt_iff_toInt_lt, Int32.le_iff_toInt_le, li_0]
  split
  · rw [bI_f (by omega)]
  · split
    · rw [bI_f (by omega)]
    · rw [bI_t (by omega)]
theorem m_isDig_e (a : Int32) : m_isDig F a σ = some (bI (0 ≤ a.toInt ∧ a.toInt < (σ.1 4).toInt), σ) := by
  simp only [m_isDig, Int32.lt_iff_toInt_lt, Int32.le_iff_toInt_le, li_0]
  split
  · rw [bI_f (by omega)]
  · split
    · rw [bI_f (by omega)]
    · rw [bI_t (by omega)]
theorem m_isFind_e (a : Int32) : m_isFind F a σ = some (bI (0 ≤ a.toInt ∧ a.toInt < (σ.1 57).toInt), σ) := by
  simp only [m_isFind, Int32.lt_iff_toInt_lt, Int32.le_iff_toInt_le, li_0]
  split
  · rw [bI_f (by omega)]
  · split
    · rw [bI_f (by omega)]
    · rw [bI_t (by omega)]
theorem m_isThing_e (a : Int32) : m_isThing F a σ = some (bI (0 ≤ a.toInt ∧ a.toInt < (σ.1 68).toInt), σ) := by
  simp only [m_isThing, Int32.lt_iff_toInt_lt, Int32.le_iff_toInt_le, li_0]
  split
  · rw [bI_f (by omega)]
  · split
    · rw [bI_f (by omega)]
    · rw [bI_t (by omega)]
theorem m_isWall_e (a : Int32) : m_isWall F a σ = some (bI (0 ≤ a.toInt ∧ a.toInt < (σ.1 79).toInt), σ) := by
  simp only [m_isWall, Int32.lt_iff_toInt_lt, Int32.le_iff_toInt_le, li_0]
  split
  · rw [bI_f (by omega)]
  · split
    · rw [bI_f (by omega)]
    · rw [bI_t (by omega)]
theorem x0_in_e (a b : Int32) : x0_in F a b = some (bI (0 ≤ a.toInt ∧ a.toInt < b.toInt)) := by
  simp only [x0_in, Int32.lt_iff_toInt_lt, Int32.le_iff_toInt_le, li_0]
  split
  · rw [bI_f (by omega)]
  · split
    · rw [bI_f (by omega)]
    · rw [bI_t (by omega)]
theorem x0_within_e (a b c : Int32) : x0_within F a b c = some (bI (b.toInt ≤ a.toInt ∧ a.toInt ≤ c.toInt)) := by
  simp only [x0_within, Int32.lt_iff_toInt_lt]
  split
  · rw [bI_f (by omega)]
  · split
    · rw [bI_f (by omega)]
    · rw [bI_t (by omega)]
theorem x0_isWeek_e (a : Int32) : x0_isWeek F a = some (bI (0 ≤ a.toInt ∧ a.toInt < 10000)) := by
  simp only [x0_isWeek, x0_in_e, ob_s, bI_B, if_true, li_10000]
theorem x0_isLayer_e (a : Int32) : x0_isLayer F a = some (bI (0 ≤ a.toInt ∧ a.toInt < 8)) := by
  simp only [x0_isLayer, x0_in_e, ob_s, bI_B, if_true, li_8]
theorem x0_isCell_e (a : Int32) : x0_isCell F a τ = some (bI (0 ≤ a.toInt ∧ a.toInt < (τ.1.1 0 * τ.1.1 1).toInt), τ, 0, 0) := by
  simp only [x0_isCell, x0_in_e, ob_s, bI_B, if_true]
theorem x0_isPlace_e (a : Int32) : x0_isPlace F a τ = some (bI (0 ≤ a.toInt ∧ a.toInt < (τ.1.1 3).toInt), τ, 0, 0) := by
  simp only [x0_isPlace, x0_in_e, ob_s, bI_B, if_true]
theorem x0_isSpan_e (a b : Int32) : x0_isSpan F a b τ = some (bI (0 ≤ a.toInt ∧ a.toInt ≤ b.toInt ∧ b.toInt ≤ (τ.1.1 2).toInt), τ, 0, 0) := by
  simp only [x0_isSpan, Int32.lt_iff_toInt_lt, li_0]
  split
  · rw [bI_f (by omega)]
  · split
    · rw [bI_f (by omega)]
    · split
      · rw [bI_f (by omega)]
      · rw [bI_t (by omega)]
end FORMS
theorem Op.mk {τ' : XS} {σ σ' : MS} {a : Int32} {c s : Nat} {X : XR Int32} {Y : Option (Int32 × MS)} (hx : X = some (a, τ', c, s)) (hy : Y = some (a, σ')) (hR : R τ' σ') (hp : pf σ' ≤ pf σ + 1) (hc : c ≤ 2000) (hs : s ≤ 10000) : Op σ X Y :=
  ⟨_, _, hx, hy, rfl, hR, hp, Nat.le_trans hc (Nat.le_add_right 2000 _), Nat.le_trans hs (Nat.le_add_right 10000 _)⟩
section RSC
variable {τ : XS} {σ : MS}
theorem R.e0 (h : R τ σ) : τ.1.1 0 = σ.1 0 := h.s.1
theorem R.e1 (h : R τ σ) : τ.1.1 1 = σ.1 1 := h.s.2.1
theorem R.e2 (h : R τ σ) : τ.1.1 2 = σ.1 2 := h.s.2.2.1
theorem R.e3 (h : R τ σ) : τ.1.1 3 = σ.1 3 := h.s.2.2.2.1
theorem R.e4 (h : R τ σ) : τ.1.1 4 = σ.1 4 := h.s.2.2.2.2.1
theorem R.e5 (h : R τ σ) : τ.1.1 5 = σ.1 28 := h.s.2.2.2.2.2.1
theorem R.e12 (h : R τ σ) : τ.1.1 12 = σ.1 21 := h.s.2.2.2.2.2.2.1
theorem R.e14 (h : R τ σ) : τ.1.1 14 = σ.1 44 := h.s.2.2.2.2.2.2.2.1
theorem R.e16 (h : R τ σ) : τ.1.1 16 = σ.1 57 := h.s.2.2.2.2.2.2.2.2.1
theorem R.e18 (h : R τ σ) : τ.1.1 18 = σ.1 68 := h.s.2.2.2.2.2.2.2.2.2.1
theorem R.e22 (h : R τ σ) : τ.1.1 22 = σ.1 69 := h.s.2.2.2.2.2.2.2.2.2.2.1
theorem R.e26 (h : R τ σ) : τ.1.1 26 = σ.1 79 := h.s.2.2.2.2.2.2.2.2.2.2.2.1
theorem R.e27 (h : R τ σ) : τ.1.1 27 = σ.1 80 := h.s.2.2.2.2.2.2.2.2.2.2.2.2.1
theorem R.e34 (h : R τ σ) : τ.1.1 34 = σ.1 89 := h.s.2.2.2.2.2.2.2.2.2.2.2.2.2.1
theorem R.e35 (h : R τ σ) : τ.1.1 35 = σ.1 90 := h.s.2.2.2.2.2.2.2.2.2.2.2.2.2.2.1
theorem R.e42 (h : R τ σ) : τ.1.1 42 = σ.1 100 := h.s.2.2.2.2.2.2.2.2.2.2.2.2.2.2.2.1
theorem R.e44 (h : R τ σ) : τ.1.1 44 = σ.1 101 := h.s.2.2.2.2.2.2.2.2.2.2.2.2.2.2.2.2
theorem R.a3 (h : R τ σ) : τ.1.2 3 = σ.2 0 := h.a.1
theorem R.a4 (h : R τ σ) : τ.1.2 4 = σ.2 20 := h.a.2.1
theorem R.a19 (h : R τ σ) : τ.1.2 19 = σ.2 53 := h.a.2.2.1
theorem R.a23 (h : R τ σ) : τ.1.2 23 = σ.2 66 := h.a.2.2.2.1
theorem R.a24 (h : R τ σ) : τ.1.2 24 = σ.2 67 := h.a.2.2.2.2.1
theorem R.a27 (h : R τ σ) : τ.1.2 27 = σ.2 68 := h.a.2.2.2.2.2.1
theorem R.a28 (h : R τ σ) : τ.1.2 28 = σ.2 69 := h.a.2.2.2.2.2.2.1
theorem R.a29 (h : R τ σ) : τ.1.2 29 = σ.2 72 := h.a.2.2.2.2.2.2.2.1
theorem R.a30 (h : R τ σ) : τ.1.2 30 = σ.2 73 := h.a.2.2.2.2.2.2.2.2
end RSC
theorem Op.ite {σ : MS} {c : Prop} [Decidable c] {X X' : XR Int32} {Y Y' : Option (Int32 × MS)} (h1 : c → Op σ X Y) (h2 : ¬ c → Op σ X' Y') : Op σ (if c then X else X') (if c then Y else Y') := by
  by_cases h : c
  · rw [if_pos h, if_pos h]; exact h1 h
  · rw [if_neg h, if_neg h]; exact h2 h
