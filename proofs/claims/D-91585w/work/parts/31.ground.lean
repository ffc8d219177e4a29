/-! the ground: digs by their first weeks -/
def inS (w c A B : Int32) : Prop := ((jrem A w).toInt ≤ (jrem c w).toInt ∧ (jrem c w).toInt ≤ (jrem B w).toInt) ∧ ((A / w).toInt ≤ (c / w).toInt ∧ (c / w).toInt ≤ (B / w).toInt)
def knw (told struck t : Int32) : Prop := ¬ t.toInt < told.toInt ∧ (struck = -1 ∨ ¬ struck.toInt ≤ t.toInt)
def relP (σ : MS) (c l week t : Int32) (i : Nat) : Prop := ((σ.2 11 i).toInt ≤ week.toInt ∧ knw (σ.2 13 i) (σ.2 14 i) t) ∧ inS (σ.1 0) c (σ.2 7 i) (σ.2 8 i) ∧ (σ.2 9 i).toInt ≤ l.toInt ∧ l.toInt ≤ (σ.2 10 i).toInt
def gSt (kind g : Int32) : Int32 := if kind = 0 then 2 else if kind = 1 then (if g = 0 then 1 else g) else if g = 0 then 0 else 3
def gF1 (kind : Int32) (i : Nat) (s : Int32 × Int32) : Int32 × Int32 := (gSt kind s.1, if s.1 = 0 ∧ ¬ kind = 2 then nI i else s.2)
noncomputable def GG (rel : Nat → Prop) (kind : Nat → Int32) (π : Nat → Nat) (n : Nat) : Int32 × Int32 := Nat.rec (0, -1) (fun k s => @ite _ (rel (π k)) (Classical.propDecidable _) (gF1 (kind (π k)) (π k) s) s) n
theorem GG_0 (rel : Nat → Prop) (kind : Nat → Int32) (π : Nat → Nat) : GG rel kind π 0 = (0, -1) := rfl
theorem GG_t {rel : Nat → Prop} {kind : Nat → Int32} {π : Nat → Nat} {k : Nat} (h : rel (π k)) : GG rel kind π (k + 1) = gF1 (kind (π k)) (π k) (GG rel kind π k) := @if_pos _ (Classical.propDecidable _) h _ _ _
theorem GG_f {rel : Nat → Prop} {kind : Nat → Int32} {π : Nat → Nat} {k : Nat} (h : ¬ rel (π k)) : GG rel kind π (k + 1) = GG rel kind π k := @if_neg _ (Classical.propDecidable _) h _ _ _
theorem GG_skip {rel : Nat → Prop} {kind : Nat → Int32} {π : Nat → Nat} {k : Nat} : ∀ {j : Nat}, k ≤ j → (∀ q, k ≤ q → q < j → ¬ rel (π q)) → GG rel kind π j = GG rel kind π k := by
  intro j hj
  induction j with
  | zero => intro _; have : k = 0 := by omega
            rw [this]
  | succ j ih =>
    intro hq
    by_cases hk : k = j + 1
    · rw [hk]
    · rw [GG_f (hq j (by omega) (by omega))]
      exact ih (by omega) (fun q h1 h2 => hq q h1 (by omega))
theorem GG_inv {rel : Nat → Prop} {kind : Nat → Int32} {π : Nat → Nat} {N : Nat} (hN : N ≤ 100) (hπ : ∀ k, k < N → π k < N) (hk : ∀ i, i < N → kind i = 0 ∨ kind i = 1 ∨ kind i = 2) : ∀ k, k ≤ N → ((GG rel kind π k).1 = 0 ∨ (GG rel kind π k).1 = 1 ∨ (GG rel kind π k).1 = 2 ∨ (GG rel kind π k).1 = 3) ∧ (((GG rel kind π k).1 = 0 ∧ (GG rel kind π k).2 = -1) ∨ (¬ (GG rel kind π k).1 = 0 ∧ ∃ i, i < N ∧ (GG rel kind π k).2 = nI i)) := by
  intro k
  induction k with
  | zero => intro _; exact ⟨Or.inl rfl, Or.inl ⟨rfl, rfl⟩⟩
  | succ k ih =>
    intro hkN
    obtain ⟨h1, h2⟩ := ih (by omega)
    by_cases hr : rel (π k)
    · rw [GG_t hr]
      generalize GG rel kind π k = s at h1 h2
      have hp := hπ k (by omega)
      unfold gF1 gSt
      rcases hk (π k) hp with e | e | e <;> rw [e]
      · refine ⟨by simp, Or.inr ⟨by simp, ?_⟩⟩
        rcases h2 with ⟨g1, g2⟩ | ⟨g1, i, g2, g3⟩
        · exact ⟨π k, hp, by simp [g1]⟩
        · exact ⟨i, g2, by simp [g1, g3]⟩
      · rcases h2 with ⟨g1, g2⟩ | ⟨g1, i, g2, g3⟩
        · exact ⟨by simp [g1], Or.inr ⟨by simp [g1], π k, hp, by simp [g1]⟩⟩
        · refine ⟨?_, Or.inr ⟨by simp [g1], i, g2, by simp [g1, g3]⟩⟩
          simp only [g1, if_false]
          simpa using h1
      · rcases h2 with ⟨g1, g2⟩ | ⟨g1, i, g2, g3⟩
        · exact ⟨by simp [g1], Or.inl ⟨by simp [g1], by simp [g1, g2]⟩⟩
        · exact ⟨by simp [g1], Or.inr ⟨by simp [g1], i, g2, by simp [g1, g3]⟩⟩
    · rw [GG_f hr]
      exact ⟨h1, h2⟩
section GROUND
variable {F : Nat} {τ : XS} {σ : MS}
theorem kind_c {k : Int32} (h0 : 0 ≤ k.toInt) (h2 : k.toInt ≤ 2) : (k = 0 ∧ cN k = 0) ∨ (k = 1 ∧ cN k = 1) ∨ (k = 2 ∧ cN k = 2) := by
  have hc := c_i h0
  have e0 := i_eq k 0
  have e1 := i_eq k 1
  have e2 := i_eq k 2
  rw [li_0] at e0
  rw [li_1] at e1
  rw [li_2] at e2
  rw [e0, e1, e2]
  unfold cN
  omega
theorem w_ne (h : R τ σ) : ¬ σ.1 0 = 0 := by
  have := h.sc.1
  rw [i_eq, li_0]
  omega
theorem m_isIn_e [d : ∀ w c A B, Decidable (inS w c A B)] (hw : ¬ σ.1 0 = 0) (c A B : Int32) : m_isIn F c A B σ = some (bI (inS (σ.1 0) c A B), σ) := by
  simp only [m_isIn, hw, not_false_eq_true, if_true, m_in_e, ob_s, bI_0, ite_not]
  by_cases h1 : (jrem A (σ.1 0)).toInt ≤ (jrem c (σ.1 0)).toInt ∧ (jrem c (σ.1 0)).toInt ≤ (jrem B (σ.1 0)).toInt
  · rw [if_pos h1]
    by_cases h2 : (A / (σ.1 0)).toInt ≤ (c / (σ.1 0)).toInt ∧ (c / (σ.1 0)).toInt ≤ (B / (σ.1 0)).toInt
    · rw [if_pos h2, bI_t (show inS _ _ _ _ from ⟨h1, h2⟩)]
    · rw [if_neg h2, bI_f (fun q : inS _ _ _ _ => h2 q.2)]
  · rw [if_neg h1, bI_f (fun q : inS _ _ _ _ => h1 q.1)]
theorem x2_has_e [d : ∀ w c A B, Decidable (inS w c A B)] {b : Nat} {w A B : Int32} (c : Int32) (hb : Rc τ.2.2.2.1 b w A B) : x2_has F b (jrem c w) (c / w) τ = some (bI (inS w c A B), τ, 0, 0) := by
  simp only [x2_has, hb.gI (k := 0) (x := jrem A w) (by simp) (List.mem_singleton.mpr rfl), hb.gI (k := 1) (x := A / w) (by simp) (List.mem_singleton.mpr rfl), hb.gI (k := 2) (x := jrem B w) (by simp) (List.mem_singleton.mpr rfl), hb.gI (k := 3) (x := B / w) (by simp) (List.mem_singleton.mpr rfl), ob_s, x0_within_e, bI_0, ite_not]
  by_cases h1 : (jrem A w).toInt ≤ (jrem c w).toInt ∧ (jrem c w).toInt ≤ (jrem B w).toInt
  · rw [if_pos h1]
    by_cases h2 : (A / w).toInt ≤ (c / w).toInt ∧ (c / w).toInt ≤ (B / w).toInt
    · rw [if_pos h2, bI_t (show inS _ _ _ _ from ⟨h1, h2⟩)]
    · rw [if_neg h2, bI_f (fun q : inS _ _ _ _ => h2 q.2)]
  · rw [if_neg h1, bI_f (fun q : inS _ _ _ _ => h1 q.1)]
theorem m_isKnown_e [d : ∀ a b c, Decidable (knw a b c)] {i : Nat} (hi : i < 100) (t : Int32) : m_isKnown F (nI i) t σ = some (bI (knw (σ.2 13 i) (σ.2 14 i) t), σ) := by
  simp only [m_isKnown, okI_nI hi (by omega), if_true, ni_c (show i < 2147483648 by omega)]
  simp only [Int32.lt_iff_toInt_lt, Int32.le_iff_toInt_le]
  by_cases h1 : t.toInt < (σ.2 13 i).toInt
  · rw [if_pos h1, bI_f (fun q : knw _ _ _ => q.1 h1)]
  · rw [if_neg h1]
    by_cases h2 : σ.2 14 i = -1
    · rw [if_pos h2, bI_t (show knw _ _ _ from ⟨h1, Or.inl h2⟩)]
    · rw [if_neg h2]
      by_cases h3 : (σ.2 14 i).toInt ≤ t.toInt
      · rw [if_pos h3, bI_f (fun q : knw _ _ _ => by rcases q.2 with z | z; exact h2 z; exact z h3)]
      · rw [if_neg h3, bI_t (show knw _ _ _ from ⟨h1, Or.inr h3⟩)]
theorem x4_isKnown_e [d : ∀ a b c, Decidable (knw a b c)] {a c : Nat} {V : Nat → Value} {told struck : Int32} (h0 : τ.2.2.2.1 a = some (.inr (c, V))) (hc : c ∈ [5, 6, 7]) (h6 : V 6 = .int told) (h8 : V 8 = .int struck) (t : Int32) : x4_isKnown F a t τ = some (bI (knw told struck t), τ, 0, 0) := by
  simp only [x4_isKnown, gI_of h0 hc h6, gI_of h0 hc h8, ob_s]
  simp only [Int32.lt_iff_toInt_lt, Int32.le_iff_toInt_le]
  by_cases h1 : t.toInt < told.toInt
  · rw [if_pos h1, bI_f (fun q : knw _ _ _ => q.1 h1)]
  · rw [if_neg h1]
    by_cases h2 : struck = -1
    · rw [if_pos h2, bI_t (show knw _ _ _ from ⟨h1, Or.inl h2⟩)]
    · rw [if_neg h2]
      by_cases h3 : struck.toInt ≤ t.toInt
      · rw [if_pos h3, bI_f (fun q : knw _ _ _ => by rcases q.2 with z | z; exact h2 z; exact z h3)]
      · rw [if_neg h3, bI_t (show knw _ _ _ from ⟨h1, Or.inr h3⟩)]
theorem m_has_e [d : ∀ w c A B, Decidable (inS w c A B)] (hw : ¬ σ.1 0 = 0) {i : Nat} (hi : i < 100) (c l : Int32) : m_has F (nI i) c l σ = some (bI (inS (σ.1 0) c (σ.2 7 i) (σ.2 8 i) ∧ (σ.2 9 i).toInt ≤ l.toInt ∧ l.toInt ≤ (σ.2 10 i).toInt), σ) := by
  simp only [m_has, okI_nI hi (by omega), if_true, ni_c (show i < 2147483648 by omega), m_isIn_e hw, ob_s, bI_0, ite_not, m_in_e]
  by_cases h1 : inS (σ.1 0) c (σ.2 7 i) (σ.2 8 i)
  · rw [if_pos h1]
    by_cases h2 : (σ.2 9 i).toInt ≤ l.toInt ∧ l.toInt ≤ (σ.2 10 i).toInt
    · rw [if_pos h2, bI_t ⟨h1, h2⟩]
    · rw [if_neg h2, bI_f (fun q => h2 q.2)]
  · rw [if_neg h1, bI_f (fun q => h1 q.1)]
theorem x4_reaches_e [d : ∀ w c A B, Decidable (inS w c A B)] {a cl b : Nat} {V : Nat → Value} {w A B top bottom : Int32} (h0 : τ.2.2.2.1 a = some (.inr (cl, V))) (hc : cl ∈ [5, 6, 7]) (h7 : V 7 = .ref b) (h2 : V 2 = .int top) (h3 : V 3 = .int bottom) (hb : Rc τ.2.2.2.1 b w A B) (c l : Int32) : x4_reaches F a (jrem c w) (c / w) l τ = some (bI (inS w c A B ∧ top.toInt ≤ l.toInt ∧ l.toInt ≤ bottom.toInt), τ, 0, 0) := by
  simp only [x4_reaches, gN_of h0 hc h7, gI_of h0 hc h2, gI_of h0 hc h3, ob_s, hb.isC (List.mem_singleton.mpr rfl), if_true, x2_has_e c hb, tk_00, bI_0, ite_not, x0_within_e]
  by_cases h1 : inS w c A B
  · rw [if_pos h1]
    by_cases h2 : top.toInt ≤ l.toInt ∧ l.toInt ≤ bottom.toInt
    · rw [if_pos h2, bI_t ⟨h1, h2⟩]
    · rw [if_neg h2, bI_f (fun q => h2 q.2)]
  · rw [if_neg h1, bI_f (fun q => h1 q.1)]
theorem xd_makes_e {a : Nat} {V : Nat → Value} {kind : Int32} (h0 : τ.2.2.2.1 a = some (.inr (5 + cN kind, V))) (hk0 : 0 ≤ kind.toInt) (hk2 : kind.toInt ≤ 2) (g : Int32) : xd_makes F a g τ = some (gSt kind g, τ, 0, 0) := by
  unfold xd_makes
  have hn : ∀ c c' : Nat, ¬ c = c' → τ.2.2.2.1 a = some (.inr (c, V)) → ¬ isC τ a [c'] = true := by
    intro c c' hcc h q
    simp [isC, h, hcc] at q
  rcases kind_c hk0 hk2 with ⟨rfl, e⟩ | ⟨rfl, e⟩ | ⟨rfl, e⟩ <;> rw [e] at h0
  · rw [if_pos (isC_of h0 (by simp))]
    simp [x5_makes, gSt]
  · rw [if_neg (hn _ _ (by decide) h0), if_pos (isC_of h0 (by simp))]
    unfold x6_makes gSt
    by_cases hg : g = 0
    · simp [hg]
    · simp [hg]
  · rw [if_neg (hn _ _ (by decide) h0), if_neg (hn _ _ (by decide) h0), if_pos (isC_of h0 (by simp))]
    unfold x7_makes gSt
    by_cases hg : g = 0
    · simp [hg]
    · simp [hg]
end GROUND
