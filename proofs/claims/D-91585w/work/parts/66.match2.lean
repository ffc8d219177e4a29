/-! the two tables over sets of finds -/
theorem y_1 : ∀ s : Fin 256, ∀ i : Fin 8, s.1.testBit i.1 = true → 2 ^ i.1 ≤ s.1 ∧ (s.1 - 2 ^ i.1).testBit i.1 = false ∧ ∀ j : Fin 8, ¬ j.1 = i.1 → (s.1 - 2 ^ i.1).testBit j.1 = s.1.testBit j.1 := by decide +kernel
theorem y_2 : ∀ s : Fin 256, ∀ i : Fin 8, s.1.testBit i.1 = false → s.1 + 2 ^ i.1 < 256 ∧ (s.1 + 2 ^ i.1).testBit i.1 = true ∧ ∀ j : Fin 8, ¬ j.1 = i.1 → (s.1 + 2 ^ i.1).testBit j.1 = s.1.testBit j.1 := by decide +kernel
theorem tb_cl {s i j : Nat} (hs : s < 256) (hi : i < 8) (h : s.testBit i = true) : 2 ^ i ≤ s ∧ ((s - 2 ^ i).testBit j = true ↔ s.testBit j = true ∧ ¬ j = i) := by
  obtain ⟨h1, h2, h3⟩ := y_1 ⟨s, hs⟩ ⟨i, hi⟩ h
  refine ⟨h1, ?_⟩
  by_cases hj : j < 8
  · by_cases hji : j = i
    · subst hji
      have h2' : (s - 2 ^ j).testBit j = false := h2
      rw [h2']
      simp
    · have h3' : (s - 2 ^ i).testBit j = s.testBit j := h3 ⟨j, hj⟩ hji
      rw [h3']
      simp [hji]
  · have e1 : (s - 2 ^ i).testBit j = false := Nat.testBit_lt_two_pow (Nat.lt_of_lt_of_le (show s - 2 ^ i < 2 ^ 8 from Nat.lt_of_le_of_lt (Nat.sub_le _ _) hs) (Nat.pow_le_pow_right (by omega) (by omega)))
    have e2 : s.testBit j = false := Nat.testBit_lt_two_pow (Nat.lt_of_lt_of_le (show s < 2 ^ 8 by omega) (Nat.pow_le_pow_right (by omega) (by omega)))
    rw [e1, e2]
    simp
theorem tb_ad {s i j : Nat} (hs : s < 256) (hi : i < 8) (h : s.testBit i = false) : s + 2 ^ i < 256 ∧ ((s + 2 ^ i).testBit j = true ↔ s.testBit j = true ∨ j = i) := by
  obtain ⟨h1, h2, h3⟩ := y_2 ⟨s, hs⟩ ⟨i, hi⟩ h
  refine ⟨h1, ?_⟩
  by_cases hj : j < 8
  · by_cases hji : j = i
    · subst hji
      have h2' : (s + 2 ^ j).testBit j = true := h2
      rw [h2']
      simp
    · have h3' : (s + 2 ^ i).testBit j = s.testBit j := h3 ⟨j, hj⟩ hji
      rw [h3']
      simp [hji]
  · have h1' : s + 2 ^ i < 256 := h1
    have e1 : (s + 2 ^ i).testBit j = false := Nat.testBit_lt_two_pow (Nat.lt_of_lt_of_le (show s + 2 ^ i < 2 ^ 8 by omega) (Nat.pow_le_pow_right (by omega) (by omega)))
    have e2 : s.testBit j = false := Nat.testBit_lt_two_pow (Nat.lt_of_lt_of_le (show s < 2 ^ 8 by omega) (Nat.pow_le_pow_right (by omega) (by omega)))
    rw [e1, e2]
    simp
    omega
def fx (old : Nat → Nat) (p : Nat → Nat) (s : Nat) : Nat → Nat
  | 0 => old s
  | i + 1 => if s.testBit i = true ∧ 0 < p i then (if fx old p s i < p i + old (s - 2 ^ i) then p i + old (s - 2 ^ i) else fx old p s i) else fx old p s i
noncomputable def vx (n : Nat) (pr : Nat → Nat → Nat) (U : Nat → Prop) : Nat → Nat → Nat
  | 0, _ => 0
  | k + 1, s => @ite _ (U k) (Classical.propDecidable _) (vx n pr U k s) (fx (vx n pr U k) (fun i => pr i k) s n)
theorem fx_le (old p : Nat → Nat) (s : Nat) : ∀ n, old s ≤ fx old p s n ∧ ∀ i, i < n → s.testBit i = true → 0 < p i → p i + old (s - 2 ^ i) ≤ fx old p s n
  | 0 => ⟨Nat.le_refl _, fun i hi => by omega⟩
  | n + 1 => by
    obtain ⟨h1, h2⟩ := fx_le old p s n
    have h3 : fx old p s n ≤ fx old p s (n + 1) ∧ (s.testBit n = true → 0 < p n → p n + old (s - 2 ^ n) ≤ fx old p s (n + 1)) := by
      rw [fx]
      by_cases c : s.testBit n = true ∧ 0 < p n
      · rw [if_pos c]
        split
        · exact ⟨by omega, fun _ _ => Nat.le_refl _⟩
        · exact ⟨Nat.le_refl _, fun _ _ => by omega⟩
      · rw [if_neg c]
        exact ⟨Nat.le_refl _, fun a b => absurd ⟨a, b⟩ c⟩
    refine ⟨by omega, fun i hi hb hp => ?_⟩
    by_cases hin : i = n
    · subst hin; exact h3.2 hb hp
    · have := h2 i (by omega) hb hp
      omega
theorem fx_at (old p : Nat → Nat) (s : Nat) : ∀ n, fx old p s n = old s ∨ ∃ i, i < n ∧ s.testBit i = true ∧ 0 < p i ∧ fx old p s n = p i + old (s - 2 ^ i)
  | 0 => Or.inl rfl
  | n + 1 => by
    have ih := fx_at old p s n
    have ih' : fx old p s n = old s ∨ ∃ i, i < n + 1 ∧ s.testBit i = true ∧ 0 < p i ∧ fx old p s n = p i + old (s - 2 ^ i) := by
      rcases ih with h | ⟨i, h1, h2⟩
      · exact Or.inl h
      · exact Or.inr ⟨i, by omega, h2⟩
    rw [fx]
    by_cases c : s.testBit n = true ∧ 0 < p n
    · rw [if_pos c]
      split
      · exact Or.inr ⟨n, by omega, c.1, c.2, rfl⟩
      · exact ih'
    · rw [if_neg c]
      exact ih'
def stx (n s : Nat) : Nat → Prop := fun i => i < n ∧ s.testBit i = true
theorem stx_cl {n s i : Nat} (hn : n ≤ 8) (hs : s < 256) (hi : i < n) (h : s.testBit i = true) : stx n (s - 2 ^ i) = fun j => stx n s j ∧ ¬ j = i := by
  funext j
  apply propext
  unfold stx
  have := (tb_cl (j := j) hs (show i < 8 by omega) h).2
  constructor
  · rintro ⟨a, b⟩
    exact ⟨⟨a, (this.mp b).1⟩, (this.mp b).2⟩
  · rintro ⟨⟨a, b⟩, c⟩
    exact ⟨a, this.mpr ⟨b, c⟩⟩
theorem vx_law {n : Nat} (hn : n ≤ 8) {pr : Nat → Nat → Nat} {lk : Nat → Nat → Prop} {ag : Nat → Nat → Nat} {U : Nat → Prop} (hp : ∀ i x, (lk i x → pr i x = 100 + ag i x) ∧ (¬ lk i x → pr i x = 0)) : ∀ k s, s < 256 → (∃ c g, Mx lk ag U k (stx n s) c g ∧ vx n pr U k s = 100 * c + g) ∧ ∀ c g, Mx lk ag U k (stx n s) c g → 100 * c + g ≤ vx n pr U k s
  | 0, s, _ => ⟨⟨0, 0, ⟨rfl, rfl⟩, rfl⟩, fun c g h => by obtain ⟨rfl, rfl⟩ := h; exact Nat.le_refl _⟩
  | k + 1, s, hs => by
    obtain ⟨⟨c0, g0, h1, h2⟩, h3⟩ := vx_law hn hp k s hs
    by_cases hu : U k
    · have e : vx n pr U (k + 1) s = vx n pr U k s := by rw [vx]; exact if_pos hu
      rw [e]
      refine ⟨⟨c0, g0, Or.inl h1, h2⟩, fun c g h => ?_⟩
      rcases h with h | ⟨h, -⟩
      · exact h3 c g h
      · exact absurd hu h
    · have e : vx n pr U (k + 1) s = fx (vx n pr U k) (fun i => pr i k) s n := by rw [vx]; exact if_neg hu
      rw [e]
      obtain ⟨l1, l2⟩ := fx_le (vx n pr U k) (fun i => pr i k) s n
      constructor
      · rcases fx_at (vx n pr U k) (fun i => pr i k) s n with q | ⟨i, q1, q2, q3, q4⟩
        · exact ⟨c0, g0, Or.inl h1, q.trans h2⟩
        · have hlk : lk i k := by
            refine Classical.byContradiction (fun hl => ?_)
            have := (hp i k).2 hl
            omega
          have hpr := (hp i k).1 hlk
          obtain ⟨⟨c1, g1, r1, r2⟩, -⟩ := vx_law hn hp k (s - 2 ^ i) (Nat.lt_of_le_of_lt (Nat.sub_le _ _) hs)
          rw [stx_cl hn hs q1 q2] at r1
          refine ⟨c1 + 1, g1 + ag i k, Or.inr ⟨hu, i, ⟨q1, q2⟩, hlk, c1, g1, rfl, rfl, r1⟩, ?_⟩
          rw [q4, r2, hpr]
          omega
      · intro c g h
        rcases h with h | ⟨-, i, ⟨q1, q2⟩, q3, c', g', q4, q5, q6⟩
        · have := h3 c g h
          omega
        · have hpr := (hp i k).1 q3
          rw [← stx_cl hn hs q1 q2] at q6
          have r := (vx_law hn hp k (s - 2 ^ i) (Nat.lt_of_le_of_lt (Nat.sub_le _ _) hs)).2 c' g' q6
          have := l2 i q1 q2 (by show 0 < pr i k; omega)
          omega
def fm (old : Nat → Int) (p : Nat → Int) (s : Nat) : Nat → Int
  | 0 => old s
  | i + 1 => if s.testBit i = true ∧ ¬ p i = -1 ∧ ¬ old (s - 2 ^ i) = -1 then (if old (s - 2 ^ i) + 1000 + p i ≤ fm old p s i then fm old p s i else old (s - 2 ^ i) + 1000 + p i) else fm old p s i
noncomputable def vm (fi n : Nat) (pr : Nat → Nat → Int) (U : Nat → Prop) : Nat → Nat → Int
  | 0, s => if s = 0 then 0 else -1
  | k + 1, s => @ite _ (U k) (Classical.propDecidable _) (vm fi n pr U k s) (fm (vm fi n pr U k) (fun f => pr (fi + f) k) s (n - fi))
theorem fm_le (old p : Nat → Int) (s : Nat) : ∀ n, old s ≤ fm old p s n ∧ ∀ i, i < n → s.testBit i = true → ¬ p i = -1 → ¬ old (s - 2 ^ i) = -1 → old (s - 2 ^ i) + 1000 + p i ≤ fm old p s n
  | 0 => ⟨Int.le_refl _, fun i hi => by omega⟩
  | n + 1 => by
    obtain ⟨h1, h2⟩ := fm_le old p s n
    have h3 : fm old p s n ≤ fm old p s (n + 1) ∧ (s.testBit n = true → ¬ p n = -1 → ¬ old (s - 2 ^ n) = -1 → old (s - 2 ^ n) + 1000 + p n ≤ fm old p s (n + 1)) := by
      rw [fm]
      by_cases c : s.testBit n = true ∧ ¬ p n = -1 ∧ ¬ old (s - 2 ^ n) = -1
      · rw [if_pos c]
        split
        · exact ⟨by omega, fun _ _ _ => by omega⟩
        · exact ⟨by omega, fun _ _ _ => by omega⟩
      · rw [if_neg c]
        exact ⟨Int.le_refl _, fun a b d => absurd ⟨a, b, d⟩ c⟩
    refine ⟨by omega, fun i hi hb hp ho => ?_⟩
    by_cases hin : i = n
    · subst hin; exact h3.2 hb hp ho
    · have := h2 i (by omega) hb hp ho
      omega
theorem fm_at (old p : Nat → Int) (s : Nat) : ∀ n, fm old p s n = old s ∨ ∃ i, i < n ∧ s.testBit i = true ∧ ¬ p i = -1 ∧ ¬ old (s - 2 ^ i) = -1 ∧ fm old p s n = old (s - 2 ^ i) + 1000 + p i
  | 0 => Or.inl rfl
  | n + 1 => by
    have ih := fm_at old p s n
    have ih' : fm old p s n = old s ∨ ∃ i, i < n + 1 ∧ s.testBit i = true ∧ ¬ p i = -1 ∧ ¬ old (s - 2 ^ i) = -1 ∧ fm old p s n = old (s - 2 ^ i) + 1000 + p i := by
      rcases ih with h | ⟨i, h1, h2⟩
      · exact Or.inl h
      · exact Or.inr ⟨i, by omega, h2⟩
    rw [fm]
    by_cases c : s.testBit n = true ∧ ¬ p n = -1 ∧ ¬ old (s - 2 ^ n) = -1
    · rw [if_pos c]
      split
      · exact ih'
      · exact Or.inr ⟨n, by omega, c.1, c.2.1, c.2.2, rfl⟩
    · rw [if_neg c]
      exact ih'
def stm (fi n s : Nat) : Nat → Prop := fun i => fi ≤ i ∧ i < n ∧ s.testBit (i - fi) = true
theorem stm_cl {fi n s f : Nat} (hn : n ≤ 8) (hs : s < 256) (hf : f < n - fi) (h : s.testBit f = true) : ∀ j, stm fi n (s - 2 ^ f) j ↔ stm fi n s j ∧ ¬ j = fi + f := by
  intro j
  unfold stm
  have := (tb_cl (j := j - fi) hs (show f < 8 by omega) h).2
  constructor
  · rintro ⟨a, b, c⟩
    exact ⟨⟨a, b, (this.mp c).1⟩, by have := (this.mp c).2; omega⟩
  · rintro ⟨⟨a, b, c⟩, d⟩
    exact ⟨a, b, this.mpr ⟨c, by omega⟩⟩
theorem vm_at {fi n : Nat} (hn : n ≤ 8) {pr : Nat → Nat → Int} {lk : Nat → Nat → Prop} {ag : Nat → Nat → Nat} {U : Nat → Prop} (hp : ∀ i x, (lk i x → pr i x = ag i x) ∧ (¬ lk i x → pr i x = -1)) : ∀ k s, s < 256 → vm fi n pr U k s = -1 ∨ ∃ c g, Mx lk ag U k (stm fi n s) c g ∧ vm fi n pr U k s = ((1000 * c + g : Nat) : Int)
  | 0, s, _ => by
    by_cases h : s = 0
    · exact Or.inr ⟨0, 0, ⟨rfl, rfl⟩, by rw [vm, if_pos h]; rfl⟩
    · exact Or.inl (by rw [vm, if_neg h])
  | k + 1, s, hs => by
    have ih := vm_at (fi := fi) (U := U) hn hp k
    have hold : vm fi n pr U k s = -1 ∨ ∃ c g, Mx lk ag U (k + 1) (stm fi n s) c g ∧ vm fi n pr U k s = ((1000 * c + g : Nat) : Int) := by
      rcases ih s hs with h | ⟨c, g, h1, h2⟩
      · exact Or.inl h
      · exact Or.inr ⟨c, g, Or.inl h1, h2⟩
    by_cases hu : U k
    · have e : vm fi n pr U (k + 1) s = vm fi n pr U k s := by rw [vm]; exact if_pos hu
      rw [e]
      exact hold
    · have e : vm fi n pr U (k + 1) s = fm (vm fi n pr U k) (fun f => pr (fi + f) k) s (n - fi) := by rw [vm]; exact if_neg hu
      rw [e]
      rcases fm_at (vm fi n pr U k) (fun f => pr (fi + f) k) s (n - fi) with q | ⟨f, q1, q2, q3, q4, q5⟩
      · rw [q]; exact hold
      · right
        have hlk : lk (fi + f) k := Classical.byContradiction (fun hl => q3 ((hp (fi + f) k).2 hl))
        have hpr := (hp (fi + f) k).1 hlk
        rcases ih (s - 2 ^ f) (Nat.lt_of_le_of_lt (Nat.sub_le _ _) hs) with r | ⟨c1, g1, r1, r2⟩
        · exact absurd r q4
        · refine ⟨c1 + 1, g1 + ag (fi + f) k, Or.inr ⟨hu, fi + f, ⟨by omega, by omega, by rw [show fi + f - fi = f by omega]; exact q2⟩, hlk, c1, g1, rfl, rfl, Mx_s (stm_cl hn hs q1 q2) r1⟩, ?_⟩
          rw [q5, r2, hpr]
          omega
theorem vm_of {fi n : Nat} (hn : n ≤ 8) {pr : Nat → Nat → Int} {lk : Nat → Nat → Prop} {ag : Nat → Nat → Nat} {U : Nat → Prop} (hp : ∀ i x, (lk i x → pr i x = ag i x) ∧ (¬ lk i x → pr i x = -1)) : ∀ k (S : Nat → Prop) c g, (∀ i, S i → fi ≤ i ∧ i < n) → Mx lk ag U k S c g → ∃ s, s < 256 ∧ s < 2 ^ (n - fi) ∧ (∀ i, stm fi n s i → S i) ∧ ((1000 * c + g : Nat) : Int) ≤ vm fi n pr U k s
  | 0, S, c, g, _, h => by
    obtain ⟨rfl, rfl⟩ := h
    exact ⟨0, by omega, Nat.two_pow_pos _, fun i hi => by have := hi.2.2; simp at this, by rw [vm, if_pos rfl]; exact Int.le_refl _⟩
  | k + 1, S, c, g, hS, h => by
    have hup : ∀ s, vm fi n pr U k s ≤ vm fi n pr U (k + 1) s := by
      intro s
      by_cases hu : U k
      · have e : vm fi n pr U (k + 1) s = vm fi n pr U k s := by rw [vm]; exact if_pos hu
        rw [e]; exact Int.le_refl _
      · have e : vm fi n pr U (k + 1) s = fm (vm fi n pr U k) (fun f => pr (fi + f) k) s (n - fi) := by rw [vm]; exact if_neg hu
        rw [e]
        exact (fm_le _ _ _ _).1
    rcases h with h | ⟨hu, i, h1, h2, c', g', h3, h4, h5⟩
    · obtain ⟨s, q1, q2, q3, q4⟩ := vm_of hn hp k S c g hS h
      exact ⟨s, q1, q2, q3, Int.le_trans q4 (hup s)⟩
    · obtain ⟨s, q1, q2, q3, q4⟩ := vm_of hn hp k (fun j => S j ∧ ¬ j = i) c' g' (fun j hj => hS j hj.1) h5
      obtain ⟨i1, i2⟩ := hS i h1
      have hb : s.testBit (i - fi) = false := by
        refine Classical.byContradiction (fun hne => ?_)
        have hne' : s.testBit (i - fi) = true := by simpa using hne
        exact (q3 i ⟨i1, i2, hne'⟩).2 rfl
      obtain ⟨a1, a2⟩ := tb_ad (j := i - fi) q1 (show i - fi < 8 by omega) hb
      have hbit : (s + 2 ^ (i - fi)).testBit (i - fi) = true := a2.mpr (Or.inr rfl)
      refine ⟨s + 2 ^ (i - fi), a1, ?_, fun j hj => ?_, ?_⟩
      · apply Nat.lt_pow_two_of_testBit
        intro j hj
        refine Classical.byContradiction (fun hne => ?_)
        have hne' : (s + 2 ^ (i - fi)).testBit j = true := by simpa using hne
        rcases (tb_ad (j := j) q1 (show i - fi < 8 by omega) hb).2.mp hne' with z | z
        · have : s.testBit j = false := Nat.testBit_lt_two_pow (Nat.lt_of_lt_of_le q2 (Nat.pow_le_pow_right (by omega) hj))
          rw [this] at z
          cases z
        · omega
      · rcases (tb_ad (j := j - fi) q1 (show i - fi < 8 by omega) hb).2.mp hj.2.2 with z | z
        · exact (q3 j ⟨hj.1, hj.2.1, z⟩).1
        · have : j = i := by have := hj.1; omega
          rw [this]; exact h1
      · have e : vm fi n pr U (k + 1) (s + 2 ^ (i - fi)) = fm (vm fi n pr U k) (fun f => pr (fi + f) k) (s + 2 ^ (i - fi)) (n - fi) := by rw [vm]; exact if_neg hu
        have hpr := (hp i k).1 h2
        have l := (fm_le (vm fi n pr U k) (fun f => pr (fi + f) k) (s + 2 ^ (i - fi)) (n - fi)).2 (i - fi) (by omega) hbit
        simp only [show fi + (i - fi) = i by omega, Nat.add_sub_cancel, hpr] at l
        rw [e]
        have := l (by omega) (by omega)
        omega
