/-! matchings: finds to things, things one by one -/
def Mx (lk : Nat → Nat → Prop) (ag : Nat → Nat → Nat) (U : Nat → Prop) : Nat → (Nat → Prop) → Nat → Nat → Prop
  | 0, _, c, g => c = 0 ∧ g = 0
  | k + 1, s, c, g => Mx lk ag U k s c g ∨ (¬ U k ∧ ∃ i, s i ∧ lk i k ∧ ∃ c' g', c = c' + 1 ∧ g = g' + ag i k ∧ Mx lk ag U k (fun j => s j ∧ ¬ j = i) c' g')
section MATCH
variable {lk : Nat → Nat → Prop} {ag : Nat → Nat → Nat} {U : Nat → Prop}
theorem Mx_s {k : Nat} {s s' : Nat → Prop} {c g : Nat} (h : ∀ i, s i ↔ s' i) (hm : Mx lk ag U k s c g) : Mx lk ag U k s' c g := by
  have : s = s' := funext (fun i => propext (h i))
  rw [← this]
  exact hm
theorem Mx_0 (k : Nat) (s : Nat → Prop) : Mx lk ag U k s 0 0 := by
  induction k with
  | zero => exact ⟨rfl, rfl⟩
  | succ k ih => exact Or.inl ih
theorem Mx_mono : ∀ {k : Nat} {s s' : Nat → Prop} {c g : Nat}, (∀ i, s i → s' i) → Mx lk ag U k s c g → Mx lk ag U k s' c g
  | 0, _, _, _, _, _, h => h
  | k + 1, s, s', c, g, hs, h => by
    rcases h with h | ⟨hu, i, h1, h2, c', g', h3, h4, h5⟩
    · exact Or.inl (Mx_mono hs h)
    · exact Or.inr ⟨hu, i, hs i h1, h2, c', g', h3, h4, Mx_mono (fun j hj => ⟨hs j hj.1, hj.2⟩) h5⟩
theorem Mx_U : ∀ {k : Nat} {U' : Nat → Prop} {s : Nat → Prop} {c g : Nat}, (∀ x, x < k → (U x ↔ U' x)) → Mx lk ag U k s c g → Mx lk ag U' k s c g
  | 0, _, _, _, _, _, h => h
  | k + 1, U', s, c, g, hu, h => by
    rcases h with h | ⟨hk, i, h1, h2, c', g', h3, h4, h5⟩
    · exact Or.inl (Mx_U (fun x hx => hu x (by omega)) h)
    · exact Or.inr ⟨fun q => hk ((hu k (by omega)).mpr q), i, h1, h2, c', g', h3, h4, Mx_U (fun x hx => hu x (by omega)) h5⟩
/-- the first find's thing, taken out -/
theorem Mx_out : ∀ {k : Nat} {s : Nat → Prop} {c g i : Nat}, s i → Mx lk ag U k s c g → Mx lk ag U k (fun j => s j ∧ ¬ j = i) c g ∨ ∃ x, x < k ∧ ¬ U x ∧ lk i x ∧ ∃ c' g', c = c' + 1 ∧ g = g' + ag i x ∧ Mx lk ag (fun y => U y ∨ y = x) k (fun j => s j ∧ ¬ j = i) c' g'
  | 0, _, _, _, _, _, h => Or.inl h
  | k + 1, s, c, g, i, hi, h => by
    rcases h with h | ⟨hk, j, h1, h2, c', g', h3, h4, h5⟩
    · rcases Mx_out hi h with q | ⟨x, q1, q2, q3, c', g', q4, q5, q6⟩
      · exact Or.inl (Or.inl q)
      · exact Or.inr ⟨x, by omega, q2, q3, c', g', q4, q5, Or.inl q6⟩
    · by_cases hji : j = i
      · subst hji
        refine Or.inr ⟨k, by omega, hk, h2, c', g', h3, h4, Or.inl (Mx_U (fun x hx => ⟨Or.inl, fun q => ?_⟩) h5)⟩
        rcases q with q | q
        · exact q
        · omega
      · rcases Mx_out (s := fun z => s z ∧ ¬ z = j) (i := i) ⟨hi, fun e => hji e.symm⟩ h5 with q | ⟨x, q1, q2, q3, c2, g2, q4, q5, q6⟩
        · exact Or.inl (Or.inr ⟨hk, j, ⟨h1, hji⟩, h2, c', g', h3, h4, Mx_s (fun z => ⟨fun ⟨⟨a, b⟩, d⟩ => ⟨⟨a, d⟩, b⟩, fun ⟨⟨a, b⟩, d⟩ => ⟨⟨a, d⟩, b⟩⟩) q⟩)
        · refine Or.inr ⟨x, by omega, q2, q3, c2 + 1, g2 + ag j k, by omega, by omega, Or.inr ⟨?_, j, ⟨h1, hji⟩, h2, c2, g2, rfl, rfl, Mx_s (fun z => ⟨fun ⟨⟨a, b⟩, d⟩ => ⟨⟨a, d⟩, b⟩, fun ⟨⟨a, b⟩, d⟩ => ⟨⟨a, d⟩, b⟩⟩) q6⟩⟩
          rintro (q | q)
          · exact hk q
          · omega
theorem Mx_in : ∀ {k : Nat} {s : Nat → Prop} {c g i x : Nat}, s i → x < k → ¬ U x → lk i x → Mx lk ag (fun y => U y ∨ y = x) k (fun j => s j ∧ ¬ j = i) c g → Mx lk ag U k s (c + 1) (g + ag i x)
  | 0, _, _, _, _, _, _, hx, _, _, _ => by omega
  | k + 1, s, c, g, i, x, hi, hx, hu, hl, h => by
    by_cases hxk : x = k
    · subst hxk
      rcases h with h | ⟨hk, -⟩
      · refine Or.inr ⟨hu, i, hi, hl, c, g, rfl, rfl, Mx_U (fun y hy => ⟨fun q => ?_, Or.inl⟩) h⟩
        rcases q with q | q
        · exact q
        · omega
      · exact absurd (Or.inr rfl) hk
    · rcases h with h | ⟨hk, j, ⟨h1, hji⟩, h2, c', g', h3, h4, h5⟩
      · exact Or.inl (Mx_in hi (by omega) hu hl h)
      · have h6 := Mx_in (s := fun z => s z ∧ ¬ z = j) (i := i) (x := x) ⟨hi, fun e => hji e.symm⟩ (by omega) hu hl (Mx_s (fun z => ⟨fun ⟨⟨a, b⟩, d⟩ => ⟨⟨a, d⟩, b⟩, fun ⟨⟨a, b⟩, d⟩ => ⟨⟨a, d⟩, b⟩⟩) h5)
        exact Or.inr ⟨fun q => hk (Or.inl q), j, h1, h2, c' + 1, g' + ag i x, by omega, by omega, h6⟩
theorem cn_le2 {P Q : Nat → Prop} (h : ∀ i, P i → Q i) : ∀ n, cn P n ≤ cn Q n
  | 0 => Nat.le_refl 0
  | n + 1 => by
    have ih := cn_le2 h n
    by_cases hp : P n
    · rw [cn, cn, if_pos hp, if_pos (h n hp)]; omega
    · rw [cn, cn, if_neg hp]; omega
theorem cn_rm {s : Nat → Prop} {i : Nat} (hi : s i) : ∀ n, i < n → cn (fun j => s j ∧ ¬ j = i) n + 1 ≤ cn s n
  | 0, h => by omega
  | n + 1, h => by
    by_cases hin : i = n
    · subst hin
      have h1 := cn_le2 (P := fun j => s j ∧ ¬ j = i) (Q := s) (fun j hj => hj.1) i
      rw [cn, cn, if_pos hi, if_neg (fun q => q.2 rfl)]
      omega
    · have ih := cn_rm hi n (by omega)
      by_cases hp : s n
      · rw [cn, cn, if_pos hp, if_pos ⟨hp, fun e => hin e.symm⟩]; omega
      · rw [cn, cn, if_neg hp, if_neg (fun q => hp q.1)]; omega
/-- bounds -/
theorem Mx_b (ha : ∀ i x, lk i x → ag i x ≤ 8) : ∀ {k : Nat} {s : Nat → Prop} {c g : Nat}, (∀ i, s i → i < 8) → Mx lk ag U k s c g → c ≤ cn s 8 ∧ g ≤ 8 * c
  | 0, _, _, _, _, h => by
    obtain ⟨rfl, rfl⟩ := h
    exact ⟨Nat.zero_le _, by omega⟩
  | k + 1, s, c, g, hs, h => by
    rcases h with h | ⟨hk, i, h1, h2, c', g', h3, h4, h5⟩
    · exact Mx_b ha hs h
    · obtain ⟨b1, b2⟩ := Mx_b ha (fun j hj => hs j hj.1) h5
      have := cn_rm h1 8 (hs i h1)
      have := ha i k h2
      omega
theorem Mx_8 (ha : ∀ i x, lk i x → ag i x ≤ 8) {k : Nat} {s : Nat → Prop} {c g : Nat} (hs : ∀ i, s i → i < 8) (h : Mx lk ag U k s c g) : c ≤ 8 ∧ g ≤ 64 := by
  obtain ⟨h1, h2⟩ := Mx_b ha hs h
  have := cn_le s 8
  omega
/-- the best, first by many, then by marks -/
def Bs (lk : Nat → Nat → Prop) (ag : Nat → Nat → Nat) (U : Nat → Prop) (k : Nat) (s : Nat → Prop) (c g : Nat) : Prop := Mx lk ag U k s c g ∧ ∀ c' g', Mx lk ag U k s c' g' → c' < c ∨ (c' = c ∧ g' ≤ g)
theorem Bs_u {k : Nat} {s : Nat → Prop} {c g c' g' : Nat} (h : Bs lk ag U k s c g) (h' : Bs lk ag U k s c' g') : c = c' ∧ g = g' := by
  have h1 := h.2 c' g' h'.1
  have h2 := h'.2 c g h.1
  omega
theorem Bs_w {K : Nat} (hK : 100 ≤ K) (ha : ∀ i x, lk i x → ag i x ≤ 8) {k : Nat} {s : Nat → Prop} {c g : Nat} (hs : ∀ i, s i → i < 8) (h : Mx lk ag U k s c g) (hm : ∀ c' g', Mx lk ag U k s c' g' → K * c' + g' ≤ K * c + g) : Bs lk ag U k s c g := by
  refine ⟨h, fun c' g' h' => ?_⟩
  have b1 := Mx_8 ha hs h
  have b2 := Mx_8 ha hs h'
  have h3 := hm c' g' h'
  by_cases hc : c' < c
  · exact Or.inl hc
  · right
    obtain ⟨d, rfl⟩ : ∃ d, c' = c + d := ⟨c' - c, by omega⟩
    rw [Nat.mul_add] at h3
    have : d = 0 := by
      refine Classical.byContradiction (fun hd => ?_)
      have : K * 1 ≤ K * d := Nat.mul_le_mul_left K (by omega)
      omega
    subst this
    rw [Nat.mul_zero] at h3
    omega
end MATCH
