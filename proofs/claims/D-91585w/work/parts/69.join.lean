/-! join: values of the two tables -/
theorem ag_b : ∀ k : Fin 256, 0 ≤ (agV (nI k.1)).toInt ∧ (agV (nI k.1)).toInt ≤ 8 := by decide +kernel
theorem ag_n {x y : Int32} (hx : 0 ≤ x.toInt ∧ x.toInt ≤ 255) (hy : 0 ≤ y.toInt ∧ y.toInt ≤ 255) : agV (x ^^^ y) = nI (cN (agV (x ^^^ y))) ∧ cN (agV (x ^^^ y)) ≤ 8 := by
  obtain ⟨a, ab, rfl, ai⟩ := nn_of hx.1
  obtain ⟨b, bb, rfl, bi⟩ := nn_of hy.1
  rw [ni_i ab] at hx
  rw [ni_i bb] at hy
  rw [xr_n]
  obtain ⟨h1, h2⟩ := ag_b ⟨a ^^^ b, Nat.xor_lt_two_pow (n := 8) (by omega) (by omega)⟩
  simp only at h1 h2
  have h3 := c_i h1
  unfold cN
  exact ⟨(ni_eq h1).symm, by omega⟩
section JOIN
variable {lk : Nat → Nat → Prop} {ag : Nat → Nat → Nat} {U : Nat → Prop}
theorem vx_val {n : Nat} (hn : n ≤ 8) {pr : Nat → Nat → Nat} (ha : ∀ i x, lk i x → ag i x ≤ 8) (hp : ∀ i x, (lk i x → pr i x = 100 + ag i x) ∧ (¬ lk i x → pr i x = 0)) (k : Nat) {s : Nat} (hs : s < 256) : ∃ c g, Bs lk ag U k (stx n s) c g ∧ vx n pr U k s = 100 * c + g ∧ c ≤ 8 ∧ g ≤ 64 := by
  obtain ⟨⟨c, g, h1, h2⟩, h3⟩ := vx_law (U := U) hn hp k s hs
  have hs8 : ∀ i, stx n s i → i < 8 := fun i hi => by have := hi.1; omega
  have hb := Mx_8 ha hs8 h1
  exact ⟨c, g, Bs_w (Nat.le_refl 100) ha hs8 h1 (fun c' g' h' => by have := h3 c' g' h'; omega), h2, hb.1, hb.2⟩
theorem vx_b {n : Nat} (hn : n ≤ 8) {pr : Nat → Nat → Nat} (ha : ∀ i x, lk i x → ag i x ≤ 8) (hp : ∀ i x, (lk i x → pr i x = 100 + ag i x) ∧ (¬ lk i x → pr i x = 0)) (k s : Nat) (hs : s < 256) : vx n pr U k s ≤ 1000 := by
  obtain ⟨c, g, -, h2, h3, h4⟩ := vx_val (U := U) hn ha hp k hs
  omega
theorem vm_b {fi n : Nat} (hn : n ≤ 8) {pr : Nat → Nat → Int} (ha : ∀ i x, lk i x → ag i x ≤ 8) (hp : ∀ i x, (lk i x → pr i x = ag i x) ∧ (¬ lk i x → pr i x = -1)) (k s : Nat) (hs : s < 256) : -1 ≤ vm fi n pr U k s ∧ vm fi n pr U k s ≤ 9000 := by
  rcases vm_at (fi := fi) (U := U) hn hp k s hs with h | ⟨c, g, h1, h2⟩
  · omega
  · have hb := Mx_8 ha (fun i hi => by have := hi.2.1; omega) h1
    omega
theorem vm_val {fi n : Nat} (hn : n ≤ 8) {pr : Nat → Nat → Int} (ha : ∀ i x, lk i x → ag i x ≤ 8) (hp : ∀ i x, (lk i x → pr i x = ag i x) ∧ (¬ lk i x → pr i x = -1)) (k : Nat) : ∃ c g, Bs lk ag U k (fun i => fi ≤ i ∧ i < n) c g ∧ mxs (vm fi n pr U k) (2 ^ (n - fi)) = ((1000 * c + g : Nat) : Int) ∧ c ≤ 8 ∧ g ≤ 64 := by
  have hs8 : ∀ i, (fi ≤ i ∧ i < n) → i < 8 := fun i hi => by omega
  obtain ⟨m1, m2⟩ := mxs_le (vm fi n pr U k) (2 ^ (n - fi))
  have hall : ∀ c' g', Mx lk ag U k (fun i => fi ≤ i ∧ i < n) c' g' → ((1000 * c' + g' : Nat) : Int) ≤ mxs (vm fi n pr U k) (2 ^ (n - fi)) := by
    intro c' g' h'
    obtain ⟨s, q1, q2, q3, q4⟩ := vm_of (fi := fi) (U := U) hn hp k _ c' g' (fun i hi => hi) h'
    exact Int.le_trans q4 (m2 s q2)
  have hex : ∃ c g, Mx lk ag U k (fun i => fi ≤ i ∧ i < n) c g ∧ mxs (vm fi n pr U k) (2 ^ (n - fi)) = ((1000 * c + g : Nat) : Int) := by
    rcases mxs_at (vm fi n pr U k) (2 ^ (n - fi)) with h | ⟨s, h1, h2⟩
    · exact ⟨0, 0, Mx_0 k _, h⟩
    · have hs : s < 256 := Nat.lt_of_lt_of_le h1 (pw8 (by omega)).2
      rcases vm_at (fi := fi) (U := U) hn hp k s hs with q | ⟨c, g, q1, q2⟩
      · omega
      · exact ⟨c, g, Mx_mono (fun i hi => ⟨hi.1, hi.2.1⟩) q1, h2.trans q2⟩
  obtain ⟨c, g, h1, h2⟩ := hex
  have hb := Mx_8 ha hs8 h1
  refine ⟨c, g, Bs_w (show 100 ≤ 1000 by omega) ha hs8 h1 (fun c' g' h' => ?_), h2, hb.1, hb.2⟩
  have := hall c' g' h'
  omega
/-- taking a thing for the first find: as good as the best, or not; the same on both sides -/
theorem Bs_step {n i T : Nat} (hn : n ≤ 8) (hi : i < n) (ha : ∀ i x, lk i x → ag i x ≤ 8) {c g c' g' x : Nat} (hb : Bs lk ag U T (fun j => i ≤ j ∧ j < n) c g) (hx : x < T) (hu : ¬ U x) (hl : lk i x) (hb' : Bs lk ag (fun y => U y ∨ y = x) T (fun j => i + 1 ≤ j ∧ j < n) c' g') :
    (100 * c + g ≤ 100 + ag i x + (100 * c' + g') ↔ c = c' + 1 ∧ g = g' + ag i x) ∧ (1000 + ag i x + (1000 * c' + g') = 1000 * c + g ↔ c = c' + 1 ∧ g = g' + ag i x) := by
  have e : (fun j => i + 1 ≤ j ∧ j < n) = fun j => (i ≤ j ∧ j < n) ∧ ¬ j = i := by
    funext j
    apply propext
    omega
  have hin := hb'.1
  rw [e] at hin
  have h1 := Mx_in (s := fun j => i ≤ j ∧ j < n) ⟨Nat.le_refl _, hi⟩ hx hu hl hin
  have h2 := hb.2 _ _ h1
  have hs8 : ∀ j, (i ≤ j ∧ j < n) → j < 8 := fun j hj => by omega
  have b1 := Mx_8 ha hs8 hb.1
  have b2 := Mx_8 ha hs8 h1
  constructor <;> constructor <;> intro h <;> omega
/-- no thing for the first find -/
theorem Bs_none {n i T : Nat} (hi : i < n) {c g : Nat} (hb : Bs lk ag U T (fun j => i ≤ j ∧ j < n) c g) (hno : ∀ x, x < T → ¬ U x → lk i x → ∀ c' g', Bs lk ag (fun y => U y ∨ y = x) T (fun j => i + 1 ≤ j ∧ j < n) c' g' → ¬ (c = c' + 1 ∧ g = g' + ag i x)) (hex : ∀ x, ∃ c' g', Bs lk ag (fun y => U y ∨ y = x) T (fun j => i + 1 ≤ j ∧ j < n) c' g') : Bs lk ag U T (fun j => i + 1 ≤ j ∧ j < n) c g := by
  have e : (fun j => i + 1 ≤ j ∧ j < n) = fun j => (i ≤ j ∧ j < n) ∧ ¬ j = i := by
    funext j
    apply propext
    omega
  constructor
  · rcases Mx_out (i := i) ⟨Nat.le_refl _, hi⟩ hb.1 with q | ⟨x, q1, q2, q3, c', g', q4, q5, q6⟩
    · rw [e]; exact q
    · exfalso
      obtain ⟨c2, g2, hb2⟩ := hex x
      rw [← e] at q6
      have h3 := hb2.2 c' g' q6
      have h4 := hb2.1
      rw [e] at h4
      have h5 := hb.2 _ _ (Mx_in (s := fun j => i ≤ j ∧ j < n) ⟨Nat.le_refl _, hi⟩ q1 q2 q3 h4)
      exact hno x q1 q2 q3 c2 g2 hb2 (by omega)
  · intro c' g' h'
    exact hb.2 c' g' (Mx_mono (fun j hj => ⟨by have := hj.1; omega, hj.2⟩) h')
end JOIN
