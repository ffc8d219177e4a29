def rX (τ : XS) (ρ : Nat → Int32) : XS := (aS τ.1 19 ρ, τ.2)
def rM (σ : MS) (nn : Int32) (ρ : Nat → Int32) : MS := aS (sS σ 69 nn) 53 ρ
theorem rX_u (τ : XS) (ρ : Nat → Int32) (i : Nat) (v : Int32) : xA (rX τ ρ) 19 i v = rX τ (upd ρ i v) := by
  unfold xA rX
  rw [sA_aS]
theorem rM_u (σ : MS) (nn : Int32) (ρ : Nat → Int32) (i : Nat) (v : Int32) : sA (rM σ nn ρ) 53 i v = rM σ nn (upd ρ i v) := by
  unfold rM
  rw [sA_aS]
theorem rX_q (τ : XS) (ρ g : Nat → Int32) : qX (rX τ ρ) g = rX (qX τ g) ρ := by
  unfold qX rX aS
  simp only [Prod.mk.injEq, and_true, true_and]
  funext q
  by_cases h1 : q = 20
  · subst h1; simp
  · by_cases h2 : q = 19
    · subst h2; simp
    · simp [h1, h2]
theorem rM_q (σ : MS) (nn : Int32) (ρ g : Nat → Int32) : aS (rM σ nn ρ) 54 g = rM (aS σ 54 g) nn ρ := by
  unfold rM aS sS
  simp only [Prod.mk.injEq, true_and]
  funext q
  by_cases h1 : q = 54
  · subst h1; simp
  · by_cases h2 : q = 53
    · subst h2; simp
    · simp [h1, h2]
theorem rM_w (σ : MS) (nn : Int32) (ρ : Nat → Int32) (i : Nat) (v : Int32) : sA (rM σ nn ρ) 56 i v = rM (sA σ 56 i v) nn ρ := by
  unfold rM
  rw [sA_aS_ne _ _ _ _ _ _ (by decide)]
  rfl
section JOIN5
variable {F : Nat} {τ : XS} {σ : MS}
/-- the first find's choice -/
def Dk (lk : Nat → Nat → Prop) (ag : Nat → Nat → Nat) (U : Nat → Prop) (T n i c g k : Nat) : Prop := ¬ U k ∧ lk i k ∧ ∃ c' g', Bs lk ag (fun y => U y ∨ y = k) T (fun j => i + 1 ≤ j ∧ j < n) c' g' ∧ c = c' + 1 ∧ g = g' + ag i k
theorem join_x182 (hF : 1000 ≤ F) {lk : Nat → Nat → Prop} {ag : Nat → Nat → Nat} {pr : Nat → Nat → Nat} (ha : ∀ i x, lk i x → ag i x ≤ 8) (hp : ∀ i x, (lk i x → pr i x = 100 + ag i x) ∧ (¬ lk i x → pr i x = 0)) {n T i c g : Nat} (hn : n ≤ 8) (hT : T ≤ 60) (hi : i < n) {U : Nat → Prop} (hb : Bs lk ag U T (fun j => i ≤ j ∧ j < n) c g) (h21 : τ.1.1 21 = nI n) (h18 : τ.1.1 18 = nI T) {w : Int64} (hw : ∀ y, y < T → (b64 w y = true ↔ U y)) {lm : Nat} (hlm : lm < 2 ^ n) (hlb : stx n lm = fun j => i + 1 ≤ j ∧ j < n) (K : Int32 × XS → XR Int32) (x1 x6 : Int32) (ρ : Nat → Int32) {τ0 : XS} (k0 : Kjx τ τ0) (hpr : ∀ i', i' < n → ∀ y, y < T → τ0.1.2 (11 + i') y = nI (pr i' y)) :
    ∃ k τ2, lp (x0_join_B182 F K x1 (nI lm) w (nI (100 * c + g)) x6 (nI i)) F (0, rX τ0 ρ) = K (nI k, rX τ2 ρ) ∧ Kjx τ τ2 ∧ (∀ i', i' < n → ∀ y, y < T → τ2.1.2 (11 + i') y = nI (pr i' y)) ∧ (∀ j, j < k → ¬ Dk lk ag U T n i c g j) ∧ k ≤ T ∧ (k = T ∨ Dk lk ag U T n i c g k) := by
  have hs8 : ∀ j, (i ≤ j ∧ j < n) → j < 8 := fun j hj => by omega
  have b1 := Mx_8 ha hs8 hb.1
  obtain ⟨p1, p2⟩ := pw8 hn
  have hprb : ∀ i' x, pr i' x ≤ 108 := by
    intro i' x
    by_cases q : lk i' x
    · rw [(hp i' x).1 q]; have := ha i' x q; omega
    · rw [(hp i' x).2 q]; omega
  refine lp_to (fun a => ∃ (k : Nat) (τ' : XS), k ≤ T ∧ a = (nI k, rX τ' ρ) ∧ Kjx τ τ' ∧ (∀ i', i' < n → ∀ y, y < T → τ'.1.2 (11 + i') y = nI (pr i' y)) ∧ ∀ j, j < k → ¬ Dk lk ag U T n i c g j) (fun a => T - cN a.1) (fun o => ∃ k τ2, o = K (nI k, rX τ2 ρ) ∧ Kjx τ τ2 ∧ (∀ i', i' < n → ∀ y, y < T → τ2.1.2 (11 + i') y = nI (pr i' y)) ∧ (∀ j, j < k → ¬ Dk lk ag U T n i c g j) ∧ k ≤ T ∧ (k = T ∨ Dk lk ag U T n i c g k)) ?_ F _ ⟨0, τ0, by omega, rfl, k0, hpr, fun j hj => by omega⟩ (by show T - cN 0 < F; omega)
  intro RX a hia ih
  obtain ⟨k, τ', hk, rfl, kj, hpr', hno⟩ := hia
  have e18 : (rX τ' ρ).1.1 18 = nI T := by
    show τ'.1.1 18 = nI T
    rw [kj.1]; exact h18
  have e21 : (rX τ' ρ).1.1 21 = nI n := by
    show τ'.1.1 21 = nI n
    rw [kj.1]; exact h21
  have ep : ∀ i', i' < n → (rX τ' ρ).1.2 (11 + i') = τ'.1.2 (11 + i') := fun i' hi' => if_neg (by omega)
  unfold x0_join_B182
  simp only [e18, Int32.le_iff_toInt_le, ni_i (show k < 2147483648 by omega), ni_i (show T < 2147483648 by omega)]
  by_cases hend : k = T
  · subst hend
    rw [if_pos (by omega)]
    exact ⟨k, τ', rfl, kj, hpr', hno, Nat.le_refl _, Or.inl rfl⟩
  rw [if_neg (by omega)]
  have hgo : ∀ τ3, Kjx τ τ3 → (∀ i', i' < n → ∀ y, y < T → τ3.1.2 (11 + i') y = nI (pr i' y)) → ¬ Dk lk ag U T n i c g k → ∃ k2 τ2, RX (nI k + 1, rX τ3 ρ) = K (nI k2, rX τ2 ρ) ∧ Kjx τ τ2 ∧ (∀ i', i' < n → ∀ y, y < T → τ2.1.2 (11 + i') y = nI (pr i' y)) ∧ (∀ j, j < k2 → ¬ Dk lk ag U T n i c g j) ∧ k2 ≤ T ∧ (k2 = T ∨ Dk lk ag U T n i c g k2) := by
    intro τ3 k3 h3 hne
    refine ih _ ⟨k + 1, τ3, by omega, by rw [nI_succ], k3, h3, fun j hj => ?_⟩ ?_
    · by_cases hjk : j = k
      · rw [hjk]; exact hne
      · exact hno j (by omega)
    · show T - cN (nI k + 1) < T - cN (nI k)
      rw [← nI_succ, cN_nI (by omega), cN_nI (by omega)]
      omega
  simp only [okI_nI (show i < 8 by omega) (show 8 < 2147483648 by omega), okI_nI (show k < 60 by omega) (show 60 < 2147483648 by omega), if_true, ni_c (show k < 2147483648 by omega), ni_c (show i < 2147483648 by omega), ep i hi, hpr' i hi k (by omega)]
  have hz : (nI (pr i k) = 0) = (pr i k = 0) := by
    have := hprb i k
    rw [show (0 : Int32) = nI 0 from rfl, ni_ii (by omega) (by omega)]
  simp only [hz]
  by_cases c1 : pr i k = 0
  · rw [if_pos c1]
    refine hgo τ' kj hpr' (fun q => ?_)
    have := (hp i k).1 q.2.1
    omega
  rw [if_neg c1]
  have hl : lk i k := Classical.byContradiction (fun q => c1 ((hp i k).2 q))
  by_cases c2 : U k
  · rw [if_pos ((lgc w (show k < 60 by omega)).mpr ((hw k (by omega)).mpr c2))]
    exact hgo τ' kj hpr' (fun q => q.1 c2)
  rw [if_neg (fun q => c2 ((hw k (by omega)).mp ((lgc w (show k < 60 by omega)).mp q)))]
  have hw' : ∀ y, y < T → (lg_cmp (((w ||| ((1 : Int64) <<< ((nI k).toInt64 &&& 63))) >>> ((nI y).toInt64 &&& 63)) &&& 1) 1 = 0 ↔ (U y ∨ y = k)) := by
    intro y hy
    rw [lgc _ (show y < 60 by omega), b64_set w (show k < 60 by omega) (show y < 64 by omega), Bool.or_eq_true, hw y hy, decide_eq_true_iff]
  obtain ⟨g', e1⟩ := most_x (τ := rX τ' ρ) (U := fun y => U y ∨ y = k) hF hn hT e21 e18 (fun x hx i' hi' => ⟨by rw [ep i' hi']; exact hpr' i' hi' x hx, hprb i' x⟩) hw' (fun k' s hs => vx_b hn ha hp k' s hs) hlm ((rX τ' ρ).1.2 20)
  have eq20 : qX (rX τ' ρ) ((rX τ' ρ).1.2 20) = rX τ' ρ := by
    unfold qX
    rw [aS_id]
  rw [eq20, rX_q] at e1
  have kj2 : Kjx τ (qX τ' g') := by
    refine ⟨kj.1, fun j a b => ?_, kj.2.2.1, kj.2.2.2.1, kj.2.2.2.2⟩
    rw [← kj.2.1 j a b]
    exact if_neg b
  have hpr2 : ∀ i', i' < n → ∀ y, y < T → (qX τ' g').1.2 (11 + i') y = nI (pr i' y) := by
    intro i' hi' y hy
    rw [show (qX τ' g').1.2 (11 + i') = τ'.1.2 (11 + i') from if_neg (by omega)]
    exact hpr' i' hi' y hy
  obtain ⟨c', g2, hb', hv, hc', hg'⟩ := vx_val (U := fun y => U y ∨ y = k) hn ha hp T (show lm < 256 by omega)
  rw [hlb] at hb'
  obtain ⟨st1, -⟩ := Bs_step hn hi ha hb (show k < T by omega) c2 hl hb'
  rw [e1]
  have hpk := (hp i k).1 hl
  have hak := ha i k hl
  simp only [ob_s, tk_00, hv, ni_add, ni_i (show 100 * c + g < 2147483648 by omega), ni_i (show pr i k + (100 * c' + g2) < 2147483648 by omega)]
  by_cases c3 : 100 * c + g ≤ pr i k + (100 * c' + g2)
  · rw [if_pos (by omega)]
    have hD := st1.mp (by omega)
    exact ⟨k, qX τ' g', rfl, kj2, hpr2, hno, by omega, Or.inr ⟨c2, hl, c', g2, hb', hD⟩⟩
  · rw [if_neg (by omega)]
    refine hgo _ kj2 hpr2 (fun q => ?_)
    obtain ⟨-, -, c3', g3, q1, q2⟩ := q
    obtain ⟨u1, u2⟩ := Bs_u q1 hb'
    rw [u1, u2] at q2
    have := st1.mpr q2
    omega
end JOIN5
