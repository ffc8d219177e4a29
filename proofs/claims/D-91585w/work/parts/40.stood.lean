/-! looks at walls -/
def oarI (g : Nat → Int32) (N k : Nat) : Nat → Int32 := fun i => if k < i ∧ i ≤ N then g (i - 1) else g i
theorem oarI_N (g : Nat → Int32) (N : Nat) : oarI g N N = g := by
  funext i
  unfold oarI
  exact if_neg (by omega)
theorem oarI_s (g : Nat → Int32) {N k : Nat} (hk : k + 1 ≤ N) : upd (oarI g N (k + 1)) (k + 1) (g k) = oarI g N k := by
  funext i
  unfold upd oarI
  by_cases hi : i = k + 1
  · subst hi
    rw [if_pos rfl, if_pos (by omega)]
    rfl
  · rw [if_neg hi]
    by_cases h2 : k + 1 < i ∧ i ≤ N
    · rw [if_pos h2, if_pos (by omega)]
    · rw [if_neg h2, if_neg (by omega)]
def lkX (τ : XS) (f : Nat → Option Nat) : XS := xN τ (.inl (11, 100, .inr (.inr (.inr (.inr f)))))
theorem lkX_up (τ : XS) (f g : Nat → Option Nat) : xP (lkX τ f) τ.2.2.2.2 (.inl (11, 100, .inr (.inr (.inr (.inr g))))) = lkX τ g := xP_xN
theorem lkX_gB (τ : XS) (f : Nat → Option Nat) : gB (lkX τ f) τ.2.2.2.2 11 = some (100, f) := gB_of (if_pos rfl)
section STOOD
variable {F : Nat} {τ : XS} {σ : MS}
/-- the row of looks on both sides -/
def Lk (τ : XS) (f : Nat → Option Nat) (g : Nat → Int32) (n N : Nat) (dk : Nat → Nat) : Prop := ∀ k, k < n → dk k < N ∧ g k = nI (dk k) ∧ f k = τ.2.1 22 (dk k)
theorem ins_lx (hF : 200 ≤ F) (h : R τ σ) {N : Nat} (hN : σ.1 80 = nI N) (hNb : N ≤ 100) {f : Nat → Option Nat} {g : Nat → Int32} {n i : Nat} {dk : Nat → Nat} (hni : n ≤ i) (hi : i < N) (hL : Lk τ f g n N dk) {ad : Nat} (had : τ.2.1 22 i = some ad) {p : Nat} (hp : p ≤ n) (h2 : ∀ q, p ≤ q → q < n → (σ.2 61 i).toInt < (σ.2 61 (dk q)).toInt) (h3 : p = 0 ∨ ¬ (σ.2 61 i).toInt < (σ.2 61 (dk (p - 1))).toInt) (x1 x2 x3 x4 x6 x7 : Int32) (K : Int32 × XS → XR Int32) :
    lp (x0_stood_B102 F K x1 x2 x3 x4 τ.2.2.2.2 x6 x7 ad) F (nI n, lkX τ f) = K (nI p, lkX τ (oar f n p)) := by
  have hl := h.dr.2
  rw [hN, cN_nI (by omega)] at hl
  have hpm : ∀ f, PM M0 τ.2.2.2.1 (lkX τ f).2.2.2.1 := fun f => PM.new h.wf
  refine lp_to (fun z => ∃ k : Nat, p ≤ k ∧ k ≤ n ∧ z = (nI k, lkX τ (oar f n k))) (fun z => cN z.1) (fun o => o = K (nI p, lkX τ (oar f n p))) ?_ F _ ⟨n, hp, Nat.le_refl _, by rw [oar_N]⟩ (by show cN (nI n) < F; rw [cN_nI (by omega)]; omega)
  intro RX z hz ih
  obtain ⟨k, hk1, hk2, rfl⟩ := hz
  unfold x0_stood_B102
  simp only [Int32.le_iff_toInt_le, ni_i (show k < 2147483648 by omega), li_0]
  by_cases hk0 : k = 0
  · subst hk0
    have : p = 0 := by omega
    subst this
    rw [if_pos (by omega)]
  · obtain ⟨j, rfl⟩ : ∃ j, k = j + 1 := ⟨k - 1, by omega⟩
    rw [if_neg (by omega)]
    obtain ⟨d1, d2, d3⟩ := hL j (by omega)
    obtain ⟨b, b1, b2⟩ := hl (dk j) d1
    obtain ⟨a', a1, a2⟩ := hl i hi
    cases had.symm.trans a1
    have hoj : oar f n (j + 1) j = some b := by
      unfold oar
      rw [if_neg (by omega), d3]
      exact b1
    have b3 := b2.mono (hpm (oar f n (j + 1))) (fun z _ => mutF_k rfl)
    have a3 := a2.mono (hpm (oar f n (j + 1))) (fun z _ => mutF_k rfl)
    simp only [lkX_gB, ob_s, dn_s, okI_nI (show j < 100 by omega) (show 100 < 2147483648 by omega), if_true, ni_c (show j < 2147483648 by omega), hoj, b3.gI (k := 2) (x := σ.2 61 (dk j)) (by simp) (List.mem_singleton.mpr rfl), a3.gI (k := 2) (x := σ.2 61 i) (by simp) (List.mem_singleton.mpr rfl), b3.isC (List.mem_singleton.mpr rfl), okI_nI (show j + 1 < 100 by omega) (show 100 < 2147483648 by omega), ni_c (show j + 1 < 2147483648 by omega), nx_e]
    by_cases hjp : p = j + 1
    · rw [if_pos (by
        rcases h3 with h3 | h3
        · omega
        · rw [hjp] at h3
          have e : j + 1 - 1 = j := by omega
          rw [e] at h3
          omega), hjp]
    · have := h2 j (by omega) (by omega)
      rw [if_neg (by omega), lkX_up, ← b1, ← d3, oar_s _ (by omega)]
      refine ih _ ⟨j, by omega, by omega, ?_⟩ ?_
      · rw [dn_m, dn_s]
      · show cN (nI (j + 1) + (-1)) < cN (nI (j + 1))
        rw [dn_m, dn_s, cN_nI (by omega), cN_nI (by omega)]
        omega
theorem ins_lm (hF : 200 ≤ F) {N : Nat} (hNb : N ≤ 100) {f : Nat → Option Nat} {g : Nat → Int32} {n i : Nat} {dk : Nat → Nat} (hni : n ≤ i) (hi : i < N) (hL : Lk τ f g n N dk) {p : Nat} (hp : p ≤ n) (h2 : ∀ q, p ≤ q → q < n → (σ.2 61 i).toInt < (σ.2 61 (dk q)).toInt) (h3 : p = 0 ∨ ¬ (σ.2 61 i).toInt < (σ.2 61 (dk (p - 1))).toInt) (x1 x2 x3 : Int32) (K : Int32 × MS → Option (Int32 × MS)) :
    lp (m_looksAt_B52 F K x1 x2 x3 (nI i)) F (nI n, aS σ 64 g) = K (nI p, aS σ 64 (oarI g n p)) := by
  refine lp_to (fun z => ∃ k : Nat, p ≤ k ∧ k ≤ n ∧ z = (nI k, aS σ 64 (oarI g n k))) (fun z => cN z.1) (fun o => o = K (nI p, aS σ 64 (oarI g n p))) ?_ F _ ⟨n, hp, Nat.le_refl _, by rw [oarI_N]⟩ (by show cN (nI n) < F; rw [cN_nI (by omega)]; omega)
  intro RX z hz ih
  obtain ⟨k, hk1, hk2, rfl⟩ := hz
  unfold m_looksAt_B52
  simp only [Int32.le_iff_toInt_le, ni_i (show k < 2147483648 by omega), li_0]
  by_cases hk0 : k = 0
  · subst hk0
    have : p = 0 := by omega
    subst this
    rw [if_pos (by omega)]
  · obtain ⟨j, rfl⟩ : ∃ j, k = j + 1 := ⟨k - 1, by omega⟩
    rw [if_neg (by omega)]
    obtain ⟨d1, d2, d3⟩ := hL j (by omega)
    have hoj : oarI g n (j + 1) j = nI (dk j) := by
      unfold oarI
      rw [if_neg (by omega), d2]
    have e64 : ∀ f, (aS σ 64 f).2 64 = f := fun f => rfl
    have e61 : ∀ f, (aS σ 64 f).2 61 = σ.2 61 := fun f => rfl
    simp only [dn_s, okI_nI (show j < 100 by omega) (show 100 < 2147483648 by omega), if_true, ni_c (show j < 2147483648 by omega), e64, e61, hoj, okI_nI (show dk j < 100 by omega) (show 100 < 2147483648 by omega), okI_nI (show i < 100 by omega) (show 100 < 2147483648 by omega), ni_c (show dk j < 2147483648 by omega), ni_c (show i < 2147483648 by omega), okI_nI (show j + 1 < 100 by omega) (show 100 < 2147483648 by omega), ni_c (show j + 1 < 2147483648 by omega), nx_e]
    by_cases hjp : p = j + 1
    · rw [if_pos (by
        rcases h3 with h3 | h3
        · omega
        · rw [hjp] at h3
          have e : j + 1 - 1 = j := by omega
          rw [e] at h3
          omega), hjp]
    · have := h2 j (by omega) (by omega)
      rw [if_neg (by omega), sA_aS, ← d2, oarI_s _ (by omega)]
      refine ih _ ⟨j, by omega, by omega, rfl⟩ ?_
      show cN (nI j) < cN (nI (j + 1))
      rw [cN_nI (by omega), cN_nI (by omega)]
      omega
theorem looks_j (hF : 200 ≤ F) (h : R τ σ) {N : Nat} (hN : σ.1 80 = nI N) (hNb : N ≤ 100) (x1 x2 x3 x4 : Int32) : ∀ (fu i n : Nat) (f : Nat → Option Nat) (g : Nat → Int32) (dk : Nat → Nat), i ≤ N → n ≤ i → Lk τ f g n N dk → N - i < fu → ∃ (n' : Nat) (f' : Nat → Option Nat) (g' : Nat → Int32) (dk' : Nat → Nat), (∀ K, lp (x0_stood_B51 F K x1 x2 x3 x4 τ.2.2.2.2) fu (nI n, nI i, lkX τ f) = K (nI n', nI N, lkX τ f')) ∧ lp (m_looksAt_B5 F x1 x3) fu (nI n, nI i, aS σ 64 g) = some (nI n', aS σ 64 g') ∧ Lk τ f' g' n' N dk' ∧ n' ≤ N := by
  have hl := h.dr.2
  rw [hN, cN_nI (by omega)] at hl
  have hpm : ∀ f, PM M0 τ.2.2.2.1 (lkX τ f).2.2.2.1 := fun f => PM.new h.wf
  intro fu
  induction fu with
  | zero => intro i n f g dk _ _ _ hh; omega
  | succ fu ihf =>
    intro i n f g dk hiN hni hL hfu
    have hK : ∀ K, lp (x0_stood_B51 F K x1 x2 x3 x4 τ.2.2.2.2) (fu + 1) (nI n, nI i, lkX τ f) = x0_stood_B51 F K x1 x2 x3 x4 τ.2.2.2.2 (lp (x0_stood_B51 F K x1 x2 x3 x4 τ.2.2.2.2) fu) (nI n, nI i, lkX τ f) := fun K => rfl
    have x27 : ∀ f, (lkX τ f).1.1 27 = nI N := fun f => by
      show τ.1.1 27 = nI N
      rw [← hN]; exact h.e27
    have x22 : ∀ f, (lkX τ f).2.1 22 = τ.2.1 22 := fun f => rfl
    have m80 : ∀ f, (aS σ 64 f).1 80 = nI N := fun f => hN
    have m60 : ∀ f, (aS σ 64 f).2 60 = σ.2 60 := fun f => rfl
    have m65 : ∀ f, (aS σ 64 f).2 65 = σ.2 65 := fun f => rfl
    have m63 : ∀ f, (aS σ 64 f).2 63 = σ.2 63 := fun f => rfl
    rw [lp_s]
    simp only [hK, x0_stood_B51, m_looksAt_B5, x27, m80, Int32.le_iff_toInt_le, ni_i (show i < 2147483648 by omega), ni_i (show N < 2147483648 by omega)]
    by_cases hend : (N : Int) ≤ i
    · have : i = N := by omega
      subst this
      simp only [if_pos hend]
      exact ⟨n, f, g, dk, fun K => rfl, rfl, hL, hni⟩
    simp only [if_neg hend]
    obtain ⟨ad, a1, a2⟩ := hl i (by omega)
    have a3 := fun f => a2.mono (hpm f) (fun z _ => mutF_k rfl)
    simp only [okI_nI (show i < 100 by omega) (show 100 < 2147483648 by omega), if_true, ni_c (show i < 2147483648 by omega), x22, a1, ob_s, (a3 f).gI (k := 1) (x := σ.2 60 i) (by simp) (List.mem_singleton.mpr rfl), (a3 f).gI (k := 5) (x := σ.2 65 i) (by simp) (List.mem_singleton.mpr rfl), (a3 f).gI (k := 4) (x := σ.2 63 i) (by simp) (List.mem_singleton.mpr rfl), m60, m65, m63, ← nI_succ]
    by_cases c1 : ¬ (σ.2 60 i = x1)
    · simp only [if_neg c1]
      exact ihf (i + 1) n f g dk (by omega) (by omega) hL (by omega)
    replace c1 := Classical.not_not.mp c1
    by_cases c2 : ¬ (σ.2 65 i = 0)
    · simp only [if_pos c1, if_neg c2]
      exact ihf (i + 1) n f g dk (by omega) (by omega) hL (by omega)
    replace c2 := Classical.not_not.mp c2
    by_cases c3 : ¬ ((σ.2 63 i).toInt ≤ x3.toInt)
    · simp only [if_pos c1, if_pos c2, if_neg c3]
      exact ihf (i + 1) n f g dk (by omega) (by omega) hL (by omega)
    replace c3 := Classical.not_not.mp c3
    simp only [if_pos c1, if_pos c2, if_pos c3]
    obtain ⟨p, q1, q2, q3⟩ := ins_at (fun q => (σ.2 61 (dk q)).toInt) (σ.2 61 i).toInt n
    rw [ins_lm hF hNb hni (by omega) hL q1 q2 q3]
    simp only [ins_lx hF h hN hNb hni (show i < N by omega) hL a1 q1 q2 q3, lkX_gB, ob_s, (a3 _).isC (List.mem_singleton.mpr rfl), if_true, okI_nI (show p < 100 by omega) (show 100 < 2147483648 by omega), nx_e, ni_c (show p < 2147483648 by omega), lkX_up, m_looksAt_106, sA_aS, ← nI_succ]
    refine ihf (i + 1) (n + 1) _ _ (fun k => if k < p then dk k else if k = p then i else dk (k - 1)) (by omega) (by omega) ?_ (by omega)
    intro k hk
    by_cases e1 : k < p
    · obtain ⟨z1, z2, z3⟩ := hL k (by omega)
      simp only [e1, if_true]
      refine ⟨z1, ?_, ?_⟩
      · have hne : ¬ k = p := by omega
        simp only [upd, hne, if_false, oarI]
        rw [if_neg (by omega), z2]
      · rw [va_up_ne _ _ (by omega)]
        unfold oar
        rw [if_neg (by omega), z3]
    · by_cases e2 : k = p
      · subst e2
        simp only [Nat.lt_irrefl, if_false, if_true]
        exact ⟨by omega, by simp [upd], by rw [va_up_self, a1]⟩
      · obtain ⟨z1, z2, z3⟩ := hL (k - 1) (by omega)
        simp only [e1, e2, if_false]
        refine ⟨z1, ?_, ?_⟩
        · simp only [upd, e2, if_false, oarI]
          rw [if_pos (by omega), z2]
        · rw [va_up_ne _ _ e2]
          unfold oar
          rw [if_pos (by omega), z3]
end STOOD
