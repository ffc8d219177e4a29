section STOOD2
variable {F : Nat} {τ : XS} {σ : MS}
/-- whether a look shows a feature -/
def shw (σ : MS) (dk : Nat → Nat) (x2 : Int32) (k : Nat) : Prop := ((σ.2 62 (dk k)) >>> (x2 &&& 31)) &&& 1 = 1
theorem shw_m {N n : Nat} (hNb : N ≤ 100) {f : Nat → Option Nat} {g : Nat → Int32} {dk : Nat → Nat} (hL : Lk τ f g n N dk) (hn : n ≤ N) {k : Nat} (hk : k < n) (x2 : Int32) [d : Decidable (shw σ dk x2 k)] : m_shows F (nI k) x2 (aS σ 64 g) = some (bI (shw σ dk x2 k), aS σ 64 g) := by
  obtain ⟨d1, d2, d3⟩ := hL k hk
  have e64 : ∀ f, (aS σ 64 f).2 64 = f := fun f => rfl
  have e62 : ∀ f, (aS σ 64 f).2 62 = σ.2 62 := fun f => rfl
  simp only [m_shows, okI_nI (show k < 100 by omega) (show 100 < 2147483648 by omega), if_true, ni_c (show k < 2147483648 by omega), e64, e62, d2, okI_nI (show dk k < 100 by omega) (show 100 < 2147483648 by omega), ni_c (show dk k < 2147483648 by omega)]
  by_cases hs : ((σ.2 62 (dk k)) >>> (x2 &&& 31)) &&& 1 = 1
  · rw [if_pos hs, bI_t (show shw σ dk x2 k from hs)]
  · rw [if_neg hs, bI_f (show ¬ shw σ dk x2 k from hs)]
theorem lk_at (h : R τ σ) {N n : Nat} (hN : σ.1 80 = nI N) (hNb : N ≤ 100) {f : Nat → Option Nat} {g : Nat → Int32} {dk : Nat → Nat} (hL : Lk τ f g n N dk) {k : Nat} (hk : k < n) : ∃ a, f k = some a ∧ isC (lkX τ f) a [23] = true ∧ gI (lkX τ f) a [23] 0 = some (nI (dk k)) ∧ gI (lkX τ f) a [23] 2 = some (σ.2 61 (dk k)) ∧ ∀ (x2 : Int32) (d : Decidable (shw σ dk x2 k)), x23_shows F a x2 (lkX τ f) = some (bI (shw σ dk x2 k), lkX τ f, 0, 0) := by
  have hl := h.dr.2
  rw [hN, cN_nI (by omega)] at hl
  obtain ⟨d1, d2, d3⟩ := hL k hk
  obtain ⟨a, a1, a2⟩ := hl (dk k) d1
  have a3 := a2.mono (M := M0) (P' := (lkX τ f).2.2.2.1) (PM.new h.wf) (fun z _ => mutF_k rfl)
  refine ⟨a, by rw [d3, a1], a3.isC (List.mem_singleton.mpr rfl), a3.gI (by simp) (List.mem_singleton.mpr rfl), a3.gI (by simp) (List.mem_singleton.mpr rfl), fun x2 d => ?_⟩
  simp only [x23_shows, a3.gI (k := 3) (x := σ.2 62 (dk k)) (by simp) (List.mem_singleton.mpr rfl), ob_s]
  by_cases hs : ((σ.2 62 (dk k)) >>> (x2 &&& 31)) &&& 1 = 1
  · rw [if_pos hs, bI_t (show shw σ dk x2 k from hs)]
  · rw [if_neg hs, bI_f (show ¬ shw σ dk x2 k from hs)]
/-- x: the first that shows -/
theorem st_x162 (hF : 200 ≤ F) (h : R τ σ) {N n : Nat} (hN : σ.1 80 = nI N) (hNb : N ≤ 100) (hn : n ≤ N) {f : Nat → Option Nat} {g : Nat → Int32} {dk : Nat → Nat} (hL : Lk τ f g n N dk) (x2 x4 : Int32) {q : Nat} (hq : q ≤ n) (h1 : ∀ k, k < q → ¬ shw σ dk x2 k) (h2 : q = n ∨ shw σ dk x2 q) (K : Int32 × XS → XR Int32) : lp (x0_stood_B162 F K x2 x4 τ.2.2.2.2 (nI n)) F (0, lkX τ f) = K (nI q, lkX τ f) := by
  refine lp_to (fun z => ∃ k : Nat, k ≤ q ∧ z = (nI k, lkX τ f)) (fun z => n - cN z.1) (fun o => o = K (nI q, lkX τ f)) ?_ F _ ⟨0, by omega, rfl⟩ (by show n - cN 0 < F; omega)
  intro RX z hz ih
  obtain ⟨k, hk, rfl⟩ := hz
  unfold x0_stood_B162
  simp only [Int32.le_iff_toInt_le, ni_i (show k < 2147483648 by omega), ni_i (show n < 2147483648 by omega)]
  by_cases hkn : k = n
  · subst hkn
    have : q = k := by omega
    subst this
    rw [if_pos (by omega)]
  rw [if_neg (by omega)]
  obtain ⟨a, a1, a2, a3, a4, a5⟩ := lk_at (F := F) h hN hNb hL (k := k) (by omega)
  have d := Classical.propDecidable (shw σ dk x2 k)
  simp only [lkX_gB, ob_s, okI_nI (show k < 100 by omega) (show 100 < 2147483648 by omega), if_true, ni_c (show k < 2147483648 by omega), a1, a2, a5 x2 d, tk_00, bI_0, ite_not]
  by_cases hs : shw σ dk x2 k
  · rw [if_pos hs]
    have : k = q := by
      refine Nat.le_antisymm hk (Nat.le_of_not_lt (fun hlt => h1 k hlt hs))
    rw [this]
  · rw [if_neg hs]
    have hkq : k < q := by
      refine Nat.lt_of_le_of_ne hk (fun e => ?_)
      rcases h2 with h2 | h2
      · omega
      · rw [e] at hs; exact hs h2
    refine ih _ ⟨k + 1, by omega, by rw [nI_succ]⟩ ?_
    show n - cN (nI k + 1) < n - cN (nI k)
    rw [← nI_succ, cN_nI (by omega), cN_nI (by omega)]
    omega
/-- x: the last that shows -/
theorem st_x202 (hF : 200 ≤ F) (h : R τ σ) {N n : Nat} (hN : σ.1 80 = nI N) (hNb : N ≤ 100) (hn : n ≤ N) {f : Nat → Option Nat} {g : Nat → Int32} {dk : Nat → Nat} (hL : Lk τ f g n N dk) (x2 x4 x6 x7 : Int32) {q : Nat} (hq : q < n) (h1 : ∀ k, q < k → k < n → ¬ shw σ dk x2 k) (h2 : shw σ dk x2 q) (K : Int32 × XS → XR Int32) : lp (x0_stood_B202 F K x2 x4 τ.2.2.2.2 x6 x7) F (nI n - 1, lkX τ f) = K (nI q, lkX τ f) := by
  refine lp_to (fun z => ∃ k : Nat, q ≤ k ∧ k < n ∧ z = (nI k, lkX τ f)) (fun z => cN z.1) (fun o => o = K (nI q, lkX τ f)) ?_ F _ ⟨n - 1, by omega, by omega, ?_⟩ ?_
  · intro RX z hz ih
    obtain ⟨k, hk, hkn, rfl⟩ := hz
    unfold x0_stood_B202
    obtain ⟨a, a1, a2, a3, a4, a5⟩ := lk_at (F := F) h hN hNb hL (k := k) hkn
    have d := Classical.propDecidable (shw σ dk x2 k)
    simp only [lkX_gB, ob_s, okI_nI (show k < 100 by omega) (show 100 < 2147483648 by omega), if_true, ni_c (show k < 2147483648 by omega), a1, a2, a5 x2 d, tk_00, bI_0, ite_not]
    by_cases hs : shw σ dk x2 k
    · rw [if_pos hs]
      have : k = q := by
        refine Nat.le_antisymm (Nat.le_of_not_lt (fun hlt => h1 k hlt hkn hs)) hk
      rw [this]
    · rw [if_neg hs]
      have hkq : q < k := by
        refine Nat.lt_of_le_of_ne hk (fun e => ?_)
        rw [← e] at hs; exact hs h2
      obtain ⟨j, rfl⟩ : ∃ j, k = j + 1 := ⟨k - 1, by omega⟩
      refine ih _ ⟨j, by omega, by omega, by rw [dn_m, dn_s]⟩ ?_
      show cN (nI (j + 1) + (-1)) < cN (nI (j + 1))
      rw [dn_m, dn_s, cN_nI (by omega), cN_nI (by omega)]
      omega
  · obtain ⟨j, rfl⟩ : ∃ j, n = j + 1 := ⟨n - 1, by omega⟩
    rw [dn_s]
    rfl
  · obtain ⟨j, rfl⟩ : ∃ j, n = j + 1 := ⟨n - 1, by omega⟩
    show cN (nI (j + 1) - 1) < F
    rw [dn_s, cN_nI (by omega)]
    omega
/-- x: the first behind it that lacks, before the last -/
theorem st_x268 (hF : 200 ≤ F) (h : R τ σ) {N n : Nat} (hN : σ.1 80 = nI N) (hNb : N ≤ 100) (hn : n ≤ N) {f : Nat → Option Nat} {g : Nat → Int32} {dk : Nat → Nat} (hL : Lk τ f g n N dk) (x2 x4 : Int32) {p q la : Nat} (hpq : p ≤ q) (hq : q ≤ la) (hla : la < n) (h1 : ∀ k, p ≤ k → k < q → shw σ dk x2 k) (h2 : q = la ∨ ¬ shw σ dk x2 q) (K : Int32 × XS → XR Int32) : lp (x0_stood_B268 F K x2 x4 τ.2.2.2.2 (nI la)) F (nI p, lkX τ f) = K (nI q, lkX τ f) := by
  refine lp_to (fun z => ∃ k : Nat, p ≤ k ∧ k ≤ q ∧ z = (nI k, lkX τ f)) (fun z => n - cN z.1) (fun o => o = K (nI q, lkX τ f)) ?_ F _ ⟨p, by omega, by omega, rfl⟩ (by show n - cN (nI p) < F; omega)
  intro RX z hz ih
  obtain ⟨k, hkp, hk, rfl⟩ := hz
  unfold x0_stood_B268
  simp only [Int32.le_iff_toInt_le, ni_i (show k < 2147483648 by omega), ni_i (show la < 2147483648 by omega)]
  by_cases hkn : k = la
  · subst hkn
    have : q = k := by omega
    subst this
    rw [if_pos (by omega)]
  rw [if_neg (by omega)]
  obtain ⟨a, a1, a2, a3, a4, a5⟩ := lk_at (F := F) h hN hNb hL (k := k) (by omega)
  have d := Classical.propDecidable (shw σ dk x2 k)
  simp only [lkX_gB, ob_s, okI_nI (show k < 100 by omega) (show 100 < 2147483648 by omega), if_true, ni_c (show k < 2147483648 by omega), a1, a2, a5 x2 d, tk_00, bI_0, ite_not]
  by_cases hs : shw σ dk x2 k
  · rw [if_pos hs]
    have hkq : k < q := by
      refine Nat.lt_of_le_of_ne hk (fun e => ?_)
      rcases h2 with h2 | h2
      · omega
      · rw [e] at hs; exact h2 hs
    refine ih _ ⟨k + 1, by omega, by omega, by rw [nI_succ]⟩ ?_
    show n - cN (nI k + 1) < n - cN (nI k)
    rw [← nI_succ, cN_nI (by omega), cN_nI (by omega)]
    omega
  · rw [if_neg hs]
    have : k = q := by
      refine Nat.le_antisymm hk (Nat.le_of_not_lt (fun hlt => hs (h1 k hkp hlt)))
    rw [this]
/-- x: the next that shows again: its number -/
theorem st_x321 (hF : 200 ≤ F) (h : R τ σ) {N n : Nat} (hN : σ.1 80 = nI N) (hNb : N ≤ 100) (hn : n ≤ N) {f : Nat → Option Nat} {g : Nat → Int32} {dk : Nat → Nat} (hL : Lk τ f g n N dk) (x2 : Int32) {p q : Nat} (hpq : p ≤ q) (hq : q < n) (h1 : ∀ k, p ≤ k → k < q → ¬ shw σ dk x2 k) (h2 : shw σ dk x2 q) : lp (x0_stood_B321 F x2 τ.2.2.2.2) F (nI p, lkX τ f) = some (nI (dk q), lkX τ f, 0, 0) := by
  refine lp_to (fun z => ∃ k : Nat, p ≤ k ∧ k ≤ q ∧ z = (nI k, lkX τ f)) (fun z => n - cN z.1) (fun o => o = some (nI (dk q), lkX τ f, 0, 0)) ?_ F _ ⟨p, by omega, by omega, rfl⟩ (by show n - cN (nI p) < F; omega)
  intro RX z hz ih
  obtain ⟨k, hkp, hk, rfl⟩ := hz
  unfold x0_stood_B321
  obtain ⟨a, a1, a2, a3, a4, a5⟩ := lk_at (F := F) h hN hNb hL (k := k) (by omega)
  have d := Classical.propDecidable (shw σ dk x2 k)
  simp only [lkX_gB, ob_s, okI_nI (show k < 100 by omega) (show 100 < 2147483648 by omega), if_true, ni_c (show k < 2147483648 by omega), a1, a2, a3, a5 x2 d, tk_00, bI_0, ite_not]
  by_cases hs : shw σ dk x2 k
  · rw [if_pos hs]
    have : k = q := by
      refine Nat.le_antisymm hk (Nat.le_of_not_lt (fun hlt => h1 k hkp hlt hs))
    rw [this]
  · rw [if_neg hs]
    have hkq : k < q := by
      refine Nat.lt_of_le_of_ne hk (fun e => ?_)
      rw [e] at hs; exact hs h2
    refine ih _ ⟨k + 1, by omega, by omega, by rw [nI_succ]⟩ ?_
    show n - cN (nI k + 1) < n - cN (nI k)
    rw [← nI_succ, cN_nI (by omega), cN_nI (by omega)]
    omega
theorem st_m163 (hF : 200 ≤ F) {N n : Nat} (hNb : N ≤ 100) (hn : n ≤ N) {f : Nat → Option Nat} {g : Nat → Int32} {dk : Nat → Nat} (hL : Lk τ f g n N dk) (x2 x4 : Int32) {p q la : Nat} (hpq : p ≤ q) (hq : q ≤ la) (hla : la < n) (h1 : ∀ k, p ≤ k → k < q → shw σ dk x2 k) (h2 : q = la ∨ ¬ shw σ dk x2 q) (K : Int32 × MS → Option (Int32 × MS)) : lp (m_stood_B163 F K x2 x4 (nI la)) F (nI p, aS σ 64 g) = K (nI q, aS σ 64 g) := by
  refine lp_to (fun z => ∃ k : Nat, p ≤ k ∧ k ≤ q ∧ z = (nI k, aS σ 64 g)) (fun z => n - cN z.1) (fun o => o = K (nI q, aS σ 64 g)) ?_ F _ ⟨p, by omega, by omega, rfl⟩ (by show n - cN (nI p) < F; omega)
  intro RX z hz ih
  obtain ⟨k, hkp, hk, rfl⟩ := hz
  unfold m_stood_B163
  have d := Classical.propDecidable (shw σ dk x2 k)
  simp only [Int32.le_iff_toInt_le, ni_i (show k < 2147483648 by omega), ni_i (show la < 2147483648 by omega), shw_m (F := F) hNb hL hn (show k < n by omega) x2 (d := d), ob_s, bI_0, ite_not]
  by_cases hkn : k = la
  · subst hkn
    have : q = k := by omega
    subst this
    rw [if_pos (by omega)]
  rw [if_neg (by omega)]
  by_cases hs : shw σ dk x2 k
  · rw [if_pos hs]
    have hkq : k < q := by
      refine Nat.lt_of_le_of_ne hk (fun e => ?_)
      rcases h2 with h2 | h2
      · omega
      · rw [e] at hs; exact h2 hs
    refine ih _ ⟨k + 1, by omega, by omega, by rw [nI_succ]⟩ ?_
    show n - cN (nI k + 1) < n - cN (nI k)
    rw [← nI_succ, cN_nI (by omega), cN_nI (by omega)]
    omega
  · rw [if_neg hs]
    have : k = q := by
      refine Nat.le_antisymm hk (Nat.le_of_not_lt (fun hlt => hs (h1 k hkp hlt)))
    rw [this]
theorem st_m202 (hF : 200 ≤ F) {N n : Nat} (hNb : N ≤ 100) (hn : n ≤ N) {f : Nat → Option Nat} {g : Nat → Int32} {dk : Nat → Nat} (hL : Lk τ f g n N dk) (x2 x4 x8 : Int32) {p q : Nat} (hpq : p ≤ q) (hq : q < n) (h1 : ∀ k, p ≤ k → k < q → ¬ shw σ dk x2 k) (h2 : shw σ dk x2 q) (K : Int32 × MS → Option (Int32 × MS)) : lp (m_stood_B202 F K x2 x4 x8) F (nI p, aS σ 64 g) = K (nI q, aS σ 64 g) := by
  refine lp_to (fun z => ∃ k : Nat, p ≤ k ∧ k ≤ q ∧ z = (nI k, aS σ 64 g)) (fun z => n - cN z.1) (fun o => o = K (nI q, aS σ 64 g)) ?_ F _ ⟨p, by omega, by omega, rfl⟩ (by show n - cN (nI p) < F; omega)
  intro RX z hz ih
  obtain ⟨k, hkp, hk, rfl⟩ := hz
  unfold m_stood_B202
  have d := Classical.propDecidable (shw σ dk x2 k)
  simp only [shw_m (F := F) hNb hL hn (show k < n by omega) x2 (d := d), ob_s, bI_0, ite_not]
  by_cases hs : shw σ dk x2 k
  · rw [if_pos hs]
    have : k = q := by
      refine Nat.le_antisymm hk (Nat.le_of_not_lt (fun hlt => h1 k hkp hlt hs))
    rw [this]
  · rw [if_neg hs]
    have hkq : k < q := by
      refine Nat.lt_of_le_of_ne hk (fun e => ?_)
      rw [e] at hs; exact hs h2
    refine ih _ ⟨k + 1, by omega, by omega, by rw [nI_succ]⟩ ?_
    show n - cN (nI k + 1) < n - cN (nI k)
    rw [← nI_succ, cN_nI (by omega), cN_nI (by omega)]
    omega
/-- the reference's pass: the last and the first that show -/
def sLE (σ : MS) (dk : Nat → Nat) (x2 : Int32) (la ea : Int32) (k : Nat) : Prop := (la = -1 ∧ ea = -1 ∧ ∀ q, q < k → ¬ shw σ dk x2 q) ∨ ∃ l e, l < k ∧ e ≤ l ∧ la = nI l ∧ ea = nI e ∧ shw σ dk x2 l ∧ shw σ dk x2 e ∧ (∀ q, q < e → ¬ shw σ dk x2 q) ∧ ∀ q, l < q → q < k → ¬ shw σ dk x2 q
theorem st_m54 (hF : 200 ≤ F) {N n : Nat} (hNb : N ≤ 100) (hn : n ≤ N) {f : Nat → Option Nat} {g : Nat → Int32} {dk : Nat → Nat} (hL : Lk τ f g n N dk) (x2 x4 : Int32) : ∃ la ea, sLE σ dk x2 la ea n ∧ ∀ K, lp (m_stood_B54 F K x2 x4 (nI n)) F (-1, -1, 0, aS σ 64 g) = K (la, ea, nI n, aS σ 64 g) := by
  have gen : ∀ (fu k : Nat) (la ea : Int32), k ≤ n → sLE σ dk x2 la ea k → n - k < fu → ∃ la' ea', sLE σ dk x2 la' ea' n ∧ ∀ K, lp (m_stood_B54 F K x2 x4 (nI n)) fu (la, ea, nI k, aS σ 64 g) = K (la', ea', nI n, aS σ 64 g) := by
    intro fu
    induction fu with
    | zero => intro k la ea _ _ hh; omega
    | succ fu ihf =>
      intro k la ea hk hS hfu
      have hK : ∀ K, lp (m_stood_B54 F K x2 x4 (nI n)) (fu + 1) (la, ea, nI k, aS σ 64 g) = m_stood_B54 F K x2 x4 (nI n) (lp (m_stood_B54 F K x2 x4 (nI n)) fu) (la, ea, nI k, aS σ 64 g) := fun K => rfl
      simp only [hK, m_stood_B54, Int32.le_iff_toInt_le, ni_i (show k < 2147483648 by omega), ni_i (show n < 2147483648 by omega)]
      by_cases hend : (n : Int) ≤ k
      · have : k = n := by omega
        subst this
        simp only [if_pos hend]
        exact ⟨la, ea, hS, fun K => rfl⟩
      have d := Classical.propDecidable (shw σ dk x2 k)
      simp only [if_neg hend, shw_m (F := F) hNb hL hn (show k < n by omega) x2 (d := d), ob_s, bI_0, ite_not, ← nI_succ]
      by_cases hs : shw σ dk x2 k
      · simp only [if_pos hs]
        rcases hS with ⟨rfl, rfl, h3⟩ | ⟨l, e, h1, h2, rfl, rfl, h3, h4, h5, h6⟩
        · simp only [if_true]
          exact ihf (k + 1) _ _ (by omega) (Or.inr ⟨k, k, by omega, Nat.le_refl _, rfl, rfl, hs, hs, h3, fun q h1 h2 => by omega⟩) (by omega)
        · have hne : ¬ nI e = -1 := by
            rw [i_eq, ni_i (by omega), li_m1]
            omega
          simp only [if_neg hne]
          exact ihf (k + 1) _ _ (by omega) (Or.inr ⟨k, e, by omega, by omega, rfl, rfl, hs, h4, h5, fun q h1 h2 => by omega⟩) (by omega)
      · simp only [if_neg hs]
        refine ihf (k + 1) _ _ (by omega) ?_ (by omega)
        rcases hS with ⟨h1, h2, h3⟩ | ⟨l, e, h1, h2, h7, h8, h3, h4, h5, h6⟩
        · refine Or.inl ⟨h1, h2, fun q hq => ?_⟩
          by_cases hqk : q = k
          · rw [hqk]; exact hs
          · exact h3 q (by omega)
        · refine Or.inr ⟨l, e, by omega, h2, h7, h8, h3, h4, h5, fun q q1 q2 => ?_⟩
          by_cases hqk : q = k
          · rw [hqk]; exact hs
          · exact h6 q q1 (by omega)
  exact gen F 0 (-1) (-1) (by omega) (Or.inl ⟨rfl, rfl, fun q hq => by omega⟩) (by omega)
end STOOD2
