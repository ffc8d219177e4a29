noncomputable def cI (p : Prop) : Int32 := @ite _ p (Classical.propDecidable p) 1 0
theorem cI_t {p : Prop} (h : p) : cI p = 1 := if_pos h
theorem cI_f {p : Prop} (h : ¬ p) : cI p = 0 := if_neg h
theorem cI_0 {p : Prop} : (cI p = 0) = ¬ p := by
  by_cases h : p
  · rw [cI_t h]; simp [h]
  · rw [cI_f h]; simp [h]
abbrev lkP (σ : MS) (W : Nat → Int32) (f t : Nat) : Prop := σ.2 46 f = σ.2 50 t ∧ ¬ agV (σ.2 47 f ^^^ σ.2 51 t) < W f
section LIKE2
variable {F : Nat} {τ : XS} {σ : MS}
theorem finds_r (h : R τ σ) {N : Nat} (hN : σ.1 57 = nI N) (hNb : N ≤ 150) {f : Nat} (hf : f < N) : ∃ a, τ.2.1 7 f = some a ∧ (∀ τ', PM M0 τ.2.2.2.1 τ'.2.2.2.1 → gI τ' a [20] 0 = some (σ.2 40 f) ∧ gI τ' a [20] 1 = some (σ.2 41 f) ∧ gI τ' a [20] 2 = some (σ.2 42 f) ∧ gI τ' a [20] 3 = some (σ.2 43 f) ∧ gI τ' a [20] 4 = some (σ.2 44 f) ∧ gI τ' a [20] 5 = some (σ.2 45 f) ∧ gI τ' a [20] 6 = some (σ.2 46 f) ∧ gI τ' a [20] 7 = some (σ.2 47 f) ∧ gI τ' a [20] 8 = some (σ.2 48 f)) ∧ 0 ≤ (σ.2 47 f).toInt ∧ (σ.2 47 f).toInt ≤ 255 := by
  obtain ⟨-, hl, hb⟩ := h.fi
  rw [hN, cN_nI (by omega)] at hl hb
  obtain ⟨a, h1, h2⟩ := hl f hf
  refine ⟨a, h1, fun τ' hp => ?_, (hb f hf).2.2.2.2.1, (hb f hf).2.2.2.2.2.1⟩
  have h3 := h2.mono hp (fun z _ => mutF_n rfl)
  refine ⟨h3.gI ?_ (List.mem_singleton.mpr rfl), h3.gI ?_ (List.mem_singleton.mpr rfl), h3.gI ?_ (List.mem_singleton.mpr rfl), h3.gI ?_ (List.mem_singleton.mpr rfl), h3.gI ?_ (List.mem_singleton.mpr rfl), h3.gI ?_ (List.mem_singleton.mpr rfl), h3.gI ?_ (List.mem_singleton.mpr rfl), h3.gI ?_ (List.mem_singleton.mpr rfl), h3.gI ?_ (List.mem_singleton.mpr rfl)⟩ <;> simp
theorem things_r (h : R τ σ) {N : Nat} (hN : σ.1 68 = nI N) (hNb : N ≤ 60) {t : Nat} (ht : t < N) : ∃ b, τ.2.1 8 t = some b ∧ (∀ τ', PM M0 τ.2.2.2.1 τ'.2.2.2.1 → isC τ' b [21] = true ∧ gI τ' b [21] 0 = some (σ.2 49 t) ∧ gI τ' b [21] 1 = some (σ.2 50 t) ∧ gI τ' b [21] 2 = some (σ.2 51 t) ∧ gI τ' b [21] 3 = some (σ.2 55 t)) ∧ 0 ≤ (σ.2 51 t).toInt ∧ (σ.2 51 t).toInt ≤ 255 := by
  obtain ⟨-, hl, hb, -⟩ := h.th
  rw [hN, cN_nI (by omega)] at hl hb
  obtain ⟨a, h1, h2⟩ := hl t ht
  refine ⟨a, h1, fun τ' hp => ?_, (hb t ht).1, (hb t ht).2.1⟩
  have h3 := h2.mono hp (fun z _ => mutF_n rfl)
  refine ⟨h3.isC (List.mem_singleton.mpr rfl), h3.gI ?_ (List.mem_singleton.mpr rfl), h3.gI ?_ (List.mem_singleton.mpr rfl), h3.gI ?_ (List.mem_singleton.mpr rfl), h3.gI ?_ (List.mem_singleton.mpr rfl)⟩ <;> simp
/-- what a find wants -/
theorem wants (hF : 1000 ≤ F) (h : R τ σ) {N : Nat} (hN : σ.1 57 = nI N) (hNb : N ≤ 150) : ∃ W : Nat → Int32, ∀ f, f < N → ∃ a, τ.2.1 7 f = some a ∧
    (∀ τ', Kx τ τ' → ∃ τ2, x0_wanted F a τ' = some (W f, τ2, 1, 6) ∧ Kx τ' τ2) ∧
    (∀ τ', Kx τ τ' → ∀ b, isC τ' b [21] = true → ∀ t, gI τ' b [21] 1 = some (σ.2 50 t) → gI τ' b [21] 2 = some (σ.2 51 t) → 0 ≤ (σ.2 51 t).toInt → (σ.2 51 t).toInt ≤ 255 → x0_fits F a b (W f) τ' = some (bI (lkP σ W f t), τ', 0, 0)) ∧
    ∀ σ', Km σ σ' → ∀ t, t < 60 → ∃ σ2, m_couldBe F (nI f) (nI t) σ' = some (bI (lkP σ W f t), σ2) ∧ Km σ σ2 := by
  obtain ⟨W, hW⟩ := Classical.axiomOfChoice (fun f : Nat => numO_v hF h.h 97 8 (σ.2 41 f) (σ.2 40 f) (σ.2 46 f) (σ.2 47 f) (-1))
  refine ⟨W, fun f hf => ?_⟩
  obtain ⟨a, ha, hr, hb0, hb1⟩ := finds_r h hN hNb hf
  obtain ⟨w1, w2⟩ := hW f
  refine ⟨a, ha, fun τ' kx => ?_, fun τ' kx b hb t ht1 ht2 q0 q1 => ?_, fun σ' km t ht => ?_⟩
  · obtain ⟨τ2, e1, k2⟩ := w1 τ' kx
    obtain ⟨r0, r1, -, -, -, -, r6, r7, -⟩ := hr (xN τ' (.inr (19, fun q => defaultValue (tyX19 q)))) (kx.2.2.1.tr (PM.new kx.2.2.2))
    refine ⟨τ2, ?_, k2⟩
    simp only [x0_wanted, nx_e, r0, r1, r6, r7, ob_s, ask_x, tk_00, e1, tk_s]
  · obtain ⟨-, -, -, -, -, -, r6, r7, -⟩ := hr τ' kx.2.2.1
    simp only [x0_fits, r6, ht1, ob_s, hb, if_true, x21_agrees, ht2, r7, bc_e, tk_00, ag_e ⟨q0, q1⟩ ⟨hb0, hb1⟩]
    have hx : σ.2 51 t ^^^ σ.2 47 f = σ.2 47 f ^^^ σ.2 51 t := Int32.xor_comm _ _
    rw [hx]
    by_cases c1 : σ.2 46 f = σ.2 50 t
    · rw [if_pos c1]
      by_cases c2 : agV (σ.2 47 f ^^^ σ.2 51 t) < W f
      · rw [if_pos c2, bI_f (fun z => z.2 c2)]
      · rw [if_neg c2, bI_t ⟨c1, c2⟩]
    · rw [if_neg c1, bI_f (fun z => c1 z.1)]
  · obtain ⟨σ2, e1, k2⟩ := w2 σ' km
    have e46 := km.2 46 (by decide) (by decide) (by decide)
    have e47 := km.2 47 (by decide) (by decide) (by decide)
    have e50 := km.2 50 (by decide) (by decide) (by decide)
    have e51 := km.2 51 (by decide) (by decide) (by decide)
    have e41 := km.2 41 (by decide) (by decide) (by decide)
    have e40 := km.2 40 (by decide) (by decide) (by decide)
    have a47 : ∀ a b c d e, (askM σ' a b c d e).2 47 = σ.2 47 := fun a b c d e => e47
    have a51 : ∀ a b c d e, (askM σ' a b c d e).2 51 = σ.2 51 := fun a b c d e => e51
    simp only [m_couldBe, okI_nI (show f < 150 by omega) (show 150 < 2147483648 by omega), okI_nI ht (show 60 < 2147483648 by omega), if_true, ni_c (show f < 2147483648 by omega), ni_c (show t < 2147483648 by omega), e46, e47, e50, e41, e40, ask_m _ _ _ _ 0, ob_s, agreeing_e hF (show f < 150 by omega) ht, a47, a51, e1]
    by_cases c1 : σ.2 46 f = σ.2 50 t
    · rw [if_pos c1]
      refine ⟨σ2, ?_, km.tr k2⟩
      by_cases c2 : agV (σ.2 47 f ^^^ σ.2 51 t) < W f
      · rw [if_pos c2, bI_f (fun z => z.2 c2)]
      · rw [if_neg c2, bI_t ⟨c1, c2⟩]
    · rw [if_neg c1, bI_f (fun z => c1 z.1)]
      exact ⟨σ', rfl, km⟩
theorem R.op {X : XR Int32} {Y : Option (Int32 × MS)} {τ' : XS} {σ' : MS} {v : Int32} {c s : Nat} (h : R τ σ) (kx : Kx τ τ') (km : Km σ σ') (hx : X = some (v, τ', c, s)) (hy : Y = some (v, σ')) (hc : c ≤ 2000) (hs : s ≤ 10000) : Op σ X Y := by
  refine Op.mk hx hy (h.kk kx km) ?_ hc hs
  unfold pf
  rw [km.1]
  exact Nat.le_succ _
theorem op_like (hF : 1000 ≤ F) (h : R τ σ) (x1 x2 : Int32) : Op σ (x0_like F x1 x2 τ) (m_like F x1 x2 σ) := by
  obtain ⟨N, hN, hNb⟩ := h.fi.1
  obtain ⟨T, hT, hTb⟩ := h.th.1
  have e16 : τ.1.1 16 = nI N := h.e16.trans hN
  have e18 : τ.1.1 18 = nI T := h.e18.trans hT
  simp only [x0_like, m_like, x0_in_e, m_isFind_e, m_isThing_e, ob_s, bI_0, ite_not, e16, e18, hN, hT, ni_i (show N < 2147483648 by omega), ni_i (show T < 2147483648 by omega)]
  refine Op.ite (fun c1 => ?_) (fun _ => Op.same h rfl rfl)
  refine Op.ite (fun c2 => ?_) (fun _ => Op.same h rfl rfl)
  obtain ⟨f, fb, rfl, fi⟩ := nn_of c1.1
  obtain ⟨t, tb, rfl, ti⟩ := nn_of c2.1
  rw [ni_i fb] at c1
  rw [ni_i tb] at c2
  obtain ⟨W, hW⟩ := wants hF h hN hNb
  obtain ⟨a, ha, w1, w2, w3⟩ := hW f (by omega)
  obtain ⟨b, hb, tr, t0, t1⟩ := things_r h hT hTb (show t < T by omega)
  obtain ⟨-, -, -, -, r3⟩ := tr τ (PM.rf _)
  simp only [okI_nI (show f < 150 by omega) (show 150 < 2147483648 by omega), okI_nI (show t < 60 by omega) (show 60 < 2147483648 by omega), if_true, ni_c fb, ni_c tb, ha, hb, ob_s, r3, m_isLike]
  by_cases c3 : σ.2 55 t = 0
  · rw [if_pos c3, if_pos c3]
    obtain ⟨τ2, e1, k1⟩ := w1 τ (Kx.rf h.h)
    obtain ⟨s0, s1, s2, s3, s4⟩ := tr τ2 k1.2.2.1
    obtain ⟨σ2, e2, k2⟩ := w3 σ Km.rf t (by omega)
    rw [e1, e2]
    simp only [ob_s]
    rw [w2 τ2 k1 b s0 t s2 s3 t0 t1]
    simp only [ob_s, tk_00, bI_0, ite_not]
    by_cases c4 : lkP σ W f t
    · rw [if_pos c4, if_pos c4]
      exact h.op k1 k2 rfl rfl (Nat.le_of_ble_eq_true rfl) (Nat.le_of_ble_eq_true rfl)
    · rw [if_neg c4, if_neg c4]
      exact h.op k1 k2 rfl rfl (Nat.le_of_ble_eq_true rfl) (Nat.le_of_ble_eq_true rfl)
  · rw [if_neg c3, if_neg c3]
    exact Op.same h rfl rfl
end LIKE2
