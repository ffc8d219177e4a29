def Kj (σ σ' : MS) : Prop := σ'.1 = σ.1 ∧ ∀ j, ¬ j = 37 → ¬ j = 38 → ¬ j = 39 → ¬ j = 54 → ¬ j = 56 → ¬ j = 57 → σ'.2 j = σ.2 j
def Kjx (τ τ' : XS) : Prop := τ'.1.1 = τ.1.1 ∧ (∀ j, ¬ (11 ≤ j ∧ j ≤ 18) → ¬ j = 20 → τ'.1.2 j = τ.1.2 j) ∧ τ'.2.1 = τ.2.1 ∧ PM M0 τ.2.2.2.1 τ'.2.2.2.1 ∧ WFp τ'
section JOIN2
variable {F : Nat} {τ : XS} {σ : MS}
theorem Kjx.rf (h : R τ σ) : Kjx τ τ := ⟨rfl, fun _ _ _ => rfl, rfl, PM.rf _, h.wf⟩
theorem Kj.rf : Kj σ σ := ⟨rfl, fun _ _ _ _ _ _ _ => rfl⟩
theorem Kj.tr {σ1 σ2 : MS} (h1 : Kj σ σ1) (h2 : Km σ1 σ2) : Kj σ σ2 := ⟨h2.1.trans h1.1, fun j a b c d e f => (h2.2 j a b c).trans (h1.2 j a b c d e f)⟩
theorem Kjx.tr {τ1 τ2 : XS} (h1 : Kjx τ τ1) (h2 : Kx τ1 τ2) : Kjx τ τ2 := ⟨by rw [h2.1]; exact h1.1, fun j a b => by rw [h2.1]; exact h1.2.1 j a b, h2.2.1.trans h1.2.2.1, h1.2.2.2.1.tr h2.2.2.1, h2.2.2.2⟩
theorem Kjx.a {τ1 : XS} (h1 : Kjx τ τ1) {j : Nat} (hj : (11 ≤ j ∧ j ≤ 18) ∨ j = 20) (i : Nat) (v : Int32) : Kjx τ (xA τ1 j i v) := by
  refine ⟨h1.1, fun q a b => ?_, h1.2.2.1, h1.2.2.2.1, h1.2.2.2.2⟩
  rw [← h1.2.1 q a b]
  refine if_neg (fun e => ?_)
  subst e
  rcases hj with hj | hj
  · exact a hj
  · exact b hj
theorem Kj.a {σ1 : MS} (h1 : Kj σ σ1) {j : Nat} (hj : j = 54 ∨ j = 56 ∨ j = 57) (i : Nat) (v : Int32) : Kj σ (sA σ1 j i v) := by
  refine ⟨h1.1, fun q a b c d e f => ?_⟩
  rw [← h1.2 q a b c d e f]
  exact if_neg (fun z => by omega)
theorem R.kj {τ' : XS} {σ' : MS} (h : R τ σ) (kx : Kjx τ τ') (km : Kj σ σ') : R τ' σ' := by
  obtain ⟨k1, k1', k2, k4, k5⟩ := kx
  obtain ⟨k6, k7⟩ := km
  have ks : RS τ' σ' := by unfold RS; rw [k1, k6]; exact h.s
  have ka : RA τ' σ' := by
    unfold RA
    rw [k1' 3 (by omega) (by omega), k1' 4 (by omega) (by omega), k1' 19 (by omega) (by omega), k1' 23 (by omega) (by omega), k1' 24 (by omega) (by omega), k1' 27 (by omega) (by omega), k1' 28 (by omega) (by omega), k1' 29 (by omega) (by omega), k1' 30 (by omega) (by omega)]
    rw [k7 0 (by decide) (by decide) (by decide) (by decide) (by decide) (by decide), k7 20 (by decide) (by decide) (by decide) (by decide) (by decide) (by decide), k7 53 (by decide) (by decide) (by decide) (by decide) (by decide) (by decide), k7 66 (by decide) (by decide) (by decide) (by decide) (by decide) (by decide), k7 67 (by decide) (by decide) (by decide) (by decide) (by decide) (by decide), k7 68 (by decide) (by decide) (by decide) (by decide) (by decide) (by decide), k7 69 (by decide) (by decide) (by decide) (by decide) (by decide) (by decide), k7 72 (by decide) (by decide) (by decide) (by decide) (by decide) (by decide), k7 73 (by decide) (by decide) (by decide) (by decide) (by decide) (by decide)]
    exact h.a
  refine h.keep ks ka (by rw [k6]; exact h.sc) k2 k4 k5 (fun k _ => by rw [k6]) (fun j hj => k7 j ?_ ?_ ?_ ?_ ?_ ?_)
  all_goals (rintro rfl; simp at hj)
/-- what a find wants, in every state of a join -/
theorem wants2 (hF : 1000 ≤ F) (h : R τ σ) {N : Nat} (hN : σ.1 57 = nI N) (hNb : N ≤ 150) : ∃ W : Nat → Int32, ∀ f, f < N → (∀ τ', Kjx τ τ' → ∀ a, τ.2.1 7 f = some a → ∃ τ2, x0_wanted F a τ' = some (W f, τ2, 1, 6) ∧ Kx τ' τ2) ∧ ∀ σ', Kj σ σ' → ∀ t, t < 60 → ∃ σ2, m_couldBe F (nI f) (nI t) σ' = some (bI (lkP σ W f t), σ2) ∧ Km σ' σ2 := by
  obtain ⟨W, hW⟩ := Classical.axiomOfChoice (fun f : Nat => numO_w hF h.h 97 8 (σ.2 41 f) (σ.2 40 f) (σ.2 46 f) (σ.2 47 f) (-1))
  refine ⟨W, fun f hf => ⟨fun τ' kx a ha => ?_, fun σ' km t ht => ?_⟩⟩
  · have h' : R τ' σ := h.kj kx Kj.rf
    obtain ⟨v, e1', e2'⟩ := numO_w hF h'.h 97 8 (σ.2 41 f) (σ.2 40 f) (σ.2 46 f) (σ.2 47 f) (-1)
    have hv : v = W f := by
      obtain ⟨σ2, q1, -⟩ := e2' σ h'.h
      obtain ⟨σ3, q2, -⟩ := (hW f).2 σ h.h
      rw [q1] at q2
      cases q2
      rfl
    subst hv
    obtain ⟨a', ha', hr, -⟩ := finds_r h hN hNb hf
    rw [ha] at ha'
    cases ha'
    obtain ⟨τ2, e1, k2⟩ := e1' τ' (Kx.rf h'.h)
    obtain ⟨r0, r1, -, -, -, -, r6, r7, -⟩ := hr (xN τ' (.inr (19, fun q => defaultValue (tyX19 q)))) (kx.2.2.2.1.tr (PM.new kx.2.2.2.2))
    refine ⟨τ2, ?_, k2⟩
    simp only [x0_wanted, nx_e, r0, r1, r6, r7, ob_s, ask_x, tk_00, e1, tk_s]
  · have h' : R τ σ' := h.kj (Kjx.rf h) km
    obtain ⟨σ2, e1, k2⟩ := (hW f).2 σ' h'.h
    have ek : ∀ j, ¬ j = 37 → ¬ j = 38 → ¬ j = 39 → ¬ j = 54 → ¬ j = 56 → ¬ j = 57 → σ'.2 j = σ.2 j := km.2
    have e46 := ek 46 (by decide) (by decide) (by decide) (by decide) (by decide) (by decide)
    have e47 := ek 47 (by decide) (by decide) (by decide) (by decide) (by decide) (by decide)
    have e50 := ek 50 (by decide) (by decide) (by decide) (by decide) (by decide) (by decide)
    have e51 := ek 51 (by decide) (by decide) (by decide) (by decide) (by decide) (by decide)
    have e41 := ek 41 (by decide) (by decide) (by decide) (by decide) (by decide) (by decide)
    have e40 := ek 40 (by decide) (by decide) (by decide) (by decide) (by decide) (by decide)
    have a47 : ∀ a b c d e, (askM σ' a b c d e).2 47 = σ.2 47 := fun a b c d e => e47
    have a51 : ∀ a b c d e, (askM σ' a b c d e).2 51 = σ.2 51 := fun a b c d e => e51
    simp only [m_couldBe, okI_nI (show f < 150 by omega) (show 150 < 2147483648 by omega), okI_nI ht (show 60 < 2147483648 by omega), if_true, ni_c (show f < 2147483648 by omega), ni_c (show t < 2147483648 by omega), e46, e47, e50, e41, e40, ask_m _ _ _ _ 0, ob_s, agreeing_e hF (show f < 150 by omega) ht, a47, a51, e1]
    by_cases c1 : σ.2 46 f = σ.2 50 t
    · rw [if_pos c1]
      refine ⟨σ2, ?_, k2⟩
      by_cases c2 : agV (σ.2 47 f ^^^ σ.2 51 t) < W f
      · rw [if_pos c2, bI_f (fun z => z.2 c2)]
      · rw [if_neg c2, bI_t ⟨c1, c2⟩]
    · rw [if_neg c1, bI_f (fun z => c1 z.1)]
      exact ⟨σ', rfl, Km.rf⟩
/-- who may be joined with what, and how alike -/
def jnl (σ : MS) (W : Nat → Int32) (p : Nat → Nat) (i x : Nat) : Prop := σ.2 55 x = 0 ∧ lkP σ W (p i) x
def jna (σ : MS) (p : Nat → Nat) (i x : Nat) : Nat := cN (agV (σ.2 47 (p i) ^^^ σ.2 51 x))
noncomputable def jnp (σ : MS) (W : Nat → Int32) (p : Nat → Nat) (i x : Nat) : Nat := @ite _ (jnl σ W p i x) (Classical.propDecidable _) (100 + jna σ p i x) 0
noncomputable def jnm (σ : MS) (W : Nat → Int32) (p : Nat → Nat) (i x : Nat) : Int := @ite _ (jnl σ W p i x) (Classical.propDecidable _) (jna σ p i x : Int) (-1)
theorem join_x65 (hF : 1000 ≤ F) (h : R τ σ) {N T : Nat} (hN : σ.1 57 = nI N) (hNb : N ≤ 150) (hT : σ.1 68 = nI T) (hTb : T ≤ 60) {W : Nat → Int32} {p : Nat → Nat} {i a : Nat} (hi : i < 8) (hp : p i < N) (ha : τ.2.1 7 (p i) = some a) (K : Int32 × XS → XR Int32) (x1 : Int32) {τ0 : XS} (k0 : Kjx τ τ0) (hd : ∀ i', i' < i → ∀ y, y < T → τ0.1.2 (11 + i') y = nI (jnp σ W p i' y)) :
    ∃ b τ2, lp (x0_join_B65 F K x1 (nI i) a (W (p i))) F (0, τ0) = K (b, τ2) ∧ Kjx τ τ2 ∧ ∀ i', i' < i + 1 → ∀ y, y < T → τ2.1.2 (11 + i') y = nI (jnp σ W p i' y) := by
  obtain ⟨a', ha', fr, fb0, fb1⟩ := finds_r h hN hNb hp
  rw [ha] at ha'
  cases ha'
  refine lp_to (fun c => ∃ (k : Nat) (τ' : XS), k ≤ T ∧ c = (nI k, τ') ∧ Kjx τ τ' ∧ (∀ i', i' < i → ∀ y, y < T → τ'.1.2 (11 + i') y = nI (jnp σ W p i' y)) ∧ ∀ y, y < k → τ'.1.2 (11 + i) y = nI (jnp σ W p i y)) (fun c => T - cN c.1) (fun o => ∃ b τ2, o = K (b, τ2) ∧ Kjx τ τ2 ∧ ∀ i', i' < i + 1 → ∀ y, y < T → τ2.1.2 (11 + i') y = nI (jnp σ W p i' y)) ?_ F _ ⟨0, τ0, by omega, rfl, k0, hd, fun y hy => by omega⟩ (by show T - cN 0 < F; omega)
  intro RX c hc ih
  obtain ⟨k, τ', hk, rfl, kj, hd', hy'⟩ := hc
  have e18 : τ'.1.1 18 = nI T := by rw [kj.1]; exact h.e18.trans hT
  unfold x0_join_B65
  simp only [e18, Int32.le_iff_toInt_le, ni_i (show k < 2147483648 by omega), ni_i (show T < 2147483648 by omega)]
  by_cases hend : k = T
  · subst hend
    rw [if_pos (by omega)]
    refine ⟨_, τ', rfl, kj, fun i' hi' y hy => ?_⟩
    by_cases hii : i' = i
    · rw [hii]; exact hy' y hy
    · exact hd' i' (by omega) y hy
  rw [if_neg (by omega)]
  obtain ⟨b, hb, tr, t0, t1⟩ := things_r h hT hTb (show k < T by omega)
  obtain ⟨s0, s1, s2, s3, s4⟩ := tr τ' kj.2.2.2.1
  obtain ⟨-, -, -, -, -, -, r6, r7, -⟩ := fr τ' kj.2.2.2.1
  have e8 : τ'.2.1 8 k = some b := by rw [kj.2.2.1]; exact hb
  have hfit : x0_fits F a b (W (p i)) τ' = some (bI (lkP σ W (p i) k), τ', 0, 0) := by
    simp only [x0_fits, r6, s2, ob_s, s0, if_true, x21_agrees, s3, r7, bc_e, tk_00, ag_e ⟨t0, t1⟩ ⟨fb0, fb1⟩]
    rw [show σ.2 51 k ^^^ σ.2 47 (p i) = σ.2 47 (p i) ^^^ σ.2 51 k from Int32.xor_comm _ _]
    by_cases c1 : σ.2 46 (p i) = σ.2 50 k
    · rw [if_pos c1]
      by_cases c2 : agV (σ.2 47 (p i) ^^^ σ.2 51 k) < W (p i)
      · rw [if_pos c2, bI_f (fun z => z.2 c2)]
      · rw [if_neg c2, bI_t ⟨c1, c2⟩]
    · rw [if_neg c1, bI_f (fun z => c1 z.1)]
  have hagr : x21_agrees F b a τ' = some (nI (jna σ p i k), τ', 0, 0) := by
    simp only [x21_agrees, s3, r7, ob_s, bc_e, ag_e ⟨t0, t1⟩ ⟨fb0, fb1⟩]
    rw [show σ.2 51 k ^^^ σ.2 47 (p i) = σ.2 47 (p i) ^^^ σ.2 51 k from Int32.xor_comm _ _, (ag_n ⟨fb0, fb1⟩ ⟨t0, t1⟩).1]
    rfl
  have hgo : ∀ v, v = nI (jnp σ W p i k) → ∃ b τ2, RX (nI k + 1, xA τ' (11 + i) k v) = K (b, τ2) ∧ Kjx τ τ2 ∧ ∀ i', i' < i + 1 → ∀ y, y < T → τ2.1.2 (11 + i') y = nI (jnp σ W p i' y) := by
    intro v hv
    refine ih _ ⟨k + 1, xA τ' (11 + i) k v, by omega, by rw [nI_succ], kj.a (Or.inl (by omega)) k v, fun i' hi' y hy => ?_, fun y hy => ?_⟩ ?_
    · rw [show (xA τ' (11 + i) k v).1.2 (11 + i') = τ'.1.2 (11 + i') from if_neg (by omega)]
      exact hd' i' hi' y hy
    · rw [show (xA τ' (11 + i) k v).1.2 (11 + i) = upd (τ'.1.2 (11 + i)) k v from if_pos rfl]
      by_cases hyk : y = k
      · rw [hyk, ← hv]; exact if_pos rfl
      · rw [show upd (τ'.1.2 (11 + i)) k v y = τ'.1.2 (11 + i) y from if_neg hyk]
        exact hy' y (by omega)
    · show T - cN (nI k + 1) < T - cN (nI k)
      rw [← nI_succ, cN_nI (by omega), cN_nI (by omega)]
      omega
  have hj1 : jnl σ W p i k → nI (jnp σ W p i k) = 100 + nI (jna σ p i k) := by
    intro q
    rw [jnp, if_pos q, show (100 : Int32) = nI 100 from rfl, ni_add]
  have hj0 : ¬ jnl σ W p i k → nI (jnp σ W p i k) = 0 := by
    intro q
    rw [jnp, if_neg q]
    rfl
  simp only [okI_nI hi (show 8 < 2147483648 by omega), okI_nI (show k < 60 by omega) (show 60 < 2147483648 by omega), if_true, ni_c (show k < 2147483648 by omega), ni_c (show i < 2147483648 by omega), e8, ob_s, s4, hfit, tk_00, bI_0, ite_not, hagr, s0, nx_e]
  by_cases c1 : σ.2 55 k = 0
  · rw [if_pos c1]
    by_cases c2 : lkP σ W (p i) k
    · rw [if_pos c2]
      exact hgo _ (hj1 ⟨c1, c2⟩).symm
    · rw [if_neg c2]
      exact hgo _ (hj0 (fun q => c2 q.2)).symm
  · rw [if_neg c1]
    exact hgo _ (hj0 (fun q => c1 q.1)).symm
end JOIN2
