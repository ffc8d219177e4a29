/-! lost -/
theorem PM.int {M : Nat → Bool} {P P' : Pl} (hp : PM M P P') {a m : Nat} {f : Nat → Int32} (h : P a = some (.inl (0, m, .inl f))) : P' a = some (.inl (0, m, .inl f)) := by
  obtain ⟨e', h1, h2⟩ := hp a _ h
  rcases h2 with rfl | ⟨c2, V2, V', h3, h4, h5⟩ | ⟨m, f, f', h3, -⟩
  · exact h1
  · cases h3
  · cases h3
def loP (σ : MS) (W : Nat → Int32) (T f : Nat) : Prop := ∀ t, t < T → ¬ (σ.2 55 t = 0 ∧ lkP σ W f t)
def wbP (σ : MS) (W : Nat → Int32) (T : Nat) (d : Int32) (f : Nat) : Prop := ∃ t, t < T ∧ σ.2 49 t = d ∧ lkP σ W f t
section LOST
variable {F : Nat} {τ : XS} {σ : MS}
/-- what the lost ask, on both sides -/
def LW (F : Nat) (τ : XS) (σ : MS) (W : Nat → Int32) (T f : Nat) : Prop := ∃ a, τ.2.1 7 f = some a ∧ (∀ τ', Kx τ τ' → ∃ τ2, x0_isLost F a τ' = some (cI (loP σ W T f), τ2, 1, 6) ∧ Kx τ' τ2) ∧ (∀ τ', Kx τ τ' → ∀ d, ∃ τ2, x0_wouldBe F a d τ' = some (cI (wbP σ W T d f), τ2, 1, 6) ∧ Kx τ' τ2) ∧ (∀ σ', Km σ σ' → ∃ σ2, m_isLost F (nI f) σ' = some (cI (loP σ W T f), σ2) ∧ Km σ σ2) ∧ ∀ σ', Km σ σ' → ∀ d, ∃ σ2, m_wouldHave F d (nI f) σ' = some (cI (wbP σ W T d f), σ2) ∧ Km σ σ2
theorem lost_w (hF : 1000 ≤ F) (h : R τ σ) {N T : Nat} (hN : σ.1 57 = nI N) (hNb : N ≤ 150) (hT : σ.1 68 = nI T) (hTb : T ≤ 60) : ∃ W, ∀ f, f < N → LW F τ σ W T f := by
  have e18 : τ.1.1 18 = nI T := h.e18.trans hT
  obtain ⟨W, hW⟩ := wants hF h hN hNb
  refine ⟨W, fun f hf => ?_⟩
  obtain ⟨a, ha, w1, w2, w3⟩ := hW f hf
  have hT' : ∀ (k : Nat), k < T → T - cN (nI k + 1) < T - cN (nI k) := by
    intro k hk
    rw [← nI_succ, cN_nI (by omega), cN_nI (by omega)]
    omega
  refine ⟨a, ha, fun τ' kx => ?_, fun τ' kx d => ?_, fun σ' km => ?_, fun σ' km d => ?_⟩
  · obtain ⟨τ2, e1, k2⟩ := w1 τ' kx
    refine ⟨τ2, ?_, k2⟩
    have hkx := kx.tr k2
    simp only [x0_isLost, e1, ob_s]
    have hl : lp (x0_isLost_B8 F a (W f)) F (0, τ2) = some (cI (loP σ W T f), τ2, 0, 0) := by
      refine lp_to (fun b => ∃ k : Nat, k ≤ T ∧ b = (nI k, τ2) ∧ ∀ t, t < k → ¬ (σ.2 55 t = 0 ∧ lkP σ W f t)) (fun b => T - cN b.1) (fun o => o = some (cI (loP σ W T f), τ2, 0, 0)) ?_ F _ ⟨0, by omega, rfl, fun t ht => by omega⟩ (by show T - cN 0 < F; omega)
      intro RX b hi ih
      obtain ⟨k, hk, rfl, hno⟩ := hi
      unfold x0_isLost_B8
      simp only [hkx.1, e18, Int32.le_iff_toInt_le, ni_i (show k < 2147483648 by omega), ni_i (show T < 2147483648 by omega)]
      by_cases hend : k = T
      · subst hend
        rw [if_pos (by omega), cI_t (show loP σ W k f from hno)]
      rw [if_neg (by omega)]
      obtain ⟨b, hb, tr, t0, t1⟩ := things_r h hT hTb (show k < T by omega)
      obtain ⟨s0, s1, s2, s3, s4⟩ := tr τ2 hkx.2.2.1
      have e8 : τ2.2.1 8 k = some b := by rw [hkx.2.1]; exact hb
      simp only [okI_nI (show k < 60 by omega) (show 60 < 2147483648 by omega), if_true, ni_c (show k < 2147483648 by omega), e8, ob_s, s4, w2 τ2 hkx b s0 k s2 s3 t0 t1, tk_00, bI_0, ite_not]
      have hgo : ¬ (σ.2 55 k = 0 ∧ lkP σ W f k) → RX (nI k + 1, τ2) = some (cI (loP σ W T f), τ2, 0, 0) := by
        intro hne
        refine ih _ ⟨k + 1, by omega, by rw [nI_succ], fun t ht => ?_⟩ (hT' k (by omega))
        by_cases htk : t = k
        · rw [htk]; exact hne
        · exact hno t (by omega)
      by_cases c1 : σ.2 55 k = 0
      · rw [if_pos c1]
        by_cases c2 : lkP σ W f k
        · rw [if_pos c2, cI_f (fun q => q k (by omega) ⟨c1, c2⟩)]
        · rw [if_neg c2]
          exact hgo (fun q => c2 q.2)
      · rw [if_neg c1]
        exact hgo (fun q => c1 q.1)
    rw [hl]
    rfl
  · obtain ⟨τ2, e1, k2⟩ := w1 τ' kx
    refine ⟨τ2, ?_, k2⟩
    have hkx := kx.tr k2
    simp only [x0_wouldBe, e1, ob_s]
    have hl : lp (x0_wouldBe_B9 F a d (W f)) F (0, τ2) = some (cI (wbP σ W T d f), τ2, 0, 0) := by
      refine lp_to (fun b => ∃ k : Nat, k ≤ T ∧ b = (nI k, τ2) ∧ ∀ t, t < k → ¬ (σ.2 49 t = d ∧ lkP σ W f t)) (fun b => T - cN b.1) (fun o => o = some (cI (wbP σ W T d f), τ2, 0, 0)) ?_ F _ ⟨0, by omega, rfl, fun t ht => by omega⟩ (by show T - cN 0 < F; omega)
      intro RX b hi ih
      obtain ⟨k, hk, rfl, hno⟩ := hi
      unfold x0_wouldBe_B9
      simp only [hkx.1, e18, Int32.le_iff_toInt_le, ni_i (show k < 2147483648 by omega), ni_i (show T < 2147483648 by omega)]
      by_cases hend : k = T
      · subst hend
        rw [if_pos (by omega), cI_f (fun ⟨t, q1, q2, q3⟩ => hno t q1 ⟨q2, q3⟩)]
      rw [if_neg (by omega)]
      obtain ⟨b, hb, tr, t0, t1⟩ := things_r h hT hTb (show k < T by omega)
      obtain ⟨s0, s1, s2, s3, s4⟩ := tr τ2 hkx.2.2.1
      have e8 : τ2.2.1 8 k = some b := by rw [hkx.2.1]; exact hb
      simp only [okI_nI (show k < 60 by omega) (show 60 < 2147483648 by omega), if_true, ni_c (show k < 2147483648 by omega), e8, ob_s, s1, w2 τ2 hkx b s0 k s2 s3 t0 t1, tk_00, bI_0, ite_not]
      have hgo : ¬ (σ.2 49 k = d ∧ lkP σ W f k) → RX (nI k + 1, τ2) = some (cI (wbP σ W T d f), τ2, 0, 0) := by
        intro hne
        refine ih _ ⟨k + 1, by omega, by rw [nI_succ], fun t ht => ?_⟩ (hT' k (by omega))
        by_cases htk : t = k
        · rw [htk]; exact hne
        · exact hno t (by omega)
      by_cases c1 : σ.2 49 k = d
      · rw [if_pos c1]
        by_cases c2 : lkP σ W f k
        · rw [if_pos c2, cI_t ⟨k, by omega, c1, c2⟩]
        · rw [if_neg c2]
          exact hgo (fun q => c2 q.2)
      · rw [if_neg c1]
        exact hgo (fun q => c1 q.1)
    rw [hl]
    rfl
  · unfold m_isLost
    refine lp_to (fun b => ∃ (k : Nat) (σ1 : MS), k ≤ T ∧ b = (nI k, σ1) ∧ Km σ σ1 ∧ ∀ t, t < k → ¬ (σ.2 55 t = 0 ∧ lkP σ W f t)) (fun b => T - cN b.1) (fun o => ∃ σ2, o = some (cI (loP σ W T f), σ2) ∧ Km σ σ2) ?_ F _ ⟨0, σ', by omega, rfl, km, fun t ht => by omega⟩ (by show T - cN 0 < F; omega)
    intro RX b hi ih
    obtain ⟨k, σ1, hk, rfl, km1, hno⟩ := hi
    unfold m_isLost_B2
    simp only [km1.1, hT, Int32.le_iff_toInt_le, ni_i (show k < 2147483648 by omega), ni_i (show T < 2147483648 by omega)]
    by_cases hend : k = T
    · subst hend
      rw [if_pos (by omega), cI_t (show loP σ W k f from hno)]
      exact ⟨σ1, rfl, km1⟩
    rw [if_neg (by omega)]
    have hgo : ∀ σ3, Km σ σ3 → ¬ (σ.2 55 k = 0 ∧ lkP σ W f k) → ∃ σ2, RX (nI k + 1, σ3) = some (cI (loP σ W T f), σ2) ∧ Km σ σ2 := by
      intro σ3 km3 hne
      refine ih _ ⟨k + 1, σ3, by omega, by rw [nI_succ], km3, fun t ht => ?_⟩ (hT' k (by omega))
      by_cases htk : t = k
      · rw [htk]; exact hne
      · exact hno t (by omega)
    obtain ⟨σ2, e1, k2⟩ := w3 σ1 km1 k (by omega)
    simp only [m_isLike, okI_nI (show k < 60 by omega) (show 60 < 2147483648 by omega), if_true, ni_c (show k < 2147483648 by omega), km1.2 55 (by decide) (by decide) (by decide), e1, ob_s, bI_0, ite_not]
    by_cases c1 : σ.2 55 k = 0
    · rw [if_pos c1]
      by_cases c2 : lkP σ W f k
      · rw [if_pos c2, ob_s, if_neg (show ¬ (1 : Int32) = 0 by decide), cI_f (fun q => q k (by omega) ⟨c1, c2⟩)]
        exact ⟨σ2, rfl, k2⟩
      · rw [if_neg c2, ob_s, if_pos (show (0 : Int32) = 0 from rfl)]
        exact hgo σ2 k2 (fun q => c2 q.2)
    · rw [if_neg c1, ob_s, if_pos (show (0 : Int32) = 0 from rfl)]
      exact hgo σ1 km1 (fun q => c1 q.1)
  · unfold m_wouldHave
    refine lp_to (fun b => ∃ (k : Nat) (σ1 : MS), k ≤ T ∧ b = (nI k, σ1) ∧ Km σ σ1 ∧ ∀ t, t < k → ¬ (σ.2 49 t = d ∧ lkP σ W f t)) (fun b => T - cN b.1) (fun o => ∃ σ2, o = some (cI (wbP σ W T d f), σ2) ∧ Km σ σ2) ?_ F _ ⟨0, σ', by omega, rfl, km, fun t ht => by omega⟩ (by show T - cN 0 < F; omega)
    intro RX b hi ih
    obtain ⟨k, σ1, hk, rfl, km1, hno⟩ := hi
    unfold m_wouldHave_B2
    simp only [km1.1, hT, Int32.le_iff_toInt_le, ni_i (show k < 2147483648 by omega), ni_i (show T < 2147483648 by omega)]
    by_cases hend : k = T
    · subst hend
      rw [if_pos (by omega), cI_f (fun ⟨t, q1, q2, q3⟩ => hno t q1 ⟨q2, q3⟩)]
      exact ⟨σ1, rfl, km1⟩
    rw [if_neg (by omega)]
    have hgo : ∀ σ3, Km σ σ3 → ¬ (σ.2 49 k = d ∧ lkP σ W f k) → ∃ σ2, RX (nI k + 1, σ3) = some (cI (wbP σ W T d f), σ2) ∧ Km σ σ2 := by
      intro σ3 km3 hne
      refine ih _ ⟨k + 1, σ3, by omega, by rw [nI_succ], km3, fun t ht => ?_⟩ (hT' k (by omega))
      by_cases htk : t = k
      · rw [htk]; exact hne
      · exact hno t (by omega)
    obtain ⟨σ2, e1, k2⟩ := w3 σ1 km1 k (by omega)
    simp only [okI_nI (show k < 60 by omega) (show 60 < 2147483648 by omega), if_true, ni_c (show k < 2147483648 by omega), km1.2 49 (by decide) (by decide) (by decide), e1, ob_s, bI_0, ite_not]
    by_cases c1 : σ.2 49 k = d
    · rw [if_pos c1]
      by_cases c2 : lkP σ W f k
      · rw [if_pos c2, cI_t ⟨k, by omega, c1, c2⟩]
        exact ⟨σ2, rfl, k2⟩
      · rw [if_neg c2]
        exact hgo σ2 k2 (fun q => c2 q.2)
    · rw [if_neg c1]
      exact hgo σ1 km1 (fun q => c1 q.1)
end LOST
