theorem ni_add (a b : Nat) : nI a + nI b = nI (a + b) := (Int32.ofNat_add a b).symm
theorem ni_mul (a b : Nat) : nI a * nI b = nI (a * b) := (Int32.ofNat_mul a b).symm
theorem sS_sS (σ : MS) (k : Nat) (v w : Int32) : sS (sS σ k v) k w = sS σ k w := by
  apply Prod.ext
  · funext q
    simp only [sS_at]
    by_cases hq : q = k <;> simp [hq]
  · rfl
theorem jn_ite {ρ κ : Type} {Q : ρ → κ → Prop} {c : Prop} [Decidable c] {X X' : Option ρ} {Y Y' : Option κ} (h1 : c → ∃ v w, X = some v ∧ Y = some w ∧ Q v w) (h2 : ¬ c → ∃ v w, X' = some v ∧ Y' = some w ∧ Q v w) : ∃ v w, (if c then X else X') = some v ∧ (if c then Y else Y') = some w ∧ Q v w := by
  by_cases h : c
  · rw [if_pos h, if_pos h]; exact h1 h
  · rw [if_neg h, if_neg h]; exact h2 h
theorem jn_itq {ρ κ : Type} {Q : ρ → κ → Prop} {c d : Prop} [Decidable c] [Decidable d] {X X' : Option ρ} {Y Y' : Option κ} (hcd : c ↔ d) (h1 : c → ∃ v w, X = some v ∧ Y = some w ∧ Q v w) (h2 : ¬ c → ∃ v w, X' = some v ∧ Y' = some w ∧ Q v w) : ∃ v w, (if c then X else X') = some v ∧ (if d then Y else Y') = some w ∧ Q v w := by
  by_cases h : c
  · rw [if_pos h, if_pos (hcd.mp h)]; exact h1 h
  · rw [if_neg h, if_neg (fun q => h (hcd.mpr q))]; exact h2 h
section GROUND3
variable {F : Nat} {τ : XS} {σ : MS}
def fdr (τ : XS) (s : Int32 × Int32) : Option Nat := if s.2 = -1 then none else τ.2.1 1 s.2.toNatClampNeg
theorem ground_x (hF : 200 ≤ F) (h : R τ σ) (c l week t : Int32) {N : Nat} (hN : σ.1 4 = nI N) (hNb : N ≤ 100) {π : Nat → Nat}
    (hd : ∀ i, i < N → ∃ a, τ.2.1 1 i = some a ∧ Do τ.2.2.2.1 a i (σ.1 0) (σ.2 5 i) (σ.2 6 i) (σ.2 7 i) (σ.2 8 i) (σ.2 9 i) (σ.2 10 i) (σ.2 11 i) (σ.2 12 i) (σ.2 13 i) (σ.2 14 i) ∧ okR (σ.1 0) (σ.1 1) (σ.2 7 i) (σ.2 8 i) ∧ 0 ≤ (σ.2 6 i).toInt ∧ (σ.2 6 i).toInt ≤ 2 ∧ 0 ≤ (σ.2 11 i).toInt)
    (hπ : ∀ k, k < N → π k < N ∧ τ.2.1 2 k = τ.2.1 1 (π k)) :
    x0_groundOf F c l week t τ = some ((GG (relP σ c l week t) (σ.2 6) π N).1, xF τ (fdr τ (GG (relP σ c l week t) (σ.2 6) π N)), 0, 0) := by
  have hw := w_ne h
  have e4 : τ.1.1 4 = nI N := by rw [← hN]; exact h.e4
  have hkd : ∀ i, i < N → σ.2 6 i = 0 ∨ σ.2 6 i = 1 ∨ σ.2 6 i = 2 := by
    intro i hi
    obtain ⟨a, -, -, -, h1, h2, -⟩ := hd i hi
    rcases kind_c h1 h2 with q | q | q
    · exact Or.inl q.1
    · exact Or.inr (Or.inl q.1)
    · exact Or.inr (Or.inr q.1)
  unfold x0_groundOf
  rw [nx_e]
  obtain ⟨v, h1, h2⟩ := lp_one (B := x0_groundOf_B11 F c l week t) (fun a => ∃ k : Nat, k ≤ N ∧ a = ((GG (relP σ c l week t) (σ.2 6) π k).1, nI k, xF τ (fdr τ (GG (relP σ c l week t) (σ.2 6) π k)))) (fun a => N - cN a.2.1) (fun v => v = ((GG (relP σ c l week t) (σ.2 6) π N).1, xF τ (fdr τ (GG (relP σ c l week t) (σ.2 6) π N)), 0, 0)) (by
    intro RX a hi ih
    obtain ⟨k, hk, rfl⟩ := hi
    unfold x0_groundOf_B11
    have e4' : ∀ r, (xF τ r).1.1 4 = nI N := fun r => e4
    have e0' : ∀ r, (xF τ r).1.1 0 = σ.1 0 := fun r => h.e0
    simp only [e4', Int32.le_iff_toInt_le, ni_i (show k < 2147483648 by omega), ni_i (show N < 2147483648 by omega)]
    by_cases hend : k = N
    · subst hend
      rw [if_pos (by omega)]
      exact ⟨_, rfl, rfl⟩
    rw [if_neg (by omega)]
    have hnext : ∀ g r, (g, r) = ((GG (relP σ c l week t) (σ.2 6) π (k + 1)).1, fdr τ (GG (relP σ c l week t) (σ.2 6) π (k + 1))) → ∃ v, RX (g, nI k + 1, xF τ r) = some v ∧ v = ((GG (relP σ c l week t) (σ.2 6) π N).1, xF τ (fdr τ (GG (relP σ c l week t) (σ.2 6) π N)), 0, 0) := by
      intro g r hgr
      cases hgr
      refine ih _ ⟨k + 1, by omega, by rw [nI_succ]⟩ ?_
      show N - cN (nI k + 1) < N - cN (nI k)
      rw [← nI_succ, cN_nI (by omega), cN_nI (by omega)]
      omega
    obtain ⟨hpk, hord⟩ := hπ k (by omega)
    obtain ⟨a, ha, hdo, hr, hk0, hk2, hfr⟩ := hd (π k) hpk
    obtain ⟨b, V, g0, g1, g2, g3, g4, g5, g6, g7, g8, g9, g10⟩ := hdo
    obtain ⟨hc1, hc2⟩ := kind3 hk0 hk2
    have dI := fun w c A B => Classical.propDecidable (inS w c A B)
    have dK := fun a b c => Classical.propDecidable (knw a b c)
    have g0' : ∀ r, (xF τ r).2.2.2.1 a = some (.inr (5 + cN (σ.2 6 (π k)), V)) := fun r => g0
    have g10' : ∀ r, Rc (xF τ r).2.2.2.1 b (σ.1 0) (σ.2 7 (π k)) (σ.2 8 (π k)) := fun r => g10
    have ho' : ∀ r, (xF τ r).2.1 2 k = some a := fun r => by
      show τ.2.1 2 k = some a
      rw [hord, ha]
    have hfd : ∀ r, (xF τ r).2.2.1 = r := fun r => rfl
    have hff : ∀ r r', xF (xF τ r) r' = xF τ r' := fun r r' => rfl
    simp only [okI_nI (show k < 100 by omega) (show 100 < 2147483648 by omega), if_true, ni_c (show k < 2147483648 by omega), ho', ob_s, gI_of (g0' _) hc1 g5, isC_of (g0' _) hc1, x4_isKnown_e (d := dK) (g0' _) hc1 g7 g9, tk_00, bI_0, ite_not, e0', hw, if_false, x4_reaches_e (d := dI) (g0' _) hc1 g8 g3 g4 (g10' _), xd_makes_e (g0' _) hk0 hk2, hfd, nx_e, hff, Int32.lt_iff_toInt_lt]
    obtain ⟨i1, i2⟩ := GG_inv (rel := relP σ c l week t) hNb (fun k hk => (hπ k hk).1) hkd k hk
    by_cases c3 : week.toInt < (σ.2 11 (π k)).toInt
    · rw [if_pos c3]
      refine hnext _ _ ?_
      rw [GG_f (fun q => by have := q.1.1; omega)]
    · rw [if_neg c3]
      by_cases c1 : knw (σ.2 13 (π k)) (σ.2 14 (π k)) t
      · rw [if_pos c1]
        by_cases c2 : inS (σ.1 0) c (σ.2 7 (π k)) (σ.2 8 (π k)) ∧ (σ.2 9 (π k)).toInt ≤ l.toInt ∧ l.toInt ≤ (σ.2 10 (π k)).toInt
        · rw [if_pos c2]
          have hrel : relP σ c l week t (π k) := ⟨⟨by omega, c1⟩, c2⟩
          have hG := GG_t (kind := σ.2 6) hrel
          by_cases hz : gSt (σ.2 6 (π k)) (GG (relP σ c l week t) (σ.2 6) π k).1 = 0
          · rw [if_pos hz]
            refine hnext _ _ ?_
            rw [hG]
            unfold gF1
            have hk2 : (GG (relP σ c l week t) (σ.2 6) π k).1 = 0 ∧ σ.2 6 (π k) = 2 := by
              unfold gSt at hz
              rcases hkd (π k) hpk with e | e | e <;> rw [e] at hz
              · simp at hz
              · exfalso
                by_cases z : (GG (relP σ c l week t) (σ.2 6) π k).1 = 0
                · simp [z] at hz
                · simp [z] at hz
              · refine ⟨?_, e⟩
                apply Classical.byContradiction
                intro z
                simp [z] at hz
            simp [hk2, fdr]
          · rw [if_neg hz]
            rcases i2 with ⟨j1, j2⟩ | ⟨j1, i, j2, j3⟩
            · have hfn : fdr τ (GG (relP σ c l week t) (σ.2 6) π k) = none := by simp [fdr, j2]
              rw [if_pos hfn]
              refine hnext _ _ ?_
              rw [hG]
              have hk2 : ¬ σ.2 6 (π k) = 2 := by
                intro e
                apply hz
                simp [gSt, e, j1]
              have hne : ¬ nI (π k) = -1 := by
                rw [i_eq, ni_i (by omega), li_m1]
                omega
              simp [gF1, j1, hk2, fdr, hne, ni_c (show π k < 2147483648 by omega), ha]
            · have hne : ¬ nI i = -1 := by
                rw [i_eq, ni_i (by omega), li_m1]
                omega
              obtain ⟨a', ha', -⟩ := hd i j2
              have hfn : fdr τ (GG (relP σ c l week t) (σ.2 6) π k) = some a' := by simp [fdr, j3, hne, ni_c (show i < 2147483648 by omega), ha']
              rw [if_neg (by rw [hfn]; simp)]
              refine hnext _ _ ?_
              rw [hG]
              simp [gF1, j1, fdr]
        · rw [if_neg c2]
          refine hnext _ _ ?_
          rw [GG_f (fun q => c2 q.2)]
      · rw [if_neg c1]
        refine hnext _ _ ?_
        rw [GG_f (fun q => c1 q.1.2)]) F (0, 0, xF τ none) ⟨0, Nat.zero_le _, rfl⟩ (by show N - cN 0 < F; omega)
  rw [h1, h2]
theorem R.xF (h : R τ σ) (fd : Option Nat) (fm : Int32) : R (xF τ fd) (sS σ 20 fm) := ⟨h.s, h.a, h.sc, h.pl, h.dg, h.me, h.ru, h.fi, h.th, h.wa, h.dr, h.si, h.wo, h.as, h.wf⟩
theorem groundOf_j (hF : 200 ≤ F) (h : R τ σ) (c l week t : Int32) : ∃ g fd fm, x0_groundOf F c l week t τ = some (g, xF τ fd, 0, 0) ∧ m_groundOf F c l week t σ = some (g, sS σ 20 fm) ∧ (g = 0 ∨ ∃ a, fd = some a ∧ gI τ a [5, 6, 7] 0 = some fm) := by
  obtain ⟨⟨N, hN, hNb⟩, hd, π, h1, h2, h3⟩ := h.dg
  rw [hN, cN_nI (by omega)] at hd h1 h2 h3
  have hkd : ∀ i, i < N → σ.2 6 i = 0 ∨ σ.2 6 i = 1 ∨ σ.2 6 i = 2 := by
    intro i hi
    obtain ⟨a, -, -, -, h1, h2, -⟩ := hd i hi
    rcases kind_c h1 h2 with q | q | q
    · exact Or.inl q.1
    · exact Or.inr (Or.inl q.1)
    · exact Or.inr (Or.inr q.1)
  have hx := ground_x hF h c l week t hN hNb hd h1
  have hm := ground_m hF hN hNb (w_ne h) c l week t (fun k hk => (h1 k hk).1) h2 h3 hkd (fun i hi => (hd i hi).choose_spec.2.2.2.2.2)
  refine ⟨_, _, _, hx, hm, ?_⟩
  obtain ⟨-, i2⟩ := GG_inv (rel := relP σ c l week t) (kind := σ.2 6) hNb (fun k hk => (h1 k hk).1) hkd N (Nat.le_refl _)
  rcases i2 with ⟨j1, -⟩ | ⟨j1, i, j2, j3⟩
  · exact Or.inl j1
  · right
    obtain ⟨a, ha, hdo, hr, hk0, hk2, hfr⟩ := hd i j2
    obtain ⟨b, V, g0, g1, -⟩ := hdo
    have hne : ¬ nI i = -1 := by
      rw [i_eq, ni_i (by omega), li_m1]
      omega
    refine ⟨a, ?_, ?_⟩
    · simp [fdr, j3, hne, ni_c (show i < 2147483648 by omega), ha]
    · rw [j3]
      exact gI_of g0 (kind3 hk0 hk2).1 g1
theorem isGround_j (h : R τ σ) (x1 x2 x3 x4 : Int32) : ∃ b, okB b = true ∧ x0_isGround F x1 x2 x3 x4 τ = some (b, τ, 0, 0) ∧ m_isGround F x1 x2 x3 x4 σ = some (b, σ) := by
  simp only [x0_isGround, m_isGround, x0_isCell_e, x0_isLayer_e, x0_isWeek_e, m_isCell_e, m_isLayer_e, m_isWeek_e, ob_s, bI_0, ite_not, tk_00, h.e0, h.e1, cj_a]
  by_cases hC : (0 ≤ x1.toInt ∧ x1.toInt < (σ.1 0 * σ.1 1).toInt) ∧ (0 ≤ x2.toInt ∧ x2.toInt < 8) ∧ (0 ≤ x3.toInt ∧ x3.toInt < 10000) ∧ (0 ≤ x4.toInt ∧ x4.toInt < 10000)
  · rw [if_pos (by omega), if_pos (by omega)]
    exact ⟨1, rfl, rfl, rfl⟩
  · rw [if_neg (by omega), if_neg (by omega)]
    exact ⟨0, rfl, rfl, rfl⟩
theorem op_ground (hF : 200 ≤ F) (h : R τ σ) (x1 x2 x3 x4 : Int32) : Op σ (x0_ground F x1 x2 x3 x4 τ) (m_ground F x1 x2 x3 x4 σ) := by
  obtain ⟨b, hb, h1, h2⟩ := isGround_j (F := F) h x1 x2 x3 x4
  obtain ⟨g, fd, fm, h3, h4, h5⟩ := groundOf_j hF h x1 x2 x3 x4
  simp only [x0_ground, m_ground, h1, h2, h3, h4, ob_s, tk_00]
  refine Op.ite (fun _ => Op.same h rfl rfl) (fun _ => ?_)
  exact Op.mk rfl rfl (h.xF fd fm) (Nat.le_succ _) (by decide) (by decide)
theorem op_first (hF : 200 ≤ F) (h : R τ σ) (x1 x2 x3 x4 : Int32) : Op σ (x0_first F x1 x2 x3 x4 τ) (m_first F x1 x2 x3 x4 σ) := by
  obtain ⟨b, hb, h1, h2⟩ := isGround_j (F := F) h x1 x2 x3 x4
  obtain ⟨g, fd, fm, h3, h4, h5⟩ := groundOf_j hF h x1 x2 x3 x4
  simp only [x0_first, m_first, h1, h2, h3, h4, ob_s, tk_00]
  refine Op.ite (fun _ => Op.same h rfl rfl) (fun _ => ?_)
  refine Op.ite (fun _ => Op.mk rfl rfl (h.xF fd fm) (Nat.le_succ _) (by decide) (by decide)) (fun hg => ?_)
  rcases h5 with h5 | ⟨a, rfl, h6⟩
  · exact absurd h5 hg
  · have e1 : (xF τ (some a)).2.2.1 = some a := rfl
    have e2 : gI (xF τ (some a)) a [5, 6, 7] 0 = some fm := h6
    have e3 : (sS σ 20 fm).1 20 = fm := rfl
    simp only [e1, ob_s, e2, e3]
    exact Op.mk rfl rfl (h.xF _ fm) (Nat.le_succ _) (by decide) (by decide)
theorem numberAt_j (hF : 200 ≤ F) (ht : τ.1.2 4 = σ.2 20) {j : Nat} (hj : 4 * j + 4 ≤ 400) : ∃ v, x0_numberAt F (nI j) τ = some (v, τ, 0, 0) ∧ m_tapeNumber F (nI j) σ = some (v, σ) := by
  have e4 : (4 : Int32) = nI 4 := rfl
  unfold x0_numberAt m_tapeNumber
  have hi0 : (0 : Int32) = nI 0 := rfl
  obtain ⟨v, w, h1, h2, u, h3, h4⟩ := lp_join (BX := x0_numberAt_B4 F (nI j)) (BM := m_tapeNumber_B6 F (nI j)) (fun a b => ∃ (i : Nat) (y : Int32), i ≤ 4 ∧ a = (y, nI i, τ) ∧ b = (y, nI (4 * j + i), σ)) (fun a _ => 4 - cN a.2.1) (fun v w => ∃ u, v = (u, τ, 0, 0) ∧ w = (u, σ)) (by
    intro RX RM a b hi ih
    obtain ⟨i, y, hi4, rfl, rfl⟩ := hi
    unfold x0_numberAt_B4 m_tapeNumber_B6
    simp only [e4, ni_mul, ni_add, Int32.le_iff_toInt_le, ni_i (show i < 2147483648 by omega), ni_i (show 4 < 2147483648 by omega), ni_i (show 4 * j + 4 < 2147483648 by omega), ni_i (show 4 * j + i < 2147483648 by omega)]
    by_cases hend : i = 4
    · subst hend
      rw [if_pos (by omega), if_pos (by omega)]
      exact ⟨_, _, rfl, rfl, _, rfl, rfl⟩
    · simp only [okI_nI (show 4 * j + i < 400 by omega) (show 400 < 2147483648 by omega), if_true, ni_c (show 4 * j + i < 2147483648 by omega), nx_e, ht, ← nI_succ]
      rw [if_neg (by omega), if_neg (by omega)]
      refine ih _ _ ⟨i + 1, _, by omega, rfl, rfl⟩ ?_
      show 4 - cN (nI (i + 1)) < 4 - cN (nI i)
      rw [cN_nI (by omega), cN_nI (by omega)]
      omega) F (0, 0, τ) (0, 4 * nI j, σ) ⟨0, 0, by omega, rfl, by rw [e4, ni_mul]; rfl⟩ (by show 4 - cN 0 < F; omega)
  exact ⟨u, by rw [h1, h3], by rw [h2, h4]⟩
theorem op_check (hF : 200 ≤ F) (h : R τ σ) (x1 : Int32) : Op σ (x0_check F x1 τ) (m_check F x1 σ) := by
  obtain ⟨s1, s2, s3, s4, s5, s6, ⟨T, hT, hTb⟩, s8, s9⟩ := h.sc
  obtain ⟨w1, w2, w3⟩ := wh_b h
  have e5 : τ.1.1 5 = nI T := by rw [← hT]; exact h.e5
  have hdv : (nI T / 12).toInt = (T : Int) / 12 := by
    rw [i_div (by rw [ni_i (by omega)]; omega) (by decide), ni_i (by omega)]
    rfl
  unfold x0_check m_check
  simp only [e5, hT, Int32.lt_iff_toInt_lt, Int32.le_iff_toInt_le, hdv, li_0, nx_e]
  by_cases c1 : x1.toInt < 0
  · rw [if_pos c1, if_pos c1]
    exact Op.same h rfl rfl
  rw [if_neg c1, if_neg c1]
  by_cases c2 : x1.toInt ≤ (T : Int) / 12
  · rw [if_pos c2, if_pos c2]
    have hcl := c_i (show 0 ≤ x1.toInt by omega)
    have hx1 := (ni_eq (show 0 ≤ x1.toInt by omega)).symm
    generalize x1.toNatClampNeg = n at hcl hx1
    subst hx1
    have hx := (nI n).toInt_lt
    have hn : n ≤ 33 ∧ 12 * n ≤ T := by omega
    have hWc := c_i (show 0 ≤ (σ.1 0 * σ.1 1).toInt by omega)
    have hWe := (ni_eq (show 0 ≤ (σ.1 0 * σ.1 1).toInt by omega)).symm
    generalize (σ.1 0 * σ.1 1).toNatClampNeg = W at hWc hWe
    have hR1 : R (xS τ 5 0) (sS σ 28 0) := ⟨⟨h.s.1, h.s.2.1, h.s.2.2.1, h.s.2.2.2.1, h.s.2.2.2.2.1, rfl, h.s.2.2.2.2.2.2.1, h.s.2.2.2.2.2.2.2.1, h.s.2.2.2.2.2.2.2.2.1, h.s.2.2.2.2.2.2.2.2.2.1, h.s.2.2.2.2.2.2.2.2.2.2.1, h.s.2.2.2.2.2.2.2.2.2.2.2.1, h.s.2.2.2.2.2.2.2.2.2.2.2.2.1, h.s.2.2.2.2.2.2.2.2.2.2.2.2.2.1, h.s.2.2.2.2.2.2.2.2.2.2.2.2.2.2.1, h.s.2.2.2.2.2.2.2.2.2.2.2.2.2.2.2.1, h.s.2.2.2.2.2.2.2.2.2.2.2.2.2.2.2.2⟩, h.a, ⟨s1, s2, s3, s4, s5, s6, ⟨0, rfl, by omega⟩, s8, s9⟩, h.pl, h.dg, h.me, h.ru, h.fi, h.th, h.wa, h.dr, h.si, h.wo, h.as, h.wf⟩
    have e3 : (3 : Int32) = nI 3 := rfl
    have e1 : (1 : Int32) = nI 1 := rfl
    have e2 : (2 : Int32) = nI 2 := rfl
    have e8 : (8 : Int32) = nI 8 := rfl
    have outer := lp_join (BX := x0_check_B27 F (fun a1 => if a1.1 = nI n then (some ((-1), a1.2.2, 0, 0)) else (some (3 * a1.1, a1.2.2, 0, 0))) (nI n)) (BM := m_check_B27 F (fun a1 => if (3 * nI n).toInt ≤ a1.1.toInt then (some ((-1), a1.2.2)) else (some (a1.1, a1.2.2))) (nI n))
      (fun a b => ∃ (k c : Nat) (fd : Option Nat) (fm : Int32), k ≤ n ∧ c ≤ W ∧ a = (nI k, nI c, xF (xS τ 5 0) fd) ∧ b = (nI (3 * k), nI c, sS (sS σ 28 0) 20 fm)) (fun a _ => W - cN a.2.1) (fun v w => ∃ (u : Int32) (fd : Option Nat) (fm : Int32), v = (u, xF (xS τ 5 0) fd, 0, 0) ∧ w = (u, sS (sS σ 28 0) 20 fm)) (by
      intro RX RM a b hi ih
      obtain ⟨k, c, fd, fm, hk, hc, rfl, rfl⟩ := hi
      unfold x0_check_B27 m_check_B27
      have ew : ∀ fd, (xF (xS τ 5 0) fd).1.1 0 * (xF (xS τ 5 0) fd).1.1 1 = nI W := fun fd => by
        show τ.1.1 0 * τ.1.1 1 = nI W
        rw [h.e0, h.e1, hWe]
      have ew2 : ∀ fm, (sS (sS σ 28 0) 20 fm).1 0 * (sS (sS σ 28 0) 20 fm).1 1 = nI W := fun fm => hWe
      simp only [ew, ew2, Int32.le_iff_toInt_le, e3, ni_mul, ni_i (show c < 2147483648 by omega), ni_i (show W < 2147483648 by omega), ni_i (show 3 * n < 2147483648 by omega), ni_i (show 3 * k < 2147483648 by omega)]
      refine jn_ite (fun hend => ?_) (fun hend => ?_)
      · refine jn_itq ⟨fun q => ?_, fun q => ?_⟩ (fun _ => ⟨_, _, rfl, rfl, _, fd, fm, rfl, rfl⟩) (fun _ => ⟨_, _, rfl, rfl, _, fd, fm, rfl, rfl⟩)
        · have := ni_inj (by omega) (by omega) q
          omega
        · have : k = n := by omega
          rw [this]
      · have inner := lp_join (BX := x0_check_B43 F (fun a1 => RX (a1.1, nI c + 1, a1.2.2)) (nI n) (nI c)) (BM := m_check_B43 F (fun a1 => RM (a1.1, nI c + 1, a1.2.2)) (nI n) (nI c))
          (fun a b => ∃ (k l : Nat) (fd : Option Nat) (fm : Int32), k ≤ n ∧ l ≤ 8 ∧ a = (nI k, nI l, xF (xS τ 5 0) fd) ∧ b = (nI (3 * k), nI l, sS (sS σ 28 0) 20 fm)) (fun a _ => 8 - cN a.2.1) (fun v w => ∃ (u : Int32) (fd : Option Nat) (fm : Int32), v = (u, xF (xS τ 5 0) fd, 0, 0) ∧ w = (u, sS (sS σ 28 0) 20 fm)) (by
          intro RX' RM' a b hi ih'
          obtain ⟨k, l, fd, fm, hk, hl, rfl, rfl⟩ := hi
          unfold x0_check_B43 m_check_B43
          have hR2 := hR1.xF fd fm
          have n2 : ∀ fd, (xF (xS τ 5 0) fd).1.1 2 = σ.1 2 := fun fd => h.e2
          have n2' : ∀ fm, (sS (sS σ 28 0) 20 fm).1 2 = σ.1 2 := fun fm => rfl
          obtain ⟨g, fd', fm', g1, g2, g3⟩ := groundOf_j hF hR2 (nI c) (nI l) (σ.1 2) (σ.1 2)
          have g1 : x0_groundOf F (nI c) (nI l) (σ.1 2) (σ.1 2) (xF (xS τ 5 0) fd) = some (g, xF (xS τ 5 0) fd', 0, 0) := g1
          rw [sS_sS] at g2
          simp only [n2, n2', g1, g2, ob_s, tk_00, Int32.le_iff_toInt_le, e8, ni_i (show l < 2147483648 by omega), ni_i (show 8 < 2147483648 by omega)]
          refine jn_ite (fun hend => ?_) (fun hend => ?_)
          · refine ih _ _ ⟨k, c + 1, fd, fm, hk, by omega, by rw [nI_succ], by rw [nI_succ]⟩ ?_
            show W - cN (nI c + 1) < W - cN (nI c)
            rw [← nI_succ, cN_nI (by omega), cN_nI (by omega)]
            omega
          · have hnext : ∀ (k : Nat) (fd : Option Nat) (fm : Int32), k ≤ n → ∃ v w, RX' (nI k, nI l + 1, xF (xS τ 5 0) fd) = some v ∧ RM' (nI (3 * k), nI l + 1, sS (sS σ 28 0) 20 fm) = some w ∧ ∃ (u : Int32) (fd : Option Nat) (fm : Int32), v = (u, xF (xS τ 5 0) fd, 0, 0) ∧ w = (u, sS (sS σ 28 0) 20 fm) := by
              intro k fd fm hk
              refine ih' _ _ ⟨k, l + 1, fd, fm, hk, by omega, by rw [nI_succ], by rw [nI_succ]⟩ ?_
              show 8 - cN (nI l + 1) < 8 - cN (nI l)
              rw [← nI_succ, cN_nI (by omega), cN_nI (by omega)]
              omega
            refine jn_ite (fun hg => hnext k fd' fm' hk) (fun hg => ?_)
            simp only [e3, e1, e2, ni_mul, ni_add]
            refine jn_itq ⟨fun q => ?_, fun q => ?_⟩ (fun hkn => ?_) (fun hkn => ?_)
            · rw [ni_inj (by omega) (by omega) q]
            · have := ni_inj (by omega) (by omega) q
              have : k = n := by omega
              rw [this]
            · have : k = n := ni_inj (by omega) (by omega) hkn
              subst this
              exact ⟨_, _, rfl, rfl, _, _, _, rfl, rfl⟩
            · have hkn : ¬ k = n := fun q => hkn (by rw [q])
              have ht : (xF (xS τ 5 0) fd').1.2 4 = (sS (sS σ 28 0) 20 fm').2 20 := h.a4
              obtain ⟨v1, p1, q1⟩ := numberAt_j (F := F) hF ht (j := 3 * k) (by omega)
              obtain ⟨v2, p2, q2⟩ := numberAt_j (F := F) hF ht (j := 3 * k + 1) (by omega)
              obtain ⟨v3, p3, q3⟩ := numberAt_j (F := F) hF ht (j := 3 * k + 2) (by omega)
              simp only [p1, p2, p3, q1, q2, q3, ob_s, tk_00]
              refine jn_ite (fun d1 => ?_) (fun d1 => ⟨_, _, rfl, rfl, _, _, _, rfl, rfl⟩)
              refine jn_ite (fun d2 => ?_) (fun d2 => ⟨_, _, rfl, rfl, _, _, _, rfl, rfl⟩)
              refine jn_ite (fun d3 => by have hh := hnext (k + 1) fd' fm' (by omega); rw [← nI_succ] at hh; exact hh) (fun d3 => ⟨_, _, rfl, rfl, _, _, _, rfl, rfl⟩))
        exact inner F _ _ ⟨k, 0, fd, fm, hk, by omega, rfl, rfl⟩ (by show 8 - cN 0 < F; omega))
    have hxF : xS τ 5 0 = xF (xS τ 5 0) τ.2.2.1 := rfl
    have hsS : sS σ 28 0 = sS (sS σ 28 0) 20 (σ.1 20) := by
      apply Prod.ext
      · funext q
        simp only [sS_at]
        by_cases hq : q = 20 <;> simp [hq]
      · rfl
    obtain ⟨v, w, h1, h2, u, fd, fm, rfl, rfl⟩ := outer F (0, 0, xS τ 5 0) (0, 0, sS σ 28 0) ⟨0, 0, τ.2.2.1, σ.1 20, by omega, by omega, by rw [← hxF]; rfl, by rw [← hsS]; rfl⟩ (by show W - cN 0 < F; omega)
    exact Op.mk h1 h2 (hR1.xF fd fm) (Nat.le_succ _) (by decide) (by decide)
  · rw [if_neg c2, if_neg c2]
    exact Op.same h rfl rfl
end GROUND3
