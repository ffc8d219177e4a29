section MAY2
variable {F : Nat} {τ : XS} {σ : MS}
theorem meets_m (hF : 1000 ≤ F) (h : R τ σ) {ND NP i p : Nat} (hND : σ.1 4 = nI ND) (hNDb : ND ≤ 100) (hi : i < ND) (hNP : σ.1 3 = nI NP) (hNPb : NP ≤ 30) (hp : p < NP) {σ' : MS} (kh : Kh σ σ') : m_meets F (nI i) (nI p) σ' = some (cI (mee (σ.1 0) (σ.2 7 i) (σ.2 8 i) (σ.2 3 p) (σ.2 4 p)), σ') := by
  obtain ⟨s1, s2, s3, s4, -⟩ := h.sc
  have hw : 0 < (σ.1 0).toInt := by omega
  have hwn := w_ne h
  obtain ⟨w1, w2, w3⟩ := wh_b h
  obtain ⟨W, Wb, hW, Wi⟩ := nn_of (x := σ.1 0 * σ.1 1) (by omega)
  obtain ⟨-, hd, -⟩ := h.dg
  rw [hND, cN_nI (by omega)] at hd
  obtain ⟨ad, -, -, hok, -⟩ := hd i hi
  obtain ⟨-, hpl, hpat⟩ := h.pl
  rw [hNP, cN_nI (by omega)] at hpl hpat
  obtain ⟨-, hpr⟩ := hpl p hp
  have hmc := mee_cell hw hok hpr
  have e0 : σ'.1 0 * σ'.1 1 = nI W := by rw [kh.1 0 (by decide), kh.1 1 (by decide)]; exact hW
  have e0' : σ'.1 0 = σ.1 0 := kh.1 0 (by decide)
  have e1 := kh.2 1 (by decide) (by decide) (by decide)
  have e7 := kh.2 7 (by decide) (by decide) (by decide)
  have e8 := kh.2 8 (by decide) (by decide) (by decide)
  have dI := fun w c A B => Classical.propDecidable (inS w c A B)
  unfold m_meets
  refine lp_to (fun b => ∃ k : Nat, k ≤ W ∧ b = (nI k, σ') ∧ ∀ c, c < k → ¬ (inR (σ.1 0) (c : Int) (σ.2 7 i) (σ.2 8 i) ∧ inR (σ.1 0) (c : Int) (σ.2 3 p) (σ.2 4 p))) (fun b => W - cN b.1) (fun o => o = some (cI (mee (σ.1 0) (σ.2 7 i) (σ.2 8 i) (σ.2 3 p) (σ.2 4 p)), σ')) ?_ F _ ⟨0, by omega, rfl, fun c hc => by omega⟩ (by show W - cN 0 < F; omega)
  intro RX b hi' ih
  obtain ⟨k, hk, rfl, hno⟩ := hi'
  unfold m_meets_B2
  simp only [e0, Int32.le_iff_toInt_le, ni_i (show k < 2147483648 by omega), ni_i Wb]
  by_cases hend : k = W
  · subst hend
    rw [if_pos (by omega), cI_f (fun q => by
      obtain ⟨c, q1, q2, q3⟩ := hmc.mp q
      exact hno c (by omega) ⟨q2, q3⟩)]
  rw [if_neg (by omega)]
  have hgo : ¬ (inR (σ.1 0) (k : Int) (σ.2 7 i) (σ.2 8 i) ∧ inR (σ.1 0) (k : Int) (σ.2 3 p) (σ.2 4 p)) → RX (nI k + 1, σ') = some (cI (mee (σ.1 0) (σ.2 7 i) (σ.2 8 i) (σ.2 3 p) (σ.2 4 p)), σ') := by
    intro hne
    refine ih _ ⟨k + 1, by omega, by rw [nI_succ], fun c hc => ?_⟩ ?_
    · by_cases hck : c = k
      · rw [hck]; exact hne
      · exact hno c (by omega)
    · show W - cN (nI k + 1) < W - cN (nI k)
      rw [← nI_succ, cN_nI (by omega), cN_nI (by omega)]
      omega
  obtain ⟨-, hpk⟩ := hpat k (by omega)
  have hin := inS_inR (w := σ.1 0) (c := nI k) (A := σ.2 7 i) (B := σ.2 8 i) hw (by rw [ni_i (by omega)]; omega) hok.1 hok.2.2.1
  rw [ni_i (show k < 2147483648 by omega)] at hin
  simp only [okI_nI (show k < 100 by omega) (show 100 < 2147483648 by omega), okI_nI (show i < 100 by omega) (show 100 < 2147483648 by omega), if_true, ni_c (show k < 2147483648 by omega), ni_c (show i < 2147483648 by omega), e1, e7, e8, m_isIn_e (d := dI) (show ¬ σ'.1 0 = 0 by rw [e0']; exact hwn), ob_s, e0']
  by_cases c1 : σ.2 1 k = nI p
  · rw [if_pos c1]
    by_cases c2 : inS (σ.1 0) (nI k) (σ.2 7 i) (σ.2 8 i)
    · rw [if_neg (by rw [bI_t c2]; decide), cI_t (hmc.mpr ⟨k, by omega, hin.mp c2, (hpk p hp).mp c1⟩)]
    · rw [if_pos (bI_f c2)]
      exact hgo (fun q => c2 (hin.mpr q.1))
  · rw [if_neg c1]
    exact hgo (fun q => c1 ((hpk p hp).mpr q.2))
theorem open_m (hF : 1000 ≤ F) (h : R τ σ) {ND NP f p : Nat} (hND : σ.1 4 = nI ND) (hNDb : ND ≤ 100) (hf : f < 150) (hNP : σ.1 3 = nI NP) (hNPb : NP ≤ 30) (hp : p < NP) (wk t : Int32) {σ' : MS} (kh : Kh σ σ') : m_isDug F (nI f) (nI p) wk t σ' = some (cI (opP σ ND f p wk t), σ') := by
  have e4 : σ'.1 4 = nI ND := by rw [kh.1 4 (by decide)]; exact hND
  have dK := fun a b c => Classical.propDecidable (knw a b c)
  have ej : ∀ j, ¬ j = 37 → ¬ j = 38 → ¬ j = 39 → σ'.2 j = σ.2 j := kh.2
  unfold m_isDug
  refine lp_to (fun b => ∃ k : Nat, k ≤ ND ∧ b = (nI k, σ') ∧ ¬ opP σ k f p wk t) (fun b => ND - cN b.1) (fun o => o = some (cI (opP σ ND f p wk t), σ')) ?_ F _ ⟨0, by omega, rfl, fun ⟨i, hi, _⟩ => by omega⟩ (by show ND - cN 0 < F; omega)
  intro RX b hi ih
  obtain ⟨k, hk, rfl, hno⟩ := hi
  unfold m_isDug_B3
  simp only [e4, Int32.le_iff_toInt_le, ni_i (show k < 2147483648 by omega), ni_i (show ND < 2147483648 by omega)]
  by_cases hend : k = ND
  · subst hend
    rw [if_pos (by omega), cI_f hno]
  rw [if_neg (by omega)]
  have hgo : ¬ (¬ σ.2 6 k = 2 ∧ σ.2 5 k = σ.2 40 f ∧ ((σ.2 11 k).toInt ≤ wk.toInt ∧ wk.toInt ≤ (σ.2 12 k).toInt) ∧ knw (σ.2 13 k) (σ.2 14 k) t ∧ ¬ (σ.2 45 f).toInt < (σ.2 9 k).toInt ∧ ¬ (σ.2 10 k).toInt < (σ.2 44 f).toInt ∧ mee (σ.1 0) (σ.2 7 k) (σ.2 8 k) (σ.2 3 p) (σ.2 4 p)) → RX (nI k + 1, σ') = some (cI (opP σ ND f p wk t), σ') := by
    intro hne
    refine ih _ ⟨k + 1, by omega, by rw [nI_succ], opP_s hno hne⟩ ?_
    show ND - cN (nI k + 1) < ND - cN (nI k)
    rw [← nI_succ, cN_nI (by omega), cN_nI (by omega)]
    omega
  simp only [m_isKnown_e (d := dK) (show k < 100 by omega), ob_s, okI_nI (show k < 100 by omega) (show 100 < 2147483648 by omega), okI_nI hf (show 150 < 2147483648 by omega), if_true, ni_c (show k < 2147483648 by omega), ni_c (show f < 2147483648 by omega), meets_m hF h hND hNDb (show k < ND by omega) hNP hNPb hp kh, ej 5 (by decide) (by decide) (by decide), ej 6 (by decide) (by decide) (by decide), ej 9 (by decide) (by decide) (by decide), ej 10 (by decide) (by decide) (by decide), ej 11 (by decide) (by decide) (by decide), ej 12 (by decide) (by decide) (by decide), ej 13 (by decide) (by decide) (by decide), ej 14 (by decide) (by decide) (by decide), ej 40 (by decide) (by decide) (by decide), ej 44 (by decide) (by decide) (by decide), ej 45 (by decide) (by decide) (by decide), m_in_e, Int32.lt_iff_toInt_lt]
  by_cases c4 : knw (σ.2 13 k) (σ.2 14 k) t
  · rw [if_neg (by rw [bI_t c4]; decide)]
    by_cases c1 : σ.2 6 k = 2
    · rw [if_pos c1]
      exact hgo (fun q => q.1 c1)
    rw [if_neg c1]
    by_cases c2 : σ.2 5 k = σ.2 40 f
    · rw [if_pos c2]
      by_cases c3 : (σ.2 11 k).toInt ≤ wk.toInt ∧ wk.toInt ≤ (σ.2 12 k).toInt
      · rw [if_neg (by rw [bI_t c3]; decide)]
        by_cases c5 : (σ.2 45 f).toInt < (σ.2 9 k).toInt
        · rw [if_pos c5]
          exact hgo (fun q => q.2.2.2.2.1 c5)
        rw [if_neg c5]
        by_cases c6 : (σ.2 10 k).toInt < (σ.2 44 f).toInt
        · rw [if_pos c6]
          exact hgo (fun q => q.2.2.2.2.2.1 c6)
        rw [if_neg c6]
        by_cases c7 : mee (σ.1 0) (σ.2 7 k) (σ.2 8 k) (σ.2 3 p) (σ.2 4 p)
        · rw [if_neg (by rw [cI_t c7]; decide), cI_t (show opP σ ND f p wk t from ⟨k, by omega, c1, c2, c3, c4, c5, c6, c7⟩)]
        · rw [if_pos (cI_f c7)]
          exact hgo (fun q => c7 q.2.2.2.2.2.2)
      · rw [if_pos (bI_f c3)]
        exact hgo (fun q => c3 q.2.2.1)
    · rw [if_neg c2]
      exact hgo (fun q => c2 q.2.1)
  · rw [if_pos (bI_f c4)]
    exact hgo (fun q => c4 q.2.2.2.1)
/-- what a find's number may mean -/
def meP (σ : MS) (S : Int32) (M : Nat → Int32) (f p : Nat) : Prop := σ.2 43 f = 0 ∨ ∃ k, k < 4 ∧ bq S k = true ∧ M k = nI p
theorem meant_w (hF : 1000 ≤ F) (h : R τ σ) {NF NP f p : Nat} (hNF : σ.1 57 = nI NF) (hNFb : NF ≤ 150) (hf : f < NF) (hNP : σ.1 3 = nI NP) (hNPb : NP ≤ 30) (hp : p < NP) {af ap : Nat} (haf : τ.2.1 7 f = some af) (hap : τ.2.1 0 p = some ap) (wk hd : Int32) : ∃ Q : Prop,
    (∀ τ', Kx τ τ' → ∃ τ2 c s, x0_isMeant F af ap wk hd τ' = some (cI Q, τ2, c, s) ∧ Kx τ' τ2 ∧ c ≤ 1 ∧ s ≤ 6) ∧ ∀ σ', Kh σ σ' → (σ'.1 58 = hd ∧ ¬ hd = -1 ∨ σ'.1 58 = -1 ∧ hd = σ.2 40 f) → ∃ σ2, m_isMeant F (nI f) (nI p) wk σ' = some (cI Q, σ2) ∧ Km σ' σ2 := by
  obtain ⟨S, hS1, hS2⟩ := numS_w hF h.h wk hd (σ.2 46 f) (σ.2 47 f) (σ.2 2 p)
  obtain ⟨M, hM⟩ := Classical.axiomOfChoice (fun k : Nat => meaning_v (F := F) (by omega) h (nI k) (σ.2 43 f) wk)
  obtain ⟨a, ha, hr, -⟩ := finds_r h hNF hNFb hf
  rw [haf] at ha
  cases ha
  obtain ⟨a2, ha2, hr2⟩ := place_r h hNP hNPb hp
  rw [hap] at ha2
  cases ha2
  refine ⟨meP σ S M f p, fun τ' kx => ?_, fun σ' kh hh => ?_⟩
  · obtain ⟨f0, f1, f2, f3, f4, f5, f6, f7, f8⟩ := hr τ' kx.2.2.1
    unfold x0_isMeant
    rw [f3, ob_s]
    by_cases c1 : σ.2 43 f = 0
    · rw [if_pos c1, cI_t (show meP σ S M f p from Or.inl c1)]
      exact ⟨τ', 0, 0, rfl, ⟨rfl, rfl, PM.rf _, kx.2.2.2⟩, by omega, by omega⟩
    rw [if_neg c1]
    have kn := kx.new (.inr (19, fun q => defaultValue (tyX19 q)))
    obtain ⟨-, -, -, -, -, -, g6, g7, -⟩ := hr _ kn.2.2.1
    obtain ⟨-, p1⟩ := hr2 _ kn.2.2.1
    obtain ⟨τ2, e1, k2⟩ := hS1 τ' kx
    have kx2 := kx.tr k2
    simp only [nx_e, g6, g7, p1, ob_s, ask_x, tk_00, e1]
    refine ⟨τ2, 1, 6, ?_, k2, by omega, by omega⟩
    have hl : lp (x0_isMeant_B40 F af ap wk S) F (0, τ2) = some (cI (meP σ S M f p), τ2, 0, 0) := by
      refine lp_to (fun b => ∃ k : Nat, k ≤ 4 ∧ b = (nI k, τ2) ∧ ∀ j, j < k → ¬ (bq S j = true ∧ M j = nI p)) (fun b => 4 - cN b.1) (fun o => o = some (cI (meP σ S M f p), τ2, 0, 0)) ?_ F _ ⟨0, by omega, rfl, fun j hj => by omega⟩ (by show 4 - cN 0 < F; omega)
      intro RX b hi ih
      obtain ⟨k, hk, rfl, hno⟩ := hi
      unfold x0_isMeant_B40
      simp only [Int32.le_iff_toInt_le, li_4, ni_i (show k < 2147483648 by omega)]
      by_cases hend : k = 4
      · subst hend
        rw [if_pos (by omega), cI_f (fun q => by
          rcases q with q | ⟨j, q1, q2, q3⟩
          · exact c1 q
          · exact hno j q1 ⟨q2, q3⟩)]
      rw [if_neg (by omega)]
      have hgo : ¬ (bq S k = true ∧ M k = nI p) → RX (nI k + 1, τ2) = some (cI (meP σ S M f p), τ2, 0, 0) := by
        intro hne
        refine ih _ ⟨k + 1, by omega, by rw [nI_succ], fun j hj => ?_⟩ ?_
        · by_cases hjk : j = k
          · rw [hjk]; exact hne
          · exact hno j (by omega)
        · show 4 - cN (nI k + 1) < 4 - cN (nI k)
          rw [← nI_succ, cN_nI (by omega), cN_nI (by omega)]
          omega
      obtain ⟨-, -, -, t3, -⟩ := hr τ2 kx2.2.2.1
      obtain ⟨t0, -⟩ := hr2 τ2 kx2.2.2.1
      rw [bq_t S (show k < 31 by omega)]
      simp only [t3, ob_s, (hM k).1 τ2 kx2, tk_00, t0]
      by_cases c2 : bq S k = true
      · rw [if_pos c2, if_pos (rfl : (1 : Int32) = 1)]
        by_cases c3 : M k = nI p
        · rw [if_pos c3, cI_t (show meP σ S M f p from Or.inr ⟨k, by omega, c2, c3⟩)]
        · rw [if_neg c3]
          exact hgo (fun q => c3 q.2)
      · rw [if_neg c2, if_neg (show ¬ (0 : Int32) = 1 by decide)]
        exact hgo (fun q => c2 q.1)
    rw [hl]
    rfl
  · have ej : ∀ j, ¬ j = 37 → ¬ j = 38 → ¬ j = 39 → σ'.2 j = σ.2 j := kh.2
    have h34 : ¬ σ.2 43 f = 0 → ∃ σ2, m_isMeant_34 F (nI f) (nI p) wk hd wk σ' = some (cI (meP σ S M f p), σ2) ∧ Km σ' σ2 := by
      intro c1
      obtain ⟨σ2, e1, k2⟩ := hS2 σ' (h.kh kh)
      have kh2 := kh.tr k2
      unfold m_isMeant_34
      simp only [okI_nI (show f < 150 by omega) (show 150 < 2147483648 by omega), if_true, ni_c (show f < 2147483648 by omega), ej 46 (by decide) (by decide) (by decide), ej 47 (by decide) (by decide) (by decide), ask_mp _ _ _ _ (show p < 30 by omega), ej 2 (by decide) (by decide) (by decide), ob_s, e1]
      refine ⟨σ2, ?_, k2⟩
      refine lp_to (fun b => ∃ k : Nat, k ≤ 4 ∧ b = (nI k, σ2) ∧ ∀ j, j < k → ¬ (bq S j = true ∧ M j = nI p)) (fun b => 4 - cN b.1) (fun o => o = some (cI (meP σ S M f p), σ2)) ?_ F _ ⟨0, by omega, rfl, fun j hj => by omega⟩ (by show 4 - cN 0 < F; omega)
      intro RX b hi ih
      obtain ⟨k, hk, rfl, hno⟩ := hi
      unfold m_isMeant_B59
      simp only [Int32.le_iff_toInt_le, li_4, ni_i (show k < 2147483648 by omega)]
      by_cases hend : k = 4
      · subst hend
        rw [if_pos (by omega), cI_f (fun q => by
          rcases q with q | ⟨j, q1, q2, q3⟩
          · exact c1 q
          · exact hno j q1 ⟨q2, q3⟩)]
      rw [if_neg (by omega)]
      have hgo : ¬ (bq S k = true ∧ M k = nI p) → RX (nI k + 1, σ2) = some (cI (meP σ S M f p), σ2) := by
        intro hne
        refine ih _ ⟨k + 1, by omega, by rw [nI_succ], fun j hj => ?_⟩ ?_
        · by_cases hjk : j = k
          · rw [hjk]; exact hne
          · exact hno j (by omega)
        · show 4 - cN (nI k + 1) < 4 - cN (nI k)
          rw [← nI_succ, cN_nI (by omega), cN_nI (by omega)]
          omega
      rw [bq_t S (show k < 31 by omega)]
      simp only [okI_nI (show f < 150 by omega) (show 150 < 2147483648 by omega), if_true, ni_c (show f < 2147483648 by omega), kh2.2 43 (by decide) (by decide) (by decide), (hM k).2 σ2 kh2, ob_s]
      by_cases c2 : bq S k = true
      · rw [if_pos c2, if_pos (rfl : (1 : Int32) = 1)]
        by_cases c3 : M k = nI p
        · rw [if_pos c3, cI_t (show meP σ S M f p from Or.inr ⟨k, by omega, c2, c3⟩)]
        · rw [if_neg c3]
          exact hgo (fun q => c3 q.2)
      · rw [if_neg c2, if_neg (show ¬ (0 : Int32) = 1 by decide)]
        exact hgo (fun q => c2 q.1)
    unfold m_isMeant
    simp only [okI_nI (show f < 150 by omega) (show 150 < 2147483648 by omega), if_true, ni_c (show f < 2147483648 by omega), ej 43 (by decide) (by decide) (by decide), ej 40 (by decide) (by decide) (by decide)]
    by_cases c1 : σ.2 43 f = 0
    · rw [if_pos c1, cI_t (show meP σ S M f p from Or.inl c1)]
      exact ⟨σ', rfl, Km.rf⟩
    rw [if_neg c1]
    rcases hh with ⟨h1, h2⟩ | ⟨h1, h2⟩
    · rw [h1, if_neg h2]
      exact h34 c1
    · rw [if_pos h1, ← h2]
      exact h34 c1
end MAY2
