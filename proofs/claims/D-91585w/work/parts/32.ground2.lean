theorem lp_to {α ρ : Type} {B : (α → Option ρ) → α → Option ρ} (Inv : α → Prop) (meas : α → Nat) (P : Option ρ → Prop)
    (step : ∀ (R : α → Option ρ) (a : α), Inv a → (∀ a', Inv a' → meas a' < meas a → P (R a')) → P (B R a)) :
    ∀ (k : Nat) (a : α), Inv a → meas a < k → P (lp B k a) := by
  intro k
  induction k with
  | zero => intro a _ h; omega
  | succ k ih =>
    intro a hi hk
    rw [lp_s]
    exact step _ a hi (fun a' hi' hm => ih a' hi' (by omega))
section GROUND2
variable {F : Nat} {τ : XS} {σ : MS}
/-- the next dig behind (lw, la) -/
def bst (rel : Nat → Prop) (f : Nat → Int) (lw la : Int) (b : Int32) (n : Nat) : Prop :=
  (b = -1 ∧ ∀ j, j < n → rel j → ¬ (lw < f j ∨ (f j = lw ∧ la < j))) ∨ ∃ j, j < n ∧ b = nI j ∧ rel j ∧ (lw < f j ∨ (f j = lw ∧ la < j)) ∧ ∀ q, q < n → rel q → (lw < f q ∨ (f q = lw ∧ la < q)) → f j < f q ∨ (f j = f q ∧ j ≤ q)
theorem ground_in (hF : 200 ≤ F) {N : Nat} (hN : σ.1 4 = nI N) (hNb : N ≤ 100) (hw : ¬ σ.1 0 = 0) (K : Int32 × Int32 × MS → Option (Int32 × MS)) (c l week t x5 lw la : Int32) : ∃ b, lp (m_groundOf_B28 F K c l week t x5 lw la) F (-1, 0, σ) = K (b, nI N, σ) ∧ bst (relP σ c l week t) (fun i => (σ.2 11 i).toInt) lw.toInt la.toInt b N := by
  refine lp_to (fun a => ∃ (i : Nat) (b : Int32), i ≤ N ∧ a = (b, nI i, σ) ∧ bst (relP σ c l week t) (fun i => (σ.2 11 i).toInt) lw.toInt la.toInt b i) (fun a => N - cN a.2.1) (fun o => ∃ b, o = K (b, nI N, σ) ∧ bst (relP σ c l week t) (fun i => (σ.2 11 i).toInt) lw.toInt la.toInt b N) ?_ F _ ⟨0, -1, Nat.zero_le _, rfl, Or.inl ⟨rfl, fun j hj => by omega⟩⟩ (by show N - cN 0 < F; omega)
  intro RX a hi ih
  obtain ⟨i, b, hiN, rfl, hb⟩ := hi
  unfold m_groundOf_B28
  simp only [hN]
  simp only [Int32.le_iff_toInt_le, Int32.lt_iff_toInt_lt, ni_i (show i < 2147483648 by omega), ni_i (show N < 2147483648 by omega)]
  by_cases hend : i = N
  · subst hend
    rw [if_pos (by omega)]
    exact ⟨b, rfl, hb⟩
  rw [if_neg (by omega)]
  have hnext : ∀ b', bst (relP σ c l week t) (fun i => (σ.2 11 i).toInt) lw.toInt la.toInt b' (i + 1) → ∃ b, RX (b', nI i + 1, σ) = K (b, nI N, σ) ∧ bst (relP σ c l week t) (fun i => (σ.2 11 i).toInt) lw.toInt la.toInt b N := by
    intro b' hb'
    refine ih _ ⟨i + 1, b', by omega, by rw [nI_succ], hb'⟩ ?_
    show N - cN (nI i + 1) < N - cN (nI i)
    rw [← nI_succ, cN_nI (by omega), cN_nI (by omega)]
    omega
  have hskip : ¬ (relP σ c l week t i ∧ (lw.toInt < (σ.2 11 i).toInt ∨ ((σ.2 11 i).toInt = lw.toInt ∧ la.toInt < (i : Int)))) → bst (relP σ c l week t) (fun i => (σ.2 11 i).toInt) lw.toInt la.toInt b (i + 1) := by
    intro hno
    rcases hb with ⟨h1, h2⟩ | ⟨j, h1, h2, h3, h4, h5⟩
    · refine Or.inl ⟨h1, fun j hj hr hc => ?_⟩
      by_cases hji : j = i
      · subst hji; exact hno ⟨hr, hc⟩
      · exact h2 j (by omega) hr hc
    · refine Or.inr ⟨j, by omega, h2, h3, h4, fun q hq hr hc => ?_⟩
      by_cases hqi : q = i
      · subst hqi; exact absurd ⟨hr, hc⟩ hno
      · exact h5 q (by omega) hr hc
  have dI := fun w c A B => Classical.propDecidable (inS w c A B)
  have dK := fun a b c => Classical.propDecidable (knw a b c)
  simp only [m_isKnown_e (d := dK) (show i < 100 by omega), m_has_e (d := dI) hw (show i < 100 by omega), ob_s, bI_0, ite_not, okI_nI (show i < 100 by omega) (show 100 < 2147483648 by omega), if_true, ni_c (show i < 2147483648 by omega)]
  by_cases c1 : knw (σ.2 13 i) (σ.2 14 i) t
  · rw [if_pos c1]
    by_cases c2 : inS (σ.1 0) c (σ.2 7 i) (σ.2 8 i) ∧ (σ.2 9 i).toInt ≤ l.toInt ∧ l.toInt ≤ (σ.2 10 i).toInt
    · rw [if_pos c2]
      by_cases c3 : (σ.2 11 i).toInt ≤ week.toInt
      · rw [if_pos c3]
        have hrel : relP σ c l week t i := ⟨⟨c3, c1⟩, c2⟩
        have hyes : (lw.toInt < (σ.2 11 i).toInt ∨ ((σ.2 11 i).toInt = lw.toInt ∧ la.toInt < (i : Int))) → ∃ b', m_groundOf_109 F K RX c l week t x5 lw la b (nI i) 1 σ = K (b', nI N, σ) ∧ bst (relP σ c l week t) (fun i => (σ.2 11 i).toInt) lw.toInt la.toInt b' N := by
          intro hc
          unfold m_groundOf_109
          rw [if_neg (by decide)]
          rcases hb with ⟨h1, h2⟩ | ⟨j, h1, h2, h3, h4, h5⟩
          · rw [if_pos h1]
            refine hnext _ (Or.inr ⟨i, by omega, rfl, hrel, hc, fun q hq hr hc' => ?_⟩)
            by_cases hqi : q = i
            · subst hqi; exact Or.inr ⟨rfl, Nat.le_refl _⟩
            · exact absurd hc' (h2 q (by omega) hr)
          · have hbn : ¬ b = -1 := by
              rw [h2, i_eq, ni_i (by omega), li_m1]
              omega
            rw [if_neg hbn, h2]
            simp only [okI_nI (show i < 100 by omega) (show 100 < 2147483648 by omega), okI_nI (show j < 100 by omega) (show 100 < 2147483648 by omega), if_true, ni_c (show i < 2147483648 by omega), ni_c (show j < 2147483648 by omega), Int32.le_iff_toInt_le]
            by_cases c4 : (σ.2 11 j).toInt ≤ (σ.2 11 i).toInt
            · rw [if_pos c4]
              refine hnext _ (Or.inr ⟨j, by omega, rfl, h3, h4, fun q hq hr hc' => ?_⟩)
              by_cases hqi : q = i
              · subst hqi
                by_cases e : (σ.2 11 j).toInt = (σ.2 11 q).toInt
                · exact Or.inr ⟨e, by omega⟩
                · exact Or.inl (show (σ.2 11 j).toInt < (σ.2 11 q).toInt by omega)
              · exact h5 q (by omega) hr hc'
            · rw [if_neg c4]
              refine hnext _ (Or.inr ⟨i, by omega, rfl, hrel, hc, fun q hq hr hc' => ?_⟩)
              by_cases hqi : q = i
              · subst hqi; exact Or.inr ⟨rfl, Nat.le_refl _⟩
              · have h6 : (σ.2 11 j).toInt < (σ.2 11 q).toInt ∨ ((σ.2 11 j).toInt = (σ.2 11 q).toInt ∧ j ≤ q) := h5 q (by omega) hr hc'
                exact Or.inl (show (σ.2 11 i).toInt < (σ.2 11 q).toInt by omega)
        have hno : ¬ (lw.toInt < (σ.2 11 i).toInt ∨ ((σ.2 11 i).toInt = lw.toInt ∧ la.toInt < (i : Int))) → ∃ b', m_groundOf_109 F K RX c l week t x5 lw la b (nI i) 0 σ = K (b', nI N, σ) ∧ bst (relP σ c l week t) (fun i => (σ.2 11 i).toInt) lw.toInt la.toInt b' N := by
          intro hc
          unfold m_groundOf_109
          rw [if_pos rfl]
          exact hnext _ (hskip (fun q => hc q.2))
        by_cases c5 : lw.toInt < (σ.2 11 i).toInt
        · rw [if_pos c5]
          exact hyes (Or.inl c5)
        · rw [if_neg c5]
          by_cases c6 : σ.2 11 i = lw
          · rw [if_pos c6]
            by_cases c7 : (i : Int) ≤ la.toInt
            · rw [if_pos c7]
              exact hno (by omega)
            · rw [if_neg c7]
              exact hyes (Or.inr ⟨by rw [c6], by omega⟩)
          · rw [if_neg c6]
            rw [i_eq] at c6
            exact hno (by omega)
      · rw [if_neg c3]
        exact hnext _ (hskip (fun q => c3 q.1.1.1))
    · rw [if_neg c2]
      exact hnext _ (hskip (fun q => c2 q.1.2))
  · rw [if_neg c1]
    exact hnext _ (hskip (fun q => c1 q.1.1.2))
/-- the reference's ground is the fold over the ordered digs -/
theorem ground_m (hF : 200 ≤ F) {N : Nat} (hN : σ.1 4 = nI N) (hNb : N ≤ 100) (hw : ¬ σ.1 0 = 0) (c l week t : Int32) {π : Nat → Nat} (hπ : ∀ k, k < N → π k < N) (hon : ∀ i, i < N → ∃ k, k < N ∧ π k = i) (hso : ∀ k l, k < l → l < N → (σ.2 11 (π k)).toInt < (σ.2 11 (π l)).toInt ∨ ((σ.2 11 (π k)).toInt = (σ.2 11 (π l)).toInt ∧ π k < π l)) (hkd : ∀ i, i < N → σ.2 6 i = 0 ∨ σ.2 6 i = 1 ∨ σ.2 6 i = 2) (hfr : ∀ i, i < N → 0 ≤ (σ.2 11 i).toInt) :
    m_groundOf F c l week t σ = some ((GG (relP σ c l week t) (σ.2 6) π N).1, sS σ 20 (GG (relP σ c l week t) (σ.2 6) π N).2) := by
  have outer : ∀ (fuel k : Nat) (lw la : Int32), k ≤ N → (∀ q, q < k → relP σ c l week t (π q) → (σ.2 11 (π q)).toInt < lw.toInt ∨ ((σ.2 11 (π q)).toInt = lw.toInt ∧ (π q : Int) ≤ la.toInt)) → (∀ q, k ≤ q → q < N → relP σ c l week t (π q) → lw.toInt < (σ.2 11 (π q)).toInt ∨ ((σ.2 11 (π q)).toInt = lw.toInt ∧ la.toInt < (π q : Int))) → N - k + 1 < fuel →
      lp (m_groundOf_B17 F c l week t) fuel ((GG (relP σ c l week t) (σ.2 6) π k).1, lw, la, 1, sS σ 20 (GG (relP σ c l week t) (σ.2 6) π k).2) = some ((GG (relP σ c l week t) (σ.2 6) π N).1, sS σ 20 (GG (relP σ c l week t) (σ.2 6) π N).2) := by
    intro fuel
    induction fuel with
    | zero => intro k lw la _ _ _ h; omega
    | succ fuel ih =>
      intro k lw la hk hlo hhi hfu
      rw [lp_s]
      unfold m_groundOf_B17
      rw [if_neg (show ¬ (1 : Int32) = 0 by decide)]
      obtain ⟨b, h1, h2⟩ := ground_in (σ := sS σ 20 (GG (relP σ c l week t) (σ.2 6) π k).2) hF (show (sS σ 20 _).1 4 = nI N from hN) hNb hw (fun a1 => if a1.1 = (-1) then (m_groundOf_160 F (lp (m_groundOf_B17 F c l week t) fuel) c l week t (GG (relP σ c l week t) (σ.2 6) π k).1 lw la a1.1 0 a1.2.2) else (m_groundOf_160 F (lp (m_groundOf_B17 F c l week t) fuel) c l week t (GG (relP σ c l week t) (σ.2 6) π k).1 lw la a1.1 1 a1.2.2)) c l week t (GG (relP σ c l week t) (σ.2 6) π k).1 lw la
      refine Eq.trans h1 ?_
      have h2 : bst (relP σ c l week t) (fun i => (σ.2 11 i).toInt) lw.toInt la.toInt b N := h2
      obtain ⟨g1, g2⟩ := GG_inv (rel := relP σ c l week t) hNb hπ hkd k hk
      rcases h2 with ⟨rfl, h3⟩ | ⟨j, hj, rfl, hr, hc, hmin⟩
      · rw [if_pos rfl]
        unfold m_groundOf_160
        rw [if_pos rfl]
        have hsk : GG (relP σ c l week t) (σ.2 6) π N = GG (relP σ c l week t) (σ.2 6) π k := by
          refine GG_skip hk (fun q hq1 hq2 hr => ?_)
          exact h3 (π q) (hπ q hq2) hr (hhi q hq1 hq2 hr)
        obtain ⟨fu, rfl⟩ : ∃ fu, fuel = fu + 1 := ⟨fuel - 1, by omega⟩
        rw [lp_s]
        unfold m_groundOf_B17
        rw [if_pos rfl, hsk]
      · have hc : lw.toInt < (σ.2 11 j).toInt ∨ ((σ.2 11 j).toInt = lw.toInt ∧ la.toInt < (j : Int)) := hc
        have hbn : ¬ nI j = -1 := by
          rw [i_eq, ni_i (by omega), li_m1]
          omega
        rw [if_neg hbn]
        obtain ⟨p, hp, hpj⟩ := hon j hj
        have hkp : k ≤ p := by
          refine Nat.le_of_not_lt (fun hlt => ?_)
          have := hlo p hlt (by rw [hpj]; exact hr)
          rw [hpj] at this
          omega
        have hsk : GG (relP σ c l week t) (σ.2 6) π p = GG (relP σ c l week t) (σ.2 6) π k := by
          refine GG_skip hkp (fun q hq1 hq2 hr' => ?_)
          have h5 := hmin (π q) (hπ q (by omega)) hr' (hhi q hq1 (by omega) hr')
          have h6 := hso q p hq2 hp
          rw [hpj] at h6
          simp only at h5
          omega
        have hGp : GG (relP σ c l week t) (σ.2 6) π (p + 1) = gF1 (σ.2 6 j) j (GG (relP σ c l week t) (σ.2 6) π k) := by
          rw [GG_t (by rw [hpj]; exact hr), hsk, hpj]
        have key : ∀ σ' : MS, σ' = sS σ 20 (GG (relP σ c l week t) (σ.2 6) π (p + 1)).2 → m_groundOf_209 F (lp (m_groundOf_B17 F c l week t) fuel) c l week t (GG (relP σ c l week t) (σ.2 6) π k).1 (σ.2 11 j) (nI j) 1 (σ.2 6 j) σ' = some ((GG (relP σ c l week t) (σ.2 6) π N).1, sS σ 20 (GG (relP σ c l week t) (σ.2 6) π N).2) := by
          intro σ' hσ'
          have ih' := ih (p + 1) (σ.2 11 j) (nI j) (by omega) (fun q hq hr' => by
            rw [ni_i (by omega)]
            by_cases hqp : q = p
            · subst hqp; rw [hpj]; exact Or.inr ⟨rfl, by omega⟩
            · have h6 := hso q p (by omega) hp
              rw [hpj] at h6
              omega) (fun q hq1 hq2 hr' => by
            rw [ni_i (by omega)]
            have h6 := hso p q (by omega) hq2
            rw [hpj] at h6
            omega) (by omega)
          rw [← hσ'] at ih'
          have hg : (GG (relP σ c l week t) (σ.2 6) π (p + 1)).1 = gSt (σ.2 6 j) (GG (relP σ c l week t) (σ.2 6) π k).1 := by rw [hGp]; rfl
          rw [hg] at ih'
          unfold m_groundOf_209
          unfold gSt at ih'
          rcases hkd j hj with e | e | e <;> rw [e] at ih' ⊢
          · simpa using ih'
          · by_cases hz : (GG (relP σ c l week t) (σ.2 6) π k).1 = 0
            · simpa [hz] using ih'
            · simpa [hz] using ih'
          · rcases g1 with z | z | z | z <;> simpa [z] using ih'
        unfold m_groundOf_160
        rw [if_neg (by decide)]
        simp only [okI_nI (show j < 100 by omega) (show 100 < 2147483648 by omega), if_true, ni_c (show j < 2147483648 by omega), nx_e, sS_2]
        by_cases hz : (GG (relP σ c l week t) (σ.2 6) π k).1 = 0
        · rw [if_pos hz]
          by_cases h2k : σ.2 6 j = 2
          · rw [if_pos h2k]
            refine key _ ?_
            rw [hGp]
            simp [gF1, h2k]
          · rw [if_neg h2k]
            refine key _ ?_
            rw [hGp]
            have e : (gF1 (σ.2 6 j) j (GG (relP σ c l week t) (σ.2 6) π k)).2 = nI j := by simp [gF1, hz, h2k]
            rw [e]
            apply Prod.ext
            · funext q
              simp only [sS_at]
              by_cases hq : q = 20 <;> simp [hq]
            · rfl
        · rw [if_neg hz]
          refine key _ ?_
          rw [hGp]
          simp [gF1, hz]
  unfold m_groundOf
  rw [nx_e]
  refine outer F 0 (-1) (-1) (Nat.zero_le _) (fun q hq => by omega) (fun q _ hq hr => ?_) (by omega)
  have := hfr (π q) (hπ q hq)
  rw [li_m1]
  omega
end GROUND2
