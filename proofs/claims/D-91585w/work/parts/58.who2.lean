def Kw (σ σ' : MS) : Prop := σ'.1 = σ.1 ∧ ∀ j, ¬ j = 37 → ¬ j = 38 → ¬ j = 39 → ¬ j = 82 → ¬ j = 83 → σ'.2 j = σ.2 j
section WHO2
variable {F : Nat} {τ : XS} {σ : MS}
theorem R.kw {τ' : XS} {σ' : MS} (h : R τ σ) (kx : Kx τ τ') (km : Kw σ σ') : R τ' σ' := by
  obtain ⟨k1, k2, k4, k5⟩ := kx
  obtain ⟨k6, k7⟩ := km
  have ks : RS τ' σ' := by unfold RS; rw [k1, k6]; exact h.s
  have ka : RA τ' σ' := by
    unfold RA
    rw [k1, k7 0 (by decide) (by decide) (by decide) (by decide) (by decide), k7 20 (by decide) (by decide) (by decide) (by decide) (by decide), k7 53 (by decide) (by decide) (by decide) (by decide) (by decide), k7 66 (by decide) (by decide) (by decide) (by decide) (by decide), k7 67 (by decide) (by decide) (by decide) (by decide) (by decide), k7 68 (by decide) (by decide) (by decide) (by decide) (by decide), k7 69 (by decide) (by decide) (by decide) (by decide) (by decide), k7 72 (by decide) (by decide) (by decide) (by decide) (by decide), k7 73 (by decide) (by decide) (by decide) (by decide) (by decide)]
    exact h.a
  refine h.keep ks ka (by rw [k6]; exact h.sc) k2 k4 k5 (fun k _ => by rw [k6]) (fun j hj => k7 j ?_ ?_ ?_ ?_ ?_)
  · rintro rfl; simp at hj
  · rintro rfl; simp at hj
  · rintro rfl; simp at hj
  · rintro rfl; simp at hj
  · rintro rfl; simp at hj
theorem ask_82 (i : Nat) (v a b c d e : Int32) : sA (askM σ a b c d e) 82 i v = askM (sA σ 82 i v) a b c d e := by
  unfold askM
  rw [sA_aS_ne _ _ _ _ _ _ (by decide)]
  rfl
theorem who_m49 (hF : 1000 ≤ F) (h : R τ σ) {N NP p : Nat} (hN : σ.1 100 = nI N) (hNb : N ≤ 100) (hNP : σ.1 3 = nI NP) (hNPb : NP ≤ 30) (hp : p < NP) {V : Nat → Int32} (hV : ∀ i, ∀ σ', Rh τ σ' → ∃ σ2, m_numberBy F 118 0 (askM σ' (σ.2 78 i) 0 (σ.2 76 i) 0 (σ.2 2 p)) = some (V i, σ2) ∧ Km σ' σ2) (K : Int32 × MS → Option (Int32 × MS)) (x2 : Int32) {σ0 : MS} (k0 : Kw σ σ0) (hz : ∀ d, d < 30 → σ0.2 82 d = 0 ∧ σ0.2 83 d = 0) :
    ∃ b σ2, lp (m_who_B49 F K (nI p) x2) F (0, σ0) = K (b, σ2) ∧ Kw σ σ2 ∧ ∀ d, d < 30 → σ2.2 82 d = nI (cn (sgP σ (nI p) d) N) ∧ σ2.2 83 d = sm (sgP σ (nI p) d) V N := by
  refine lp_to (fun a => ∃ (k : Nat) (σ' : MS), k ≤ N ∧ a = (nI k, σ') ∧ Kw σ σ' ∧ ∀ d, d < 30 → σ'.2 82 d = nI (cn (sgP σ (nI p) d) k) ∧ σ'.2 83 d = sm (sgP σ (nI p) d) V k) (fun a => N - cN a.1) (fun o => ∃ b σ2, o = K (b, σ2) ∧ Kw σ σ2 ∧ ∀ d, d < 30 → σ2.2 82 d = nI (cn (sgP σ (nI p) d) N) ∧ σ2.2 83 d = sm (sgP σ (nI p) d) V N) ?_ F _ ⟨0, σ0, by omega, rfl, k0, fun d hd => hz d hd⟩ (by show N - cN 0 < F; omega)
  intro RX a hi ih
  obtain ⟨k, σ', hk, rfl, kw, hG⟩ := hi
  have e100 : σ'.1 100 = nI N := by rw [kw.1]; exact hN
  have e75 := kw.2 75 (by decide) (by decide) (by decide) (by decide) (by decide)
  have e76 := kw.2 76 (by decide) (by decide) (by decide) (by decide) (by decide)
  have e77 := kw.2 77 (by decide) (by decide) (by decide) (by decide) (by decide)
  have e78 := kw.2 78 (by decide) (by decide) (by decide) (by decide) (by decide)
  have e2 := kw.2 2 (by decide) (by decide) (by decide) (by decide) (by decide)
  unfold m_who_B49
  simp only [e100, Int32.le_iff_toInt_le, ni_i (show k < 2147483648 by omega), ni_i (show N < 2147483648 by omega)]
  by_cases hend : k = N
  · subst hend
    rw [if_pos (by omega)]
    exact ⟨_, σ', rfl, kw, hG⟩
  rw [if_neg (by omega)]
  have hm : N - cN (nI k + 1) < N - cN (nI k) := by rw [← nI_succ, cN_nI (by omega), cN_nI (by omega)]; omega
  obtain ⟨a, ha, hr, hd0, hd1⟩ := signs_r h hN hNb (show k < N by omega)
  obtain ⟨d, db, hd, di⟩ := nn_of hd0
  simp only [okI_nI (show k < 100 by omega) (show 100 < 2147483648 by omega), if_true, ni_c (show k < 2147483648 by omega), e77]
  by_cases c1 : σ.2 77 k = nI p
  · rw [if_pos c1, ask_mp _ _ _ _ (show p < 30 by omega), e78, e76, e2]
    have a75 : ∀ a b c d' e, (askM σ' a b c d' e).2 75 k = nI d := fun a b c d' e => by
      show σ'.2 75 k = nI d
      rw [e75]; exact hd
    have a82 : ∀ a b c d' e, (askM σ' a b c d' e).2 82 = σ'.2 82 := fun a b c d' e => rfl
    have b75 : ∀ v a b c d' e, (askM (sA σ' 82 d v) a b c d' e).2 75 k = nI d := fun v a b c d' e => by
      show σ'.2 75 k = nI d
      rw [e75]; exact hd
    have b83 : ∀ v a b c d' e, (askM (sA σ' 82 d v) a b c d' e).2 83 = σ'.2 83 := fun v a b c d' e => rfl
    simp only [ob_s, a75, a82, okI_nI (show d < 30 by omega) (show 30 < 2147483648 by omega), if_true, ni_c db, nx_e, ask_82, b75, b83]
    have kw1 : Kw σ (sA σ' 82 d (σ'.2 82 d + 1)) := ⟨kw.1, fun j a b c x y => by
      rw [← kw.2 j a b c x y]
      exact if_neg x⟩
    obtain ⟨σ2, w1, w2⟩ := hV k (sA σ' 82 d (σ'.2 82 d + 1)) (h.kw (Kx.rf h.h) kw1).h
    rw [w1]
    simp only [ob_s]
    have kw2 : Kw σ (sA σ2 83 d (σ'.2 83 d + V k)) := ⟨w2.1.trans kw1.1, fun j a b c x y => by
      rw [← kw1.2 j a b c x y, ← w2.2 j a b c]
      exact if_neg y⟩
    refine ih _ ⟨k + 1, _, by omega, by rw [nI_succ], kw2, fun d' hd' => ?_⟩ hm
    have f82 : (sA σ2 83 d (σ'.2 83 d + V k)).2 82 = upd (σ'.2 82) d (σ'.2 82 d + 1) := by
      show σ2.2 82 = _
      rw [w2.2 82 (by decide) (by decide) (by decide)]
      rfl
    have f83 : (sA σ2 83 d (σ'.2 83 d + V k)).2 83 = upd (σ'.2 83) d (σ'.2 83 d + V k) := by
      show upd (σ2.2 83) d (σ'.2 83 d + V k) = _
      rw [w2.2 83 (by decide) (by decide) (by decide)]
      rfl
    rw [f82, f83]
    by_cases hdd : d' = d
    · subst hdd
      have hP : sgP σ (nI p) d' k := ⟨c1, hd⟩
      rw [cn_t hP, sm_t hP, ← (hG d' hd').1, ← (hG d' hd').2]
      exact ⟨if_pos rfl, if_pos rfl⟩
    · have hP : ¬ sgP σ (nI p) d' k := fun q => hdd (ni_inj (by omega) (by omega) (q.2.symm.trans hd))
      rw [cn_f hP, sm_f hP, ← (hG d' hd').1, ← (hG d' hd').2]
      exact ⟨if_neg hdd, if_neg hdd⟩
  · rw [if_neg c1]
    refine ih _ ⟨k + 1, σ', by omega, by rw [nI_succ], kw, fun d' hd' => ?_⟩ hm
    have hP : ¬ sgP σ (nI p) d' k := fun q => c1 q.1
    rw [cn_f hP, sm_f hP]
    exact hG d' hd'
def wcN (c s : Nat → Int32) (bc : Int32) : Nat → Int32
  | 0 => 0
  | k + 1 => if (c k).toInt < 2 then wcN c s bc k + 0 else if 2 * s k < bc then wcN c s bc k + 0 else wcN c s bc k + 1
theorem who_cm (hF : 1000 ≤ F) (bc : Int32) : lp (m_who_B233 F bc) F (0, 0, σ) = some (wcN (σ.2 82) (σ.2 83) bc 30, σ) := by
  refine lp_to (fun a => ∃ k : Nat, k ≤ 30 ∧ a = (wcN (σ.2 82) (σ.2 83) bc k, nI k, σ)) (fun a => 30 - cN a.2.1) (fun o => o = some (wcN (σ.2 82) (σ.2 83) bc 30, σ)) ?_ F _ ⟨0, by omega, rfl⟩ (by show 30 - cN 0 < F; omega)
  intro RX a hi ih
  obtain ⟨k, hk, rfl⟩ := hi
  unfold m_who_B233
  simp only [Int32.le_iff_toInt_le, li_30, ni_i (show k < 2147483648 by omega)]
  by_cases hend : k = 30
  · subst hend
    rw [if_pos (by omega)]
  rw [if_neg (by omega)]
  have hm : 30 - cN (nI k + 1) < 30 - cN (nI k) := by rw [← nI_succ, cN_nI (by omega), cN_nI (by omega)]; omega
  simp only [okI_nI (show k < 30 by omega) (show 30 < 2147483648 by omega), if_true, ni_c (show k < 2147483648 by omega)]
  by_cases c1 : (σ.2 82 k) < 2
  · rw [if_pos c1]
    rw [Int32.lt_iff_toInt_lt, li_2] at c1
    exact ih _ ⟨k + 1, by omega, by rw [nI_succ, wcN, if_pos c1]⟩ hm
  · rw [if_neg c1]
    rw [Int32.lt_iff_toInt_lt, li_2] at c1
    by_cases c2 : 2 * σ.2 83 k < bc
    · rw [if_pos c2]
      exact ih _ ⟨k + 1, by omega, by rw [nI_succ, wcN, if_neg c1, if_pos c2]⟩ hm
    · rw [if_neg c2]
      exact ih _ ⟨k + 1, by omega, by rw [nI_succ, wcN, if_neg c1, if_neg c2]⟩ hm
theorem who_cx (hF : 1000 ≤ F) {τ' : XS} {z1 z2 : Nat} {g1 g2 : Nat → Int32} (hg1 : τ'.2.2.2.1 z1 = some (.inl (0, 30, .inl g1))) (hg2 : τ'.2.2.2.1 z2 = some (.inl (0, 30, .inl g2))) (hg : ∀ d, d < 30 → g1 d = σ.2 82 d) (hg' : ∀ d, d < 30 → g2 d = σ.2 83 d) (K : Int32 × Int32 × XS → XR Int32) (x2 : Int32) {e : Nat} (he : e < 30) : ∃ b, lp (x0_who_B197 F K x2 z1 z2 (nI e)) F (0, 0, τ') = K (wcN (σ.2 82) (σ.2 83) (σ.2 83 e) 30, b, τ') := by
  refine lp_to (fun a => ∃ k : Nat, k ≤ 30 ∧ a = (wcN (σ.2 82) (σ.2 83) (σ.2 83 e) k, nI k, τ')) (fun a => 30 - cN a.2.1) (fun o => ∃ b, o = K (wcN (σ.2 82) (σ.2 83) (σ.2 83 e) 30, b, τ')) ?_ F _ ⟨0, by omega, rfl⟩ (by show 30 - cN 0 < F; omega)
  intro RX a hi ih
  obtain ⟨k, hk, rfl⟩ := hi
  unfold x0_who_B197
  simp only [Int32.le_iff_toInt_le, li_30, li_1, ni_i (show k < 2147483648 by omega)]
  by_cases hend : k = 30
  · subst hend
    rw [if_pos (by omega)]
    exact ⟨_, rfl⟩
  rw [if_neg (by omega)]
  have hm : 30 - cN (nI k + 1) < 30 - cN (nI k) := by rw [← nI_succ, cN_nI (by omega), cN_nI (by omega)]; omega
  simp only [gA_of hg1, gA_of hg2, ob_s, okI_nI (show k < 30 by omega) (show 30 < 2147483648 by omega), okI_nI he (show 30 < 2147483648 by omega), if_true, ni_c (show k < 2147483648 by omega), ni_c (show e < 2147483648 by omega), hg k (by omega), hg' k (by omega), hg' e he]
  by_cases c1 : (σ.2 82 k).toInt ≤ 1
  · rw [if_pos c1]
    exact ih _ ⟨k + 1, by omega, by rw [nI_succ, wcN, if_pos (show (σ.2 82 k).toInt < 2 by omega)]⟩ hm
  · rw [if_neg c1]
    by_cases c2 : 2 * σ.2 83 k < σ.2 83 e
    · rw [if_pos c2]
      exact ih _ ⟨k + 1, by omega, by rw [nI_succ, wcN, if_neg (show ¬ (σ.2 82 k).toInt < 2 by omega), if_pos c2]⟩ hm
    · rw [if_neg c2]
      exact ih _ ⟨k + 1, by omega, by rw [nI_succ, wcN, if_neg (show ¬ (σ.2 82 k).toInt < 2 by omega), if_neg c2]⟩ hm
theorem who_end (hF : 1000 ≤ F) {τ' : XS} {σ' : MS} {z1 z2 : Nat} {g1 g2 : Nat → Int32} (hg1 : τ'.2.2.2.1 z1 = some (.inl (0, 30, .inl g1))) (hg2 : τ'.2.2.2.1 z2 = some (.inl (0, 30, .inl g2))) (hG : ∀ d, d < 30 → g1 d = σ'.2 82 d ∧ g2 d = σ'.2 83 d) (x2 : Int32) (hx2 : 0 ≤ x2.toInt ∧ x2.toInt ≤ 2) :
    ∃ r, lp (x0_who_B131 F (fun a2 => if a2.1 = ((-1)) then (some ((-1), a2.2.2, 0, 0)) else (lp (x0_who_B197 F (fun a3 => if x2 = 0 then (some (a2.1, a3.2.2, 0, 0)) else (if x2 = 1 then ((gA a3.2.2 z2 0).bind (fun A1 => if okI a2.1 A1.1 = true then some (A1.2 a2.1.toNatClampNeg, a3.2.2, 0, 0) else none)) else (some (a3.1, a3.2.2, 0, 0)))) x2 z1 z2 a2.1) F (0, 0, a2.2.2))) x2 z1 z2) F ((-1), 0, τ') = some (r, τ', 0, 0) ∧ lp (m_who_B157 F (fun a3 => if a3.1 = ((-1)) then (some (a3.1, a3.2.2.2)) else (if x2 = 0 then (some (a3.1, a3.2.2.2)) else (if x2 = 1 then (some (a3.2.1, a3.2.2.2)) else (lp (m_who_B233 F a3.2.1) F (0, 0, a3.2.2.2))))) x2) F ((-1), 0, 0, σ') = some (r, σ') := by
  have hg : ∀ d, d < 30 → g1 d = σ'.2 82 d := fun d hd => (hG d hd).1
  have hg' : ∀ d, d < 30 → g2 d = σ'.2 83 d := fun d hd => (hG d hd).2
  have main := lp_join (BX := x0_who_B131 F (fun a2 => if a2.1 = ((-1)) then (some ((-1), a2.2.2, 0, 0)) else (lp (x0_who_B197 F (fun a3 => if x2 = 0 then (some (a2.1, a3.2.2, 0, 0)) else (if x2 = 1 then ((gA a3.2.2 z2 0).bind (fun A1 => if okI a2.1 A1.1 = true then some (A1.2 a2.1.toNatClampNeg, a3.2.2, 0, 0) else none)) else (some (a3.1, a3.2.2, 0, 0)))) x2 z1 z2 a2.1) F (0, 0, a2.2.2))) x2 z1 z2) (BM := m_who_B157 F (fun a3 => if a3.1 = ((-1)) then (some (a3.1, a3.2.2.2)) else (if x2 = 0 then (some (a3.1, a3.2.2.2)) else (if x2 = 1 then (some (a3.2.1, a3.2.2.2)) else (lp (m_who_B233 F a3.2.1) F (0, 0, a3.2.2.2))))) x2)
    (fun a b => ∃ (d : Nat) (best bc : Int32), d ≤ 30 ∧ a = (best, nI d, τ') ∧ b = (best, bc, nI d, σ') ∧ ((best = -1 ∧ bc = 0) ∨ ∃ e, e < 30 ∧ best = nI e ∧ bc = σ'.2 83 e ∧ 0 < bc.toInt)) (fun a _ => 30 - cN a.2.1) (fun v w => ∃ r, v = (r, τ', 0, 0) ∧ w = (r, σ')) (by
    intro RX RM a b hi ih
    obtain ⟨d, best, bc, hd, rfl, rfl, hb⟩ := hi
    unfold x0_who_B131 m_who_B157
    simp only [Int32.le_iff_toInt_le, li_30, ni_i (show d < 2147483648 by omega)]
    refine jn_ite (fun _ => ?_) (fun c1 => ?_)
    · rcases hb with ⟨rfl, rfl⟩ | ⟨e, he, rfl, hbc, hpos⟩
      · rw [if_pos (rfl : (-1 : Int32) = -1), if_pos (rfl : (-1 : Int32) = -1)]
        exact ⟨_, _, rfl, rfl, -1, rfl, rfl⟩
      · have hne : ¬ nI e = -1 := by rw [i_eq, li_m1, ni_i (by omega)]; omega
        rw [if_neg hne, if_neg hne]
        obtain ⟨b', hx⟩ := who_cx hF hg1 hg2 hg hg' (fun a3 => if x2 = 0 then (some (nI e, a3.2.2, 0, 0)) else (if x2 = 1 then ((gA a3.2.2 z2 0).bind (fun A1 => if okI (nI e) A1.1 = true then some (A1.2 (nI e).toNatClampNeg, a3.2.2, 0, 0) else none)) else (some (a3.1, a3.2.2, 0, 0)))) x2 he
        rw [hx, who_cm hF, ← hbc]
        refine jn_ite (fun _ => ⟨_, _, rfl, rfl, _, rfl, rfl⟩) (fun _ => ?_)
        refine jn_ite (fun _ => ?_) (fun _ => ⟨_, _, rfl, rfl, _, rfl, rfl⟩)
        simp only [gA_of hg2, ob_s, okI_nI he (show 30 < 2147483648 by omega), if_true, ni_c (show e < 2147483648 by omega), hg' e he, ← hbc]
        exact ⟨_, _, rfl, rfl, _, rfl, rfl⟩
    · have hm : 30 - cN (nI d + 1) < 30 - cN (nI d) := by rw [← nI_succ, cN_nI (by omega), cN_nI (by omega)]; omega
      have hstay : ∃ v w, RX (best, nI d + 1, τ') = some v ∧ RM (best, bc, nI d + 1, σ') = some w ∧ ∃ r, v = (r, τ', 0, 0) ∧ w = (r, σ') :=
        ih _ _ ⟨d + 1, best, bc, by omega, by rw [nI_succ], by rw [nI_succ], hb⟩ hm
      have htake : 0 < (σ'.2 83 d).toInt → ∃ v w, RX (nI d, nI d + 1, τ') = some v ∧ RM (nI d, σ'.2 83 d, nI d + 1, σ') = some w ∧ ∃ r, v = (r, τ', 0, 0) ∧ w = (r, σ') :=
        fun hp => ih _ _ ⟨d + 1, nI d, σ'.2 83 d, by omega, by rw [nI_succ d], by rw [nI_succ d], Or.inr ⟨d, by omega, rfl, rfl, hp⟩⟩ hm
      simp only [gA_of hg1, gA_of hg2, ob_s, okI_nI (show d < 30 by omega) (show 30 < 2147483648 by omega), if_true, ni_c (show d < 2147483648 by omega), hg d (by omega), hg' d (by omega), Int32.lt_iff_toInt_lt, li_0, li_1, li_2, nx_e]
      by_cases c2 : (σ'.2 82 d).toInt ≤ 1
      · rw [if_pos c2, if_pos (by omega)]
        exact hstay
      rw [if_neg c2, if_neg (show ¬ (σ'.2 82 d).toInt < 2 by omega)]
      rcases hb with ⟨rfl, rfl⟩ | ⟨e, he, rfl, hbc, hpos⟩
      · rw [li_0]
        by_cases c3 : (σ'.2 83 d).toInt ≤ 0
        · rw [if_pos c3, if_neg (by omega)]
          exact hstay
        · rw [if_neg c3, if_pos (rfl : (-1 : Int32) = -1), if_pos (show 0 < (σ'.2 83 d).toInt by omega)]
          exact htake (by omega)
      · have hne : ¬ nI e = -1 := by rw [i_eq, li_m1, ni_i (by omega)]; omega
        rw [if_neg hne]
        simp only [okI_nI he (show 30 < 2147483648 by omega), if_true, ni_c (show e < 2147483648 by omega), hg' e he, ← hbc]
        by_cases c3 : (σ'.2 83 d).toInt ≤ 0
        · rw [if_pos c3, if_neg (by omega)]
          exact hstay
        · rw [if_neg c3]
          by_cases c4 : (σ'.2 83 d).toInt ≤ bc.toInt
          · rw [if_pos c4, if_neg (by omega)]
            exact hstay
          · rw [if_neg c4, if_pos (by omega)]
            exact htake (by omega)) F _ _ ⟨0, -1, 0, by omega, rfl, rfl, Or.inl ⟨rfl, rfl⟩⟩ (by show 30 - cN 0 < F; omega)
  obtain ⟨v, w, h1, h2, r, rfl, rfl⟩ := main
  exact ⟨r, h1, h2⟩
theorem op_who (hF : 1000 ≤ F) (h : R τ σ) (x1 x2 : Int32) : Op σ (x0_who F x1 x2 τ) (m_who F x1 x2 σ) := by
  obtain ⟨NP, hNP, hNPb⟩ := h.pl.1
  obtain ⟨N, hN, hNb⟩ := h.si.1
  simp only [x0_who, m_who, x0_isPlace_e, m_isPlace_e, x0_in_e, m_in_e, ob_s, tk_00, bI_0, ite_not, h.e3, hNP, ni_i (show NP < 2147483648 by omega), nx_e, li_0, li_2, li_3]
  refine Op.ite (fun c1 => ?_) (fun _ => Op.same h rfl rfl)
  by_cases c2 : 0 ≤ x2.toInt ∧ x2.toInt < 3
  · rw [if_pos c2, if_pos (show 0 ≤ x2.toInt ∧ x2.toInt ≤ 2 by omega)]
    obtain ⟨p, pb, rfl, pi⟩ := nn_of c1.1
    rw [ni_i pb] at c1
    obtain ⟨V, hV⟩ := Classical.axiomOfChoice (fun i : Nat => numO_w hF h.h 118 0 (σ.2 78 i) 0 (σ.2 76 i) 0 (σ.2 2 p))
    have k1 : Kx τ (xN τ (.inl (0, 30, .inl (fun _ => 0)))) := (Kx.rf h.h).new _
    have k2 := k1.new (.inl (0, 30, .inl (fun _ => 0)))
    obtain ⟨b, τ2, g3, g4, c, s, q1, q2, q3, q4, q5, q6, q7⟩ := who_x32 hF h hN hNb hNP hNPb (show p < NP by omega) (fun i => (hV i).1) (z1 := τ.2.2.2.2) (z2 := (xN τ (.inl (0, 30, .inl (fun _ => 0)))).2.2.2.2) (Nat.le_refl _) (Nat.le_succ _) (fun e => by rw [xN_s] at e; omega) (fun a1 => lp (x0_who_B131 F (fun a2 => if a2.1 = ((-1)) then (some ((-1), a2.2.2, 0, 0)) else (lp (x0_who_B197 F (fun a3 => if x2 = 0 then (some (a2.1, a3.2.2, 0, 0)) else (if x2 = 1 then ((gA a3.2.2 (xN τ (.inl (0, 30, .inl (fun _ => 0)))).2.2.2.2 0).bind (fun A1 => if okI a2.1 A1.1 = true then some (A1.2 a2.1.toNatClampNeg, a3.2.2, 0, 0) else none)) else (some (a3.1, a3.2.2, 0, 0)))) x2 τ.2.2.2.2 (xN τ (.inl (0, 30, .inl (fun _ => 0)))).2.2.2.2 a2.1) F (0, 0, a2.2.2))) x2 τ.2.2.2.2 (xN τ (.inl (0, 30, .inl (fun _ => 0)))).2.2.2.2) F ((-1), 0, a1.2)) x2 F 0 (xN (xN τ (.inl (0, 30, .inl (fun _ => 0)))) (.inl (0, 30, .inl (fun _ => 0)))) (fun _ => 0) (fun _ => 0) (by omega) (by omega) k2 (by
      show (if τ.2.2.2.2 = τ.2.2.2.2 + 1 then _ else (if τ.2.2.2.2 = τ.2.2.2.2 then _ else _)) = _
      rw [if_neg (by omega), if_pos rfl]) (if_pos rfl) (fun d hd => ⟨rfl, rfl⟩)
    rw [show nI 0 = 0 from rfl] at q1
    obtain ⟨b1, c1', s1, m1, m2⟩ := who_m21 (σ := σ) hF (fun a1 => lp (m_who_B49 F (fun a2 => lp (m_who_B157 F (fun a3 => if a3.1 = ((-1)) then (some (a3.1, a3.2.2.2)) else (if x2 = 0 then (some (a3.1, a3.2.2.2)) else (if x2 = 1 then (some (a3.2.1, a3.2.2.2)) else (lp (m_who_B233 F a3.2.1) F (0, 0, a3.2.2.2))))) x2) F ((-1), 0, 0, a2.2)) (nI p) x2) F (0, a1.2)) (nI p) x2
    have kw0 : Kw σ (wM σ c1' s1) := ⟨rfl, fun j a b c x y => by
      show (if j = 83 then s1 else if j = 82 then c1' else σ.2 j) = σ.2 j
      rw [if_neg y, if_neg x]⟩
    obtain ⟨b2, σ2, n1, n2, n3⟩ := who_m49 hF h hN hNb hNP hNPb (show p < NP by omega) (fun i => (hV i).2) (fun a2 => lp (m_who_B157 F (fun a3 => if a3.1 = ((-1)) then (some (a3.1, a3.2.2.2)) else (if x2 = 0 then (some (a3.1, a3.2.2.2)) else (if x2 = 1 then (some (a3.2.1, a3.2.2.2)) else (lp (m_who_B233 F a3.2.1) F (0, 0, a3.2.2.2))))) x2) F ((-1), 0, 0, a2.2)) x2 kw0 (fun d hd => m2 d hd)
    rw [q1, m1, n1]
    obtain ⟨r, e1, e2⟩ := who_end hF q3 q4 (fun d hd => ⟨(q5 d hd).1.trans (n3 d hd).1.symm, (q5 d hd).2.trans (n3 d hd).2.symm⟩) x2 (by omega)
    rw [e1, e2, tk_tk, tk_tk]
    refine Op.mk (tk_s _ _ _ _ _ _) rfl (h.kw q2 n2) ?_ (by omega) (by omega)
    unfold pf
    rw [n2.1]
    exact Nat.le_succ _
  · rw [if_neg c2, if_neg (show ¬ (0 ≤ x2.toInt ∧ x2.toInt ≤ 2) by omega)]
    exact Op.same h rfl rfl
end WHO2
