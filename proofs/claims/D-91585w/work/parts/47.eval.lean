/-! EVALUATION: strikes -/
def Kp (τ : XS) (σ : MS) (τ' : XS) (σ' : MS) : Prop := τ'.1 = τ.1 ∧ τ'.2.1 = τ.2.1 ∧ τ'.2.2.2.2 = τ.2.2.2.2 ∧ PM M0 τ.2.2.2.1 τ'.2.2.2.1 ∧ WFp τ' ∧ σ'.1 = σ.1 ∧ ∀ j, ¬ j = 37 → ¬ j = 38 → σ'.2 j = σ.2 j
def Sk (SA : Nat → Nat) (N : Nat) (τ : XS) (σ : MS) : Prop := ∀ i, i < N → ∃ f, τ.2.2.2.1 (SA i) = some (.inl (2, 10, .inl f)) ∧ ∀ j, j < 10 → f j = σ.2 37 (10 * i + j)
section EVAL
variable {F : Nat} {τ : XS} {σ : MS}
theorem Kp.rf (h : R τ σ) : Kp τ σ τ σ := ⟨rfl, rfl, rfl, PM.rf _, h.wf, rfl, fun _ _ _ => rfl⟩
theorem Kp.tr {τ1 τ2 : XS} {σ1 σ2 : MS} (h1 : Kp τ σ τ1 σ1) (h2 : Kp τ1 σ1 τ2 σ2) : Kp τ σ τ2 σ2 :=
  ⟨h2.1.trans h1.1, h2.2.1.trans h1.2.1, h2.2.2.1.trans h1.2.2.1, h1.2.2.2.1.tr h2.2.2.2.1, h2.2.2.2.2.1, h2.2.2.2.2.2.1.trans h1.2.2.2.2.2.1, fun j a b => (h2.2.2.2.2.2.2 j a b).trans (h1.2.2.2.2.2.2 j a b)⟩
theorem Kp.R {τ' : XS} {σ' : MS} (h : R τ σ) (k : Kp τ σ τ' σ') : R τ' σ' := by
  obtain ⟨k1, k2, k3, k4, k5, k6, k7⟩ := k
  have ks : RS τ' σ' := by unfold RS; rw [k1, k6]; exact h.s
  have ka : RA τ' σ' := by
    unfold RA
    rw [k1, k7 0 (by decide) (by decide), k7 20 (by decide) (by decide), k7 53 (by decide) (by decide), k7 66 (by decide) (by decide), k7 67 (by decide) (by decide), k7 68 (by decide) (by decide), k7 69 (by decide) (by decide), k7 72 (by decide) (by decide), k7 73 (by decide) (by decide)]
    exact h.a
  refine h.keep ks ka (by rw [k6]; exact h.sc) k2 k4 k5 (fun k _ => by rw [k6]) (fun j hj => k7 j ?_ ?_)
  · rintro rfl; simp at hj
  · rintro rfl; simp at hj
theorem Kp.sT {τ' : XS} {σ' : MS} (k : Kp τ σ τ' σ') (st : Nat → Int32) : Kp τ σ τ' (sT σ' st) := by
  obtain ⟨k1, k2, k3, k4, k5, k6, k7⟩ := k
  refine ⟨k1, k2, k3, k4, k5, k6, fun j a b => ?_⟩
  rw [← k7 j a b]
  exact if_neg b
theorem Kp.s37 {τ' : XS} {σ' : MS} (k : Kp τ σ τ' σ') (i : Nat) (v : Int32) : Kp τ σ τ' (sA σ' 37 i v) := by
  obtain ⟨k1, k2, k3, k4, k5, k6, k7⟩ := k
  refine ⟨k1, k2, k3, k4, k5, k6, fun j a b => ?_⟩
  rw [← k7 j a b]
  exact if_neg a
theorem Kp.xb {τ' : XS} {σ' : MS} (k : Kp τ σ τ' σ') {a m : Nat} {f f' : Nat → Int32} (h : τ'.2.2.2.1 a = some (.inl (2, m, .inl f))) : Kp τ σ (xP τ' a (.inl (2, m, .inl f'))) σ' := by
  obtain ⟨k1, k2, k3, k4, k5, k6, k7⟩ := k
  exact ⟨k1, k2, k3, k4.tr (PM.up h (Or.inr (Or.inr ⟨m, f, f', rfl, rfl⟩))), k5.up h, k6, k7⟩
theorem Kp.xq {τ' : XS} {σ' : MS} (k : Kp τ σ τ' σ') {q : Nat} {V V' : Nat → Value} (h : τ'.2.2.2.1 q = some (.inr (19, V))) (hv : ∀ z, z ≠ 5 → V' z = V z) : Kp τ σ (xP τ' q (.inr (19, V'))) σ' := by
  obtain ⟨k1, k2, k3, k4, k5, k6, k7⟩ := k
  refine ⟨k1, k2, k3, k4.tr (PM.up h (Or.inr (Or.inl ⟨19, V, V', rfl, rfl, fun z hz => hv z ?_⟩))), k5.up h, k6, k7⟩
  rintro rfl
  exact absurd hz (by decide)
/-- the relation, whatever the reference's asHand -/
def Rh (τ : XS) (σ : MS) : Prop := R τ (sS σ 58 (-1))
theorem sS_id (σ : MS) (k : Nat) : sS σ k (σ.1 k) = σ := by
  apply Prod.ext
  · funext q
    rw [sS_at]
    by_cases hq : q = k
    · rw [if_pos hq, hq]
    · rw [if_neg hq]
  · rfl
theorem R.h (h : R τ σ) : Rh τ σ := by
  have h1 := h.sc.2.2.2.2.2.2.2.2
  unfold Rh
  rw [← h1, sS_id]
  exact h
theorem Rh.ru (h : Rh τ σ) : gRu τ.2.2.2.1 (τ.2.1 6) (σ.1 44) (σ.2 28) (σ.2 29) (σ.2 30) (σ.2 31) (σ.2 32) (σ.2 33) (σ.2 34) (σ.2 35) (σ.2 36) := R.ru (σ := sS σ 58 (-1)) h
theorem Rh.e14 (h : Rh τ σ) : τ.1.1 14 = σ.1 44 := R.e14 (σ := sS σ 58 (-1)) h
theorem Rh.wf (h : Rh τ σ) : WFp τ := R.wf h
theorem Rh.up {τ' : XS} {σ' : MS} (h : Rh τ σ) (k : Kp τ σ τ' σ') : Rh τ' σ' := by
  obtain ⟨k1, k2, k3, k4, k5, k6, k7⟩ := k
  refine Kp.R h ⟨k1, k2, k3, k4, k5, ?_, k7⟩
  unfold sS
  rw [k6]
/-- what is read of the rules -/
theorem rd (h : Rh τ σ) : ∃ (N : Nat) (SA : Nat → Nat), σ.1 44 = nI N ∧ N ≤ 20 ∧ (∀ i j, i < N → j < N → SA i = SA j → i = j) ∧ ∀ i, i < N → ∃ (a ca : Nat) (g : Nat → Option Nat), τ.2.1 6 i = some a ∧ cB (σ.2 31 i) 10 ∧
    (∀ τ' : XS, PM M0 τ.2.2.2.1 τ'.2.2.2.1 → isC τ' a [9] = true ∧ gI τ' a [9] 2 = some (σ.2 31 i) ∧ gI τ' a [9] 3 = some (σ.2 29 i) ∧ gI τ' a [9] 4 = some (σ.2 30 i) ∧ gN τ' a [9] 0 = some ca ∧ gN τ' a [9] 1 = some (SA i) ∧ gB τ' ca 14 = some (10, g) ∧ ∃ f, τ'.2.2.2.1 (SA i) = some (.inl (2, 10, .inl f))) ∧
    ∀ j, j < cN (σ.2 31 i) → ∃ cl, g j = some cl ∧ (σ.2 32 (10 * i + j) = 120 → 0 ≤ (σ.2 35 (10 * i + j)).toInt ∧ (σ.2 35 (10 * i + j)).toInt ≤ 19 ∧ 0 ≤ (σ.2 36 (10 * i + j)).toInt ∧ (σ.2 36 (10 * i + j)).toInt ≤ 9) ∧ CE τ.2.2.2.1 cl (σ.2 28) (σ.2 33 (10 * i + j)) (σ.2 34 (10 * i + j)) i (10 * i + j) ∧
      ∀ τ' : XS, PM M0 τ.2.2.2.1 τ'.2.2.2.1 → isC τ' cl [10] = true ∧ gI τ' cl [10] 0 = some (σ.2 32 (10 * i + j)) ∧ gI τ' cl [10] 1 = some (σ.2 35 (10 * i + j)) ∧ gI τ' cl [10] 2 = some (σ.2 36 (10 * i + j)) := by
  obtain ⟨⟨N, hN, hNb⟩, SA, h1, h2⟩ := h.ru
  rw [hN, cN_nI (by omega)] at h1 h2
  refine ⟨N, SA, hN, hNb, h2, fun i hi => ?_⟩
  obtain ⟨a, ha, ca, V, f, g, p1, p2, p3, p4, p5, p6, p7, p8, p9, p10⟩ := h1 i hi
  refine ⟨a, ca, g, ha, p9, fun τ' hp => ?_, fun j hj => ?_⟩
  · obtain ⟨V', v1, v2⟩ := hp.keep p1
    have hm : ∀ k, mutF M0 9 k = false := fun k => mutF_n rfl
    refine ⟨isC_of v1 (List.mem_singleton.mpr rfl), gI_of v1 (List.mem_singleton.mpr rfl) ((v2 _ (hm _)).trans p4), gI_of v1 (List.mem_singleton.mpr rfl) ((v2 _ (hm _)).trans p5), gI_of v1 (List.mem_singleton.mpr rfl) ((v2 _ (hm _)).trans p6), gN_of v1 (List.mem_singleton.mpr rfl) ((v2 _ (hm _)).trans p2), gN_of v1 (List.mem_singleton.mpr rfl) ((v2 _ (hm _)).trans p3), gB_of (hp.arr p8), ?_⟩
    exact hp.bool p7
  · obtain ⟨cl, c1, V2, q, d1, d2, d3, d4, d5, d6, d7⟩ := p10 j hj
    refine ⟨cl, c1, d6, d7, fun τ' hp => ?_⟩
    obtain ⟨V', v1, v2⟩ := hp.keep d1
    have hm : ∀ k, mutF M0 10 k = false := fun k => mutF_n rfl
    exact ⟨isC_of v1 (List.mem_singleton.mpr rfl), gI_of v1 (List.mem_singleton.mpr rfl) ((v2 _ (hm _)).trans d2), gI_of v1 (List.mem_singleton.mpr rfl) ((v2 _ (hm _)).trans d3), gI_of v1 (List.mem_singleton.mpr rfl) ((v2 _ (hm _)).trans d4)⟩
theorem m_isForce_e {i : Nat} (hi : i < 20) (t : Int32) : m_isForce F (nI i) t σ = some (bI ((σ.2 29 i).toInt ≤ t.toInt ∧ t.toInt ≤ (σ.2 30 i).toInt), σ) := by
  simp only [m_isForce, okI_nI hi (show 20 < 2147483648 by omega), if_true, ni_c (show i < 2147483648 by omega), m_in_e, ob_s, bI_B]
theorem x9_isInForce_e {a : Nat} {rf rt : Int32} (h3 : gI τ a [9] 3 = some rf) (h4 : gI τ a [9] 4 = some rt) (t : Int32) : x9_isInForce F a t τ = some (bI (rf.toInt ≤ t.toInt ∧ t.toInt ≤ rt.toInt), τ, 0, 0) := by
  simp only [x9_isInForce, h3, h4, ob_s, x0_within_e, bI_B, if_true]
theorem clear_m (hF : 1000 ≤ F) {N : Nat} (hN : σ.1 44 = nI N) (hNb : N ≤ 20) (K : Int32 × MS → Option (Int32 × MS)) (x1 : Int32) : ∃ b g, lp (m_strikes_B2 F K x1) F (0, σ) = K (b, aS σ 37 g) ∧ ∀ k, k < 10 * N → g k = 0 := by
  rw [show lp (m_strikes_B2 F K x1) F (0, σ) = lp (m_strikes_B2 F K x1) F (0, aS σ 37 (σ.2 37)) by rw [aS_id]]
  refine lp_to (fun a => ∃ (k : Nat) (g : Nat → Int32), k ≤ 10 * N ∧ a = (nI k, aS σ 37 g) ∧ ∀ c, c < k → g c = 0) (fun a => 10 * N - cN a.1) (fun o => ∃ b g, o = K (b, aS σ 37 g) ∧ ∀ k, k < 10 * N → g k = 0) ?_ F _ ⟨0, _, by omega, rfl, fun c hc => by omega⟩ (by show 10 * N - cN 0 < F; omega)
  intro RX a hi ih
  obtain ⟨k, g, hk, rfl, hg⟩ := hi
  unfold m_strikes_B2
  have x44 : ∀ f, (aS σ 37 f).1 44 = nI N := fun f => hN
  simp only [x44, show (10 : Int32) = nI 10 from rfl, ni_mul, Int32.le_iff_toInt_le, ni_i (show k < 2147483648 by omega), ni_i (show 10 * N < 2147483648 by omega)]
  by_cases hend : k = 10 * N
  · rw [if_pos (by omega)]
    exact ⟨_, g, rfl, fun c hc => hg c (by omega)⟩
  · rw [if_neg (by omega)]
    simp only [okI_nI (show k < 200 by omega) (show 200 < 2147483648 by omega), if_true, ni_c (show k < 2147483648 by omega), nx_e, sA_aS, show vp_nar .boolean 0 = 0 from rfl]
    refine ih _ ⟨k + 1, _, by omega, by rw [nI_succ], fun c hc => ?_⟩ ?_
    · by_cases hck : c = k
      · exact if_pos hck
      · exact (if_neg hck).trans (hg c (by omega))
    · show 10 * N - cN (nI k + 1) < 10 * N - cN (nI k)
      rw [← nI_succ, cN_nI (by omega), cN_nI (by omega)]
      omega
theorem clear_x (hF : 1000 ≤ F) {N : Nat} {SA : Nat → Nat} (hNb : N ≤ 20) (h14 : τ.1.1 14 = nI N) (hSA : ∀ i j, i < N → j < N → SA i = SA j → i = j) (hw : WFp τ)
    (hr : ∀ i, i < N → ∃ a, τ.2.1 6 i = some a ∧ ∀ τ' : XS, PM M0 τ.2.2.2.1 τ'.2.2.2.1 → gN τ' a [9] 1 = some (SA i) ∧ ∃ f, τ'.2.2.2.1 (SA i) = some (.inl (2, 10, .inl f)))
    (K : Int32 × XS → XR Int32) (x1 : Int32) : ∃ b τ', lp (x0_strikes_B2 F K x1) F (0, τ) = K (b, τ') ∧ Kp τ σ τ' σ ∧ ∀ i, i < N → ∃ f, τ'.2.2.2.1 (SA i) = some (.inl (2, 10, .inl f)) ∧ ∀ j, j < 10 → f j = 0 := by
  refine lp_to (fun a => ∃ (k : Nat) (τ' : XS), k ≤ N ∧ a = (nI k, τ') ∧ Kp τ σ τ' σ ∧ ∀ i, i < k → ∃ f, τ'.2.2.2.1 (SA i) = some (.inl (2, 10, .inl f)) ∧ ∀ j, j < 10 → f j = 0) (fun a => N - cN a.1) (fun o => ∃ b τ', o = K (b, τ') ∧ Kp τ σ τ' σ ∧ ∀ i, i < N → ∃ f, τ'.2.2.2.1 (SA i) = some (.inl (2, 10, .inl f)) ∧ ∀ j, j < 10 → f j = 0) ?_ F _ ⟨0, τ, by omega, rfl, ⟨rfl, rfl, rfl, PM.rf _, hw, rfl, fun _ _ _ => rfl⟩, fun c hc => by omega⟩ (by show N - cN 0 < F; omega)
  intro RX a hi ih
  obtain ⟨k, τ1, hk, rfl, hK, hz⟩ := hi
  unfold x0_strikes_B2
  have e14 : τ1.1.1 14 = nI N := by rw [hK.1]; exact h14
  simp only [e14, Int32.le_iff_toInt_le, ni_i (show k < 2147483648 by omega), ni_i (show N < 2147483648 by omega)]
  by_cases hend : k = N
  · subst hend
    rw [if_pos (by omega)]
    exact ⟨_, τ1, rfl, hK, hz⟩
  rw [if_neg (by omega)]
  obtain ⟨a, ha, har⟩ := hr k (by omega)
  refine lp_to (B := x0_strikes_B12 F (fun a1 => RX (nI k + 1, a1.2)) x1 (nI k)) (fun b => ∃ (j : Nat) (τ' : XS), j ≤ 10 ∧ b = (nI j, τ') ∧ Kp τ σ τ' σ ∧ (∀ i, i < k → ∃ f, τ'.2.2.2.1 (SA i) = some (.inl (2, 10, .inl f)) ∧ ∀ j, j < 10 → f j = 0) ∧ ∃ f, τ'.2.2.2.1 (SA k) = some (.inl (2, 10, .inl f)) ∧ ∀ j', j' < j → f j' = 0) (fun b => 10 - cN b.1) (fun o => ∃ b τ', o = K (b, τ') ∧ Kp τ σ τ' σ ∧ ∀ i, i < N → ∃ f, τ'.2.2.2.1 (SA i) = some (.inl (2, 10, .inl f)) ∧ ∀ j, j < 10 → f j = 0) ?_ F _ ⟨0, τ1, by omega, rfl, hK, hz, ?_⟩ (by show 10 - cN 0 < F; omega)
  · intro RY b hi' ih'
    obtain ⟨j, τ2, hj, rfl, hK2, hz2, f, hf, hfz⟩ := hi'
    unfold x0_strikes_B12
    simp only [Int32.le_iff_toInt_le, ni_i (show j < 2147483648 by omega), li_10]
    by_cases hend2 : j = 10
    · subst hend2
      rw [if_pos (by omega)]
      refine ih _ ⟨k + 1, τ2, by omega, by rw [nI_succ], hK2, fun i hi => ?_⟩ ?_
      · by_cases hik : i = k
        · subst hik; exact ⟨f, hf, hfz⟩
        · exact hz2 i (by omega)
      · show N - cN (nI k + 1) < N - cN (nI k)
        rw [← nI_succ, cN_nI (by omega), cN_nI (by omega)]
        omega
    · rw [if_neg (by omega)]
      obtain ⟨g1, -⟩ := har τ2 hK2.2.2.2.1
      have e6 : τ2.2.1 6 k = some a := by rw [hK2.2.1]; exact ha
      simp only [okI_nI (show k < 20 by omega) (show 20 < 2147483648 by omega), if_true, ni_c (show k < 2147483648 by omega), e6, ob_s, g1, gA_of hf, okI_nI (show j < 10 by omega) (show 10 < 2147483648 by omega), ni_c (show j < 2147483648 by omega), nx_e, show vp_nar .boolean 0 = 0 from rfl]
      refine ih' _ ⟨j + 1, _, by omega, by rw [nI_succ], hK2.xb hf, fun i hi => ?_, upd f j 0, if_pos rfl, fun j' hj' => ?_⟩ ?_
      · obtain ⟨f2, q1, q2⟩ := hz2 i hi
        refine ⟨f2, ?_, q2⟩
        refine (if_neg (fun e => ?_)).trans q1
        have := hSA i k (by omega) (by omega) e
        omega
      · by_cases hjj : j' = j
        · exact if_pos hjj
        · exact (if_neg hjj).trans (hfz j' (by omega))
      · show 10 - cN (nI j + 1) < 10 - cN (nI j)
        rw [← nI_succ, cN_nI (by omega), cN_nI (by omega)]
        omega
  · obtain ⟨-, f, hf⟩ := har τ1 hK.2.2.2.1
    exact ⟨f, hf, fun j' hj' => by omega⟩
end EVAL
