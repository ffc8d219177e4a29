/-! who -/
section WHO
variable {F : Nat} {τ : XS} {σ : MS}
theorem Kx.fresh2 (hw : WFp τ) {τ' : XS} (k : Kx τ τ') {z : Nat} (hz : τ.2.2.2.2 ≤ z) {e0 e : pE} (h : τ'.2.2.2.1 z = some e0) : Kx τ (xP τ' z e) := by
  obtain ⟨k1, k2, k3, k4⟩ := k
  refine ⟨k1, k2, fun a e1 h1 => ?_, k4.up h⟩
  obtain ⟨e2, q1, q2⟩ := k3 a e1 h1
  have := hw a e1 h1
  exact ⟨e2, (if_neg (by omega)).trans q1, q2⟩
theorem numO_w (hF : 1000 ≤ F) (h : Rh τ σ) (l w a b c d e : Int32) : ∃ v, (∀ τ', Kx τ τ' → ∃ τ2, x0_numberOf F l τ'.2.2.2.2 w (askX τ' a b c d e) = some (v, τ2, 0, 0) ∧ Kx τ' τ2) ∧ ∀ σ', Rh τ σ' → ∃ σ2, m_numberBy F l w (askM σ' a b c d e) = some (v, σ2) ∧ Km σ' σ2 := by
  obtain ⟨v, h1, -⟩ := numO_v hF h l w a b c d e
  refine ⟨v, h1, fun σ' h' => ?_⟩
  obtain ⟨v', τ2, σ2, e3, e4, k'⟩ := numO_j hF h' l w a b c d e
  obtain ⟨τ3, e5, -⟩ := h1 τ (Kx.rf h)
  rw [e5] at e3
  cases e3
  exact ⟨σ2, e4, k'.km⟩
theorem signs_r (h : R τ σ) {N : Nat} (hN : σ.1 100 = nI N) (hNb : N ≤ 100) {i : Nat} (hi : i < N) : ∃ a, τ.2.1 33 i = some a ∧ (∀ τ', PM M0 τ.2.2.2.1 τ'.2.2.2.1 → gI τ' a [24] 0 = some (σ.2 75 i) ∧ gI τ' a [24] 1 = some (σ.2 76 i) ∧ gI τ' a [24] 2 = some (σ.2 77 i) ∧ gI τ' a [24] 3 = some (σ.2 78 i)) ∧ 0 ≤ (σ.2 75 i).toInt ∧ (σ.2 75 i).toInt < 30 := by
  obtain ⟨-, hl, hb⟩ := h.si
  rw [hN, cN_nI (by omega)] at hl hb
  obtain ⟨a, h1, h2⟩ := hl i hi
  refine ⟨a, h1, fun τ' hp => ?_, hb i hi⟩
  have h3 := h2.mono hp (fun z _ => mutF_n rfl)
  refine ⟨h3.gI ?_ (List.mem_singleton.mpr rfl), h3.gI ?_ (List.mem_singleton.mpr rfl), h3.gI ?_ (List.mem_singleton.mpr rfl), h3.gI ?_ (List.mem_singleton.mpr rfl)⟩ <;> simp
theorem place_r (h : R τ σ) {N : Nat} (hN : σ.1 3 = nI N) (hNb : N ≤ 30) {p : Nat} (hp : p < N) : ∃ a, τ.2.1 0 p = some a ∧ ∀ τ', PM M0 τ.2.2.2.1 τ'.2.2.2.1 → gI τ' a [3] 0 = some (nI p) ∧ gI τ' a [3] 1 = some (σ.2 2 p) := by
  obtain ⟨-, hl, -⟩ := h.pl
  rw [hN, cN_nI (by omega)] at hl
  obtain ⟨⟨a, b, V, k1, k2, k3, k4, k5, k6⟩, -⟩ := hl p hp
  refine ⟨a, k1, fun τ' hpm => ?_⟩
  obtain ⟨V', v1, v2⟩ := hpm.keep k2
  exact ⟨gI_of v1 (List.mem_singleton.mpr rfl) ((v2 _ (mutF_n rfl)).trans k3), gI_of v1 (List.mem_singleton.mpr rfl) ((v2 _ (mutF_n rfl)).trans k4)⟩
/-- how many signs of a hand, and their weight -/
noncomputable def sm (P : Nat → Prop) (V : Nat → Int32) : Nat → Int32
  | 0 => 0
  | k + 1 => @ite _ (P k) (Classical.propDecidable _) (sm P V k + V k) (sm P V k)
theorem sm_t {P : Nat → Prop} {V : Nat → Int32} {k : Nat} (h : P k) : sm P V (k + 1) = sm P V k + V k := by rw [sm]; exact if_pos h
theorem sm_f {P : Nat → Prop} {V : Nat → Int32} {k : Nat} (h : ¬ P k) : sm P V (k + 1) = sm P V k := by rw [sm]; exact if_neg h
theorem cn_t {P : Nat → Prop} {k : Nat} (h : P k) : nI (cn P (k + 1)) = nI (cn P k) + 1 := by rw [cn_s, cI_t h]
theorem cn_f {P : Nat → Prop} {k : Nat} (h : ¬ P k) : nI (cn P (k + 1)) = nI (cn P k) := by rw [cn_s, cI_f h, Int32.add_zero]
def sgP (σ : MS) (x1 : Int32) (h i : Nat) : Prop := σ.2 77 i = x1 ∧ σ.2 75 i = nI h
theorem who_x32 (hF : 1000 ≤ F) (h : R τ σ) {N NP p : Nat} (hN : σ.1 100 = nI N) (hNb : N ≤ 100) (hNP : σ.1 3 = nI NP) (hNPb : NP ≤ 30) (hp : p < NP) {V : Nat → Int32} (hV : ∀ i, ∀ τ', Kx τ τ' → ∃ τ2, x0_numberOf F 118 τ'.2.2.2.2 0 (askX τ' (σ.2 78 i) 0 (σ.2 76 i) 0 (σ.2 2 p)) = some (V i, τ2, 0, 0) ∧ Kx τ' τ2) {z1 z2 : Nat} (hz1 : τ.2.2.2.2 ≤ z1) (hz2 : τ.2.2.2.2 ≤ z2) (hz : ¬ z1 = z2) (K : Int32 × XS → XR Int32) (x2 : Int32) :
    ∀ (fu k : Nat) (τ' : XS) (g1 g2 : Nat → Int32), k ≤ N → N - k < fu → Kx τ τ' → τ'.2.2.2.1 z1 = some (.inl (0, 30, .inl g1)) → τ'.2.2.2.1 z2 = some (.inl (0, 30, .inl g2)) → (∀ d, d < 30 → g1 d = nI (cn (sgP σ (nI p) d) k) ∧ g2 d = sm (sgP σ (nI p) d) V k) →
      ∃ b τ2 g3 g4 c s, lp (x0_who_B32 F K (nI p) x2 z1 z2) fu (nI k, τ') = tk c s (K (b, τ2)) ∧ Kx τ τ2 ∧ τ2.2.2.2.1 z1 = some (.inl (0, 30, .inl g3)) ∧ τ2.2.2.2.1 z2 = some (.inl (0, 30, .inl g4)) ∧ (∀ d, d < 30 → g3 d = nI (cn (sgP σ (nI p) d) N) ∧ g4 d = sm (sgP σ (nI p) d) V N) ∧ c ≤ N - k ∧ s ≤ 6 * (N - k) := by
  intro fu
  induction fu with
  | zero => intro k τ' g1 g2 _ h; omega
  | succ fu ih =>
    intro k τ' g1 g2 hk hfu kx hg1 hg2 hG
    have e42 : τ'.1.1 42 = nI N := by rw [kx.1]; exact h.e42.trans hN
    rw [lp_s]
    generalize lp (x0_who_B32 F K (nI p) x2 z1 z2) fu = RR at ih ⊢
    unfold x0_who_B32
    simp only [e42, Int32.le_iff_toInt_le, ni_i (show k < 2147483648 by omega), ni_i (show N < 2147483648 by omega)]
    by_cases hend : k = N
    · subst hend
      rw [if_pos (by omega)]
      exact ⟨_, τ', g1, g2, 0, 0, (tk_00 _).symm, kx, hg1, hg2, hG, by omega, by omega⟩
    rw [if_neg (by omega)]
    obtain ⟨a, ha, hr, hd0, hd1⟩ := signs_r h hN hNb (show k < N by omega)
    obtain ⟨r0, r1, r2, r3⟩ := hr τ' kx.2.2.1
    have e33 : τ'.2.1 33 k = some a := by rw [kx.2.1]; exact ha
    simp only [okI_nI (show k < 100 by omega) (show 100 < 2147483648 by omega), if_true, ni_c (show k < 2147483648 by omega), e33, ob_s, r2]
    by_cases c1 : σ.2 77 k = nI p
    · rw [if_pos c1]
      obtain ⟨d, db, hd, di⟩ := nn_of hd0
      simp only [r0, ob_s, gA_of hg1, hd, okI_nI (show d < 30 by omega) (show 30 < 2147483648 by omega), if_true, ni_c db, nx_e]
      generalize hτ1 : xP τ' z1 (.inl (0, 30, .inl (upd g1 d (g1 d + 1)))) = τ1
      have kx1 : Kx τ τ1 := by rw [← hτ1]; exact kx.fresh2 h.wf hz1 hg1
      have hg1' : τ1.2.2.2.1 z1 = some (.inl (0, 30, .inl (upd g1 d (g1 d + 1)))) := by rw [← hτ1]; exact if_pos rfl
      have hg2' : τ1.2.2.2.1 z2 = some (.inl (0, 30, .inl g2)) := by rw [← hτ1]; exact (if_neg (fun e => hz e.symm)).trans hg2
      obtain ⟨s0, s1, s2, s3⟩ := hr τ1 kx1.2.2.1
      obtain ⟨t0, t1, t2, t3⟩ := hr (xN τ1 (.inr (19, fun q => defaultValue (tyX19 q)))) (kx1.new _).2.2.1
      obtain ⟨pa, hpa, pr⟩ := place_r h hNP hNPb hp
      obtain ⟨-, u1⟩ := pr (xN τ1 (.inr (19, fun q => defaultValue (tyX19 q)))) (kx1.new _).2.2.1
      have e0 : τ1.2.1 0 p = some pa := by rw [kx1.2.1]; exact hpa
      obtain ⟨τ2, w1, w2⟩ := hV k τ1 kx1
      have kx2 := kx1.tr w2
      have hg1'' := w2.2.2.1.int hg1'
      have hg2'' := w2.2.2.1.int hg2'
      simp only [s0, ob_s, hd, gA_of hg2', okI_nI (show d < 30 by omega) (show 30 < 2147483648 by omega), if_true, ni_c db, t3, t1, okI_nI (show p < 30 by omega) (show 30 < 2147483648 by omega), ni_c (show p < 2147483648 by omega), xN_2, e0, u1, ask_x, tk_00, w1, gA_of hg2'']
      obtain ⟨b, τ3, g3, g4, c, s, q1, q2, q3, q4, q5, q6, q7⟩ := ih (k + 1) (xP τ2 z2 (.inl (0, 30, .inl (upd g2 d (g2 d + V k))))) (upd g1 d (g1 d + 1)) (upd g2 d (g2 d + V k)) (by omega) (by omega) (kx2.fresh2 h.wf hz2 hg2'') ((if_neg hz).trans hg1'') (if_pos rfl) (fun d' hd' => by
        by_cases hdd : d' = d
        · subst hdd
          have hP : sgP σ (nI p) d' k := ⟨c1, hd⟩
          rw [cn_t hP, sm_t hP, ← (hG d' hd').1, ← (hG d' hd').2]
          exact ⟨if_pos rfl, if_pos rfl⟩
        · have hP : ¬ sgP σ (nI p) d' k := fun q => hdd (ni_inj (by omega) (by omega) (q.2.symm.trans hd))
          rw [cn_f hP, sm_f hP, ← (hG d' hd').1, ← (hG d' hd').2]
          exact ⟨if_neg hdd, if_neg hdd⟩)
      refine ⟨b, τ3, g3, g4, 1 + c, 6 + s, ?_, q2, q3, q4, q5, by omega, by omega⟩
      rw [← nI_succ, q1, tk_tk]
    · rw [if_neg c1]
      obtain ⟨b, τ3, g3, g4, c, s, q1, q2, q3, q4, q5, q6, q7⟩ := ih (k + 1) τ' g1 g2 (by omega) (by omega) kx hg1 hg2 (fun d' hd' => by
        have hP : ¬ sgP σ (nI p) d' k := fun q => c1 q.1
        rw [cn_f hP, sm_f hP]
        exact hG d' hd')
      refine ⟨b, τ3, g3, g4, c, s, ?_, q2, q3, q4, q5, by omega, by omega⟩
      rw [← nI_succ, q1]
def wM (σ : MS) (c s : Nat → Int32) : MS := aS (aS σ 82 c) 83 s
theorem wM_c (σ : MS) (c s : Nat → Int32) (i : Nat) (v : Int32) : sA (wM σ c s) 82 i v = wM σ (upd c i v) s := by
  unfold wM
  rw [sA_aS_ne _ _ _ _ _ _ (by decide), sA_aS]
theorem wM_s (σ : MS) (c s : Nat → Int32) (i : Nat) (v : Int32) : sA (wM σ c s) 83 i v = wM σ c (upd s i v) := by
  unfold wM
  rw [sA_aS]
theorem wM_id (σ : MS) : wM σ (σ.2 82) (σ.2 83) = σ := by
  unfold wM
  rw [aS_id]
  show aS σ 83 (σ.2 83) = σ
  rw [aS_id]
theorem Rh.wM (h : Rh τ σ) (c s : Nat → Int32) : Rh τ (wM σ c s) := ⟨R.s h, R.a h, R.sc h, R.pl h, R.dg h, R.me h, R.ru h, R.fi h, R.th h, R.wa h, R.dr h, R.si h, R.wo h, R.as h, R.wf h⟩
theorem who_m21 (hF : 1000 ≤ F) (K : Int32 × MS → Option (Int32 × MS)) (x1 x2 : Int32) : ∃ b c s, lp (m_who_B21 F K x1 x2) F (0, σ) = K (b, wM σ c s) ∧ ∀ d, d < 30 → c d = 0 ∧ s d = 0 := by
  rw [show lp (m_who_B21 F K x1 x2) F (0, σ) = lp (m_who_B21 F K x1 x2) F (0, wM σ (σ.2 82) (σ.2 83)) by rw [wM_id]]
  refine lp_to (fun a => ∃ (k : Nat) (c s : Nat → Int32), k ≤ 30 ∧ a = (nI k, wM σ c s) ∧ ∀ d, d < k → c d = 0 ∧ s d = 0) (fun a => 30 - cN a.1) (fun o => ∃ b c s, o = K (b, wM σ c s) ∧ ∀ d, d < 30 → c d = 0 ∧ s d = 0) ?_ F _ ⟨0, _, _, by omega, rfl, fun d hd => by omega⟩ (by show 30 - cN 0 < F; omega)
  intro RX a hi ih
  obtain ⟨k, c, s, hk, rfl, hz⟩ := hi
  unfold m_who_B21
  simp only [Int32.le_iff_toInt_le, ni_i (show k < 2147483648 by omega), li_30]
  by_cases hend : k = 30
  · subst hend
    rw [if_pos (by omega)]
    exact ⟨_, c, s, rfl, hz⟩
  rw [if_neg (by omega)]
  simp only [okI_nI (show k < 30 by omega) (show 30 < 2147483648 by omega), if_true, ni_c (show k < 2147483648 by omega), nx_e, wM_c, wM_s]
  refine ih _ ⟨k + 1, _, _, by omega, by rw [nI_succ], fun d hd => ?_⟩ ?_
  · by_cases hdk : d = k
    · exact ⟨if_pos hdk, if_pos hdk⟩
    · obtain ⟨q1, q2⟩ := hz d (by omega)
      exact ⟨(if_neg hdk).trans q1, (if_neg hdk).trans q2⟩
  · show 30 - cN (nI k + 1) < 30 - cN (nI k)
    rw [← nI_succ, cN_nI (by omega), cN_nI (by omega)]
    omega
end WHO
