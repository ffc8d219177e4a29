section LOST3
variable {F : Nat} {τ : XS} {σ : MS}
theorem lost_x93 (hF : 1000 ≤ F) {W : Nat → Int32} {T f a z : Nat} (hw : ∀ τ', Kx τ τ' → ∀ d, ∃ τ2, x0_wouldBe F a d τ' = some (cI (wbP σ W T d f), τ2, 1, 6) ∧ Kx τ' τ2) (hz : ∀ τ' : XS, ∀ e, Kx τ τ' → (∃ g, τ'.2.2.2.1 z = some (.inl (0, 10, .inl g))) → Kx τ (xP τ' z e)) (K : Int32 × XS → XR Int32) (x1 x2 x3 x5 : Int32) (G : Nat → Int32) :
    ∀ (fu d : Nat) (τ' : XS) (g : Nat → Int32), d ≤ 10 → 10 - d < fu → Kx τ τ' → τ'.2.2.2.1 z = some (.inl (0, 10, .inl g)) → (∀ e, e < 10 → (e < d → g e = G e + cI (wbP σ W T (nI e) f)) ∧ (¬ e < d → g e = G e)) →
      ∃ b τ2 g2 c s, lp (x0_lost_B93 F K x1 x2 x3 z x5 a) fu (nI d, τ') = tk c s (K (b, τ2)) ∧ Kx τ τ2 ∧ τ2.2.2.2.1 z = some (.inl (0, 10, .inl g2)) ∧ (∀ e, e < 10 → g2 e = G e + cI (wbP σ W T (nI e) f)) ∧ c ≤ 10 - d ∧ s ≤ 6 * (10 - d) := by
  intro fu
  induction fu with
  | zero => intro d τ' g _ h; omega
  | succ fu ih =>
    intro d τ' g hd hfu kx hg hG
    rw [lp_s]
    generalize lp (x0_lost_B93 F K x1 x2 x3 z x5 a) fu = RR at ih ⊢
    unfold x0_lost_B93
    simp only [Int32.le_iff_toInt_le, ni_i (show d < 2147483648 by omega), li_10]
    by_cases hend : d = 10
    · subst hend
      rw [if_pos (by omega)]
      exact ⟨_, τ', g, 0, 0, (tk_00 _).symm, kx, hg, fun e he => (hG e he).1 he, by omega, by omega⟩
    rw [if_neg (by omega)]
    obtain ⟨τ1, e1, k1⟩ := hw τ' kx (nI d)
    have hg1 := k1.2.2.1.int hg
    have kx1 := kx.tr k1
    simp only [gA_of hg, ob_s, okI_nI (show d < 10 by omega) (show 10 < 2147483648 by omega), if_true, ni_c (show d < 2147483648 by omega), e1, gA_of hg1, nx_e]
    have hgo : ∀ v, v = g d + cI (wbP σ W T (nI d) f) → ∃ b τ2 g2 c s, tk 1 6 (RR (nI d + 1, xP τ1 z (.inl (0, 10, .inl (upd g d v))))) = tk c s (K (b, τ2)) ∧ Kx τ τ2 ∧ τ2.2.2.2.1 z = some (.inl (0, 10, .inl g2)) ∧ (∀ e, e < 10 → g2 e = G e + cI (wbP σ W T (nI e) f)) ∧ c ≤ 10 - d ∧ s ≤ 6 * (10 - d) := by
      intro v hv
      obtain ⟨b, τ2, g2, c, s, q1, q2, q3, q4, q5, q6⟩ := ih (d + 1) (xP τ1 z (.inl (0, 10, .inl (upd g d v)))) (upd g d v) (by omega) (by omega) (hz τ1 _ kx1 ⟨g, hg1⟩) (if_pos rfl) (fun e he => ⟨fun hed => by
        by_cases hee : e = d
        · subst hee
          rw [show upd g e v e = v from if_pos rfl, hv, (hG e he).2 (by omega)]
        · rw [show upd g d v e = g e from if_neg hee]
          exact (hG e he).1 (by omega), fun hed => by
        rw [show upd g d v e = g e from if_neg (by omega)]
        exact (hG e he).2 (by omega)⟩)
      refine ⟨b, τ2, g2, 1 + c, 6 + s, ?_, q2, q3, q4, by omega, by omega⟩
      rw [← nI_succ, q1, tk_tk]
    by_cases cw : wbP σ W T (nI d) f
    · rw [if_neg (by rw [cI_t cw]; decide)]
      exact hgo (g d + 1) (by rw [cI_t cw])
    · rw [if_pos (cI_f cw)]
      exact hgo (g d + 0) (by rw [cI_f cw])
theorem lost_x55 (hF : 1000 ≤ F) {W : Nat → Int32} {T z n : Nat} {p : Nat → Nat} (hn : n ≤ 100) (hw : ∀ i, i < n → LW F τ σ W T (p i)) (hq : ∀ i, i < n → τ.1.2 9 i = nI (p i)) (hp : ∀ i, i < n → p i < 150) (hz : ∀ τ' : XS, ∀ e, Kx τ τ' → (∃ g, τ'.2.2.2.1 z = some (.inl (0, 10, .inl g))) → Kx τ (xP τ' z e)) (K : Int32 × Int32 × XS → XR Int32) (x2 : Int32) :
    ∀ (fu k : Nat) (τ' : XS) (g : Nat → Int32), k ≤ n → n - k < fu → Kx τ τ' → τ'.2.2.2.1 z = some (.inl (0, 10, .inl g)) → (∀ d, d < 10 → g d = nI (cn (fun i => loP σ W T (p i) ∧ wbP σ W T (nI d) (p i)) k)) →
      ∃ b τ2 g2 c s, lp (x0_lost_B55 F K (nI n) x2 z) fu (nI (cn (fun i => loP σ W T (p i)) k), nI k, τ') = tk c s (K (nI (cn (fun i => loP σ W T (p i)) n), b, τ2)) ∧ Kx τ τ2 ∧ τ2.2.2.2.1 z = some (.inl (0, 10, .inl g2)) ∧ (∀ d, d < 10 → g2 d = nI (cn (fun i => loP σ W T (p i) ∧ wbP σ W T (nI d) (p i)) n)) ∧ c ≤ 11 * (n - k) ∧ s ≤ 66 * (n - k) := by
  intro fu
  induction fu with
  | zero => intro k τ' g _ h; omega
  | succ fu ih =>
    intro k τ' g hk hfu kx hg hG
    rw [lp_s]
    generalize lp (x0_lost_B55 F K (nI n) x2 z) fu = RR at ih ⊢
    unfold x0_lost_B55
    simp only [Int32.le_iff_toInt_le, ni_i (show k < 2147483648 by omega), ni_i (show n < 2147483648 by omega)]
    by_cases hend : k = n
    · subst hend
      rw [if_pos (by omega)]
      exact ⟨_, τ', g, 0, 0, (tk_00 _).symm, kx, hg, hG, by omega, by omega⟩
    rw [if_neg (by omega)]
    obtain ⟨a, ha, w1, w2, -, -⟩ := hw k (by omega)
    have hpk := hp k (by omega)
    have e9 : τ'.1.2 9 k = nI (p k) := by rw [kx.1]; exact hq k (by omega)
    have e7 : τ'.2.1 7 (p k) = some a := by rw [kx.2.1]; exact ha
    obtain ⟨τ1, e1, k1⟩ := w1 τ' kx
    have hg1 := k1.2.2.1.int hg
    have kx1 := kx.tr k1
    simp only [okI_nI (show k < 100 by omega) (show 100 < 2147483648 by omega), if_true, ni_c (show k < 2147483648 by omega), e9, okI_nI hpk (show 150 < 2147483648 by omega), ni_c (show p k < 2147483648 by omega), e7, ob_s, e1]
    have hcs := cn_s (fun i => loP σ W T (p i)) k
    by_cases cl : loP σ W T (p k)
    · rw [if_neg (by rw [cI_t cl]; decide)]
      rw [cI_t cl] at hcs
      obtain ⟨b, τ2, g2, c, s, q1, q2, q3, q4, q5, q6⟩ := lost_x93 (F := F) (T := T) hF w2 hz (fun a1 => RR (nI (cn (fun i => loP σ W T (p i)) k) + 1, nI k + 1, a1.2)) (nI n) x2 (nI (cn (fun i => loP σ W T (p i)) k) + 1) (nI k) g F 0 τ1 g (by omega) (by omega) kx1 hg1 (fun e he => ⟨fun q => by omega, fun _ => rfl⟩)
      rw [show (0 : Int32) = nI 0 from rfl, q1]
      obtain ⟨b', τ3, g3, c', s', r1, r2, r3, r4, r5, r6⟩ := ih (k + 1) τ2 g2 (by omega) (by omega) q2 q3 (fun d hd => by
        have := cn_s (fun i => loP σ W T (p i) ∧ wbP σ W T (nI d) (p i)) k
        rw [this, ← hG d hd, q4 d hd]
        congr 1
        by_cases cw : wbP σ W T (nI d) (p k)
        · rw [cI_t cw, cI_t ⟨cl, cw⟩]
        · rw [cI_f cw, cI_f (fun y => cw y.2)])
      refine ⟨b', τ3, g3, 1 + (c + c'), 6 + (s + s'), ?_, r2, r3, r4, by omega, by omega⟩
      rw [← hcs, ← nI_succ, r1, tk_tk, tk_tk, Nat.add_assoc, Nat.add_assoc]
    · rw [if_pos (cI_f cl)]
      rw [cI_f cl, Int32.add_zero] at hcs
      obtain ⟨b', τ3, g3, c', s', r1, r2, r3, r4, r5, r6⟩ := ih (k + 1) τ1 g (by omega) (by omega) kx1 hg1 (fun d hd => by
        have := cn_s (fun i => loP σ W T (p i) ∧ wbP σ W T (nI d) (p i)) k
        rw [this, ← hG d hd, cI_f (fun y => cl y.1), Int32.add_zero])
      refine ⟨b', τ3, g3, 1 + c', 6 + s', ?_, r2, r3, r4, by omega, by omega⟩
      rw [← hcs, ← nI_succ, r1, tk_tk]
theorem lost_m50 (hF : 1000 ≤ F) {W : Nat → Int32} {T n : Nat} {p : Nat → Nat} (hn : n ≤ 100) (hw : ∀ i, i < n → LW F τ σ W T (p i)) (hq : ∀ i, i < n → σ.2 52 i = nI (p i)) (K : Int32 × Int32 × MS → Option (Int32 × MS)) (x2 : Int32) :
    ∃ b σ2, lp (m_lost_B50 F K (nI n) x2) F (0, 0, σ) = K (nI (cn (fun i => loP σ W T (p i)) n), b, σ2) ∧ Km σ σ2 := by
  refine lp_to (fun a => ∃ (k : Nat) (σ' : MS), k ≤ n ∧ a = (nI (cn (fun i => loP σ W T (p i)) k), nI k, σ') ∧ Km σ σ') (fun a => n - cN a.2.1) (fun o => ∃ b σ2, o = K (nI (cn (fun i => loP σ W T (p i)) n), b, σ2) ∧ Km σ σ2) ?_ F _ ⟨0, σ, by omega, rfl, Km.rf⟩ (by show n - cN 0 < F; omega)
  intro RX a hi ih
  obtain ⟨k, σ', hk, rfl, km⟩ := hi
  unfold m_lost_B50
  simp only [Int32.le_iff_toInt_le, ni_i (show k < 2147483648 by omega), ni_i (show n < 2147483648 by omega)]
  by_cases hend : k = n
  · subst hend
    rw [if_pos (by omega)]
    exact ⟨_, σ', rfl, km⟩
  rw [if_neg (by omega)]
  obtain ⟨a, ha, -, -, w1, w2⟩ := hw k (by omega)
  obtain ⟨σ1, e1, k1⟩ := w1 σ' km
  have hm : n - cN (nI k + 1) < n - cN (nI k) := by rw [← nI_succ, cN_nI (by omega), cN_nI (by omega)]; omega
  simp only [okI_nI (show k < 100 by omega) (show 100 < 2147483648 by omega), if_true, ni_c (show k < 2147483648 by omega), km.2 52 (by decide) (by decide) (by decide), hq k (by omega), e1, ob_s]
  have hcs := cn_s (fun i => loP σ W T (p i)) k
  by_cases cl : loP σ W T (p k)
  · rw [if_neg (by rw [cI_t cl]; decide)]
    rw [cI_t cl] at hcs
    exact ih _ ⟨k + 1, σ1, by omega, by rw [nI_succ k, hcs], k1⟩ hm
  · rw [if_pos (cI_f cl)]
    rw [cI_f cl] at hcs
    exact ih _ ⟨k + 1, σ1, by omega, by rw [nI_succ k, hcs], k1⟩ hm
theorem lost_m112 (hF : 1000 ≤ F) {W : Nat → Int32} {T n : Nat} {p : Nat → Nat} (hn : n ≤ 100) (hw : ∀ i, i < n → LW F τ σ W T (p i)) (hq : ∀ i, i < n → σ.2 52 i = nI (p i)) (K : Int32 × Int32 × MS → Option (Int32 × MS)) (x4 x5 d : Int32) {σ0 : MS} (km0 : Km σ σ0) :
    ∃ b σ2, lp (m_lost_B112 F K (nI n) x4 x5 d) F (0, 0, σ0) = K (nI (cn (fun i => loP σ W T (p i) ∧ wbP σ W T d (p i)) n), b, σ2) ∧ Km σ σ2 := by
  refine lp_to (fun a => ∃ (k : Nat) (σ' : MS), k ≤ n ∧ a = (nI (cn (fun i => loP σ W T (p i) ∧ wbP σ W T d (p i)) k), nI k, σ') ∧ Km σ σ') (fun a => n - cN a.2.1) (fun o => ∃ b σ2, o = K (nI (cn (fun i => loP σ W T (p i) ∧ wbP σ W T d (p i)) n), b, σ2) ∧ Km σ σ2) ?_ F _ ⟨0, σ0, by omega, rfl, km0⟩ (by show n - cN 0 < F; omega)
  intro RX a hi ih
  obtain ⟨k, σ', hk, rfl, km⟩ := hi
  unfold m_lost_B112
  simp only [Int32.le_iff_toInt_le, ni_i (show k < 2147483648 by omega), ni_i (show n < 2147483648 by omega)]
  by_cases hend : k = n
  · subst hend
    rw [if_pos (by omega)]
    exact ⟨_, σ', rfl, km⟩
  rw [if_neg (by omega)]
  obtain ⟨a, ha, -, -, w1, w2⟩ := hw k (by omega)
  obtain ⟨σ1, e1, k1⟩ := w1 σ' km
  obtain ⟨σ2, e2, k2⟩ := w2 σ1 k1 d
  have hm : n - cN (nI k + 1) < n - cN (nI k) := by rw [← nI_succ, cN_nI (by omega), cN_nI (by omega)]; omega
  simp only [okI_nI (show k < 100 by omega) (show 100 < 2147483648 by omega), if_true, ni_c (show k < 2147483648 by omega), km.2 52 (by decide) (by decide) (by decide), k1.2 52 (by decide) (by decide) (by decide), hq k (by omega), e1, ob_s, e2]
  have hcs := cn_s (fun i => loP σ W T (p i) ∧ wbP σ W T d (p i)) k
  by_cases cl : loP σ W T (p k)
  · rw [if_neg (by rw [cI_t cl]; decide)]
    by_cases cw : wbP σ W T d (p k)
    · rw [if_neg (by rw [cI_t cw]; decide)]
      rw [cI_t ⟨cl, cw⟩] at hcs
      exact ih _ ⟨k + 1, σ2, by omega, by rw [nI_succ k, hcs], k2⟩ hm
    · rw [if_pos (cI_f cw)]
      rw [cI_f (fun y => cw y.2)] at hcs
      exact ih _ ⟨k + 1, σ2, by omega, by rw [nI_succ k, hcs], k2⟩ hm
  · rw [if_pos (cI_f cl)]
    rw [cI_f (fun y => cl y.1)] at hcs
    exact ih _ ⟨k + 1, σ1, by omega, by rw [nI_succ k, hcs], k1⟩ hm
end LOST3
