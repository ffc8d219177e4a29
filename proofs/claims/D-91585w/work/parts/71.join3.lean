section JOIN3
variable {F : Nat} {τ : XS} {σ : MS}
theorem join_x38 (hF : 1000 ≤ F) (h : R τ σ) {N T n : Nat} (hn : n ≤ 8) (hN : σ.1 57 = nI N) (hNb : N ≤ 150) (hT : σ.1 68 = nI T) (hTb : T ≤ 60) {W : Nat → Int32} (hW : ∀ f, f < N → ∀ τ', Kjx τ τ' → ∀ a, τ.2.1 7 f = some a → ∃ τ2, x0_wanted F a τ' = some (W f, τ2, 1, 6) ∧ Kx τ' τ2) {p : Nat → Nat} (hp : ∀ i, i < n → p i < N) (hq : ∀ i, i < n → τ.1.2 9 i = nI (p i)) (K : Int32 × XS → XR Int32) :
    ∀ (fu k : Nat) (τ' : XS), k ≤ n → n - k < fu → Kjx τ τ' → (∀ i', i' < k → ∀ y, y < T → τ'.1.2 (11 + i') y = nI (jnp σ W p i' y)) → ∃ b τ2 c s, lp (x0_join_B38 F K (nI n)) fu (nI k, τ') = tk c s (K (b, τ2)) ∧ Kjx τ τ2 ∧ (∀ i', i' < n → ∀ y, y < T → τ2.1.2 (11 + i') y = nI (jnp σ W p i' y)) ∧ c ≤ n - k ∧ s ≤ 6 * (n - k) := by
  intro fu
  induction fu with
  | zero => intro k τ' _ h; omega
  | succ fu ih =>
    intro k τ' hk hfu kj hd
    rw [lp_s]
    generalize lp (x0_join_B38 F K (nI n)) fu = RR at ih ⊢
    unfold x0_join_B38
    simp only [Int32.le_iff_toInt_le, ni_i (show k < 2147483648 by omega), ni_i (show n < 2147483648 by omega)]
    by_cases hend : k = n
    · subst hend
      rw [if_pos (by omega)]
      exact ⟨_, τ', 0, 0, (tk_00 _).symm, kj, hd, by omega, by omega⟩
    rw [if_neg (by omega)]
    have hpk := hp k (by omega)
    obtain ⟨a, ha, -⟩ := finds_r h hN hNb hpk
    have e9 : τ'.1.2 9 k = nI (p k) := by rw [kj.2.1 9 (by omega) (by omega)]; exact hq k (by omega)
    have e7 : τ'.2.1 7 (p k) = some a := by rw [kj.2.2.1]; exact ha
    obtain ⟨τ1, w1, w2⟩ := hW (p k) hpk τ' kj a ha
    have kj1 := kj.tr w2
    simp only [okI_nI (show k < 100 by omega) (show 100 < 2147483648 by omega), if_true, ni_c (show k < 2147483648 by omega), e9, okI_nI (show p k < 150 by omega) (show 150 < 2147483648 by omega), ni_c (show p k < 2147483648 by omega), e7, ob_s, w1]
    obtain ⟨b, τ2, q1, q2, q3⟩ := join_x65 (W := W) (p := p) hF h hN hNb hT hTb (show k < 8 by omega) hpk ha (fun a1 => RR (nI k + 1, a1.2)) (nI n) kj1 (fun i' hi' y hy => by rw [w2.1]; exact hd i' hi' y hy)
    obtain ⟨b', τ3, c, s, r1, r2, r3, r4, r5⟩ := ih (k + 1) τ2 (by omega) (by omega) q2 q3
    refine ⟨b', τ3, 1 + c, 6 + s, ?_, r2, r3, by omega, by omega⟩
    rw [q1, ← nI_succ, r1, tk_tk]
theorem join_m45 (hF : 1000 ≤ F) (h : R τ σ) {N T : Nat} (hN : σ.1 57 = nI N) (hNb : N ≤ 150) (hT : σ.1 68 = nI T) (hTb : T ≤ 60) {W : Nat → Int32} (hW : ∀ f, f < N → ∀ σ', Kj σ σ' → ∀ t, t < 60 → ∃ σ2, m_couldBe F (nI f) (nI t) σ' = some (bI (lkP σ W f t), σ2) ∧ Km σ' σ2) {p : Nat → Nat} {i : Nat} (hi : i < 8) (hp : p i < N) (hq : σ.2 52 i = nI (p i)) (K : Int32 × MS → Option (Int32 × MS)) (x1 : Int32) {σ0 : MS} (k0 : Kj σ σ0) (hd : ∀ i', i' < i → ∀ y, y < T → (σ0.2 57 (60 * i' + y)).toInt = jnm σ W p i' y) :
    ∃ b σ2, lp (m_join_B45 F K x1 (nI i)) F (0, σ0) = K (b, σ2) ∧ Kj σ σ2 ∧ ∀ i', i' < i + 1 → ∀ y, y < T → (σ2.2 57 (60 * i' + y)).toInt = jnm σ W p i' y := by
  obtain ⟨a', -, -, fb0, fb1⟩ := finds_r h hN hNb hp
  refine lp_to (fun c => ∃ (k : Nat) (σ' : MS), k ≤ T ∧ c = (nI k, σ') ∧ Kj σ σ' ∧ (∀ i', i' < i → ∀ y, y < T → (σ'.2 57 (60 * i' + y)).toInt = jnm σ W p i' y) ∧ ∀ y, y < k → (σ'.2 57 (60 * i + y)).toInt = jnm σ W p i y) (fun c => T - cN c.1) (fun o => ∃ b σ2, o = K (b, σ2) ∧ Kj σ σ2 ∧ ∀ i', i' < i + 1 → ∀ y, y < T → (σ2.2 57 (60 * i' + y)).toInt = jnm σ W p i' y) ?_ F _ ⟨0, σ0, by omega, rfl, k0, hd, fun y hy => by omega⟩ (by show T - cN 0 < F; omega)
  intro RX c hc ih
  obtain ⟨k, σ', hk, rfl, kj, hd', hy'⟩ := hc
  have e68 : σ'.1 68 = nI T := by rw [kj.1]; exact hT
  unfold m_join_B45
  simp only [e68, Int32.le_iff_toInt_le, ni_i (show k < 2147483648 by omega), ni_i (show T < 2147483648 by omega)]
  by_cases hend : k = T
  · subst hend
    rw [if_pos (by omega)]
    refine ⟨_, σ', rfl, kj, fun i' hi' y hy => ?_⟩
    by_cases hii : i' = i
    · rw [hii]; exact hy' y hy
    · exact hd' i' (by omega) y hy
  rw [if_neg (by omega)]
  obtain ⟨b, -, -, t0, t1⟩ := things_r h hT hTb (show k < T by omega)
  have ek : ∀ j, ¬ j = 37 → ¬ j = 38 → ¬ j = 39 → ¬ j = 54 → ¬ j = 56 → ¬ j = 57 → σ'.2 j = σ.2 j := kj.2
  obtain ⟨σ1, w1, w2⟩ := hW (p i) hp σ' kj k (by omega)
  have kj1 := kj.tr w2
  have hgo : ∀ (σ3 : MS) (v : Int32), Kj σ σ3 → σ3.2 57 = σ'.2 57 → v.toInt = jnm σ W p i k → ∃ b σ2, RX (nI k + 1, sA σ3 57 (60 * i + k) v) = K (b, σ2) ∧ Kj σ σ2 ∧ ∀ i', i' < i + 1 → ∀ y, y < T → (σ2.2 57 (60 * i' + y)).toInt = jnm σ W p i' y := by
    intro σ3 v k3 e3 hv
    have e57 : (sA σ3 57 (60 * i + k) v).2 57 = upd (σ'.2 57) (60 * i + k) v := by
      show upd (σ3.2 57) (60 * i + k) v = _
      rw [e3]
    refine ih _ ⟨k + 1, sA σ3 57 (60 * i + k) v, by omega, by rw [nI_succ], k3.a (Or.inr (Or.inr rfl)) _ v, fun i' hi' y hy => ?_, fun y hy => ?_⟩ ?_
    · rw [e57, show upd (σ'.2 57) (60 * i + k) v (60 * i' + y) = σ'.2 57 (60 * i' + y) from if_neg (by omega)]
      exact hd' i' hi' y hy
    · rw [e57]
      by_cases hyk : y = k
      · rw [hyk, show upd (σ'.2 57) (60 * i + k) v (60 * i + k) = v from if_pos rfl, hv]
      · rw [show upd (σ'.2 57) (60 * i + k) v (60 * i + y) = σ'.2 57 (60 * i + y) from if_neg (by omega)]
        exact hy' y (by omega)
    · show T - cN (nI k + 1) < T - cN (nI k)
      rw [← nI_succ, cN_nI (by omega), cN_nI (by omega)]
      omega
  have ix : (60 : Int32) * nI i + nI k = nI (60 * i + k) := by rw [show (60 : Int32) = nI 60 from rfl, ni_mul, ni_add]
  have e52 := ek 52 (by decide) (by decide) (by decide) (by decide) (by decide) (by decide)
  have e55 := ek 55 (by decide) (by decide) (by decide) (by decide) (by decide) (by decide)
  have f52 : σ1.2 52 = σ.2 52 := (w2.2 52 (by decide) (by decide) (by decide)).trans e52
  have f47 : σ1.2 47 = σ.2 47 := (w2.2 47 (by decide) (by decide) (by decide)).trans (ek 47 (by decide) (by decide) (by decide) (by decide) (by decide) (by decide))
  have f51 : σ1.2 51 = σ.2 51 := (w2.2 51 (by decide) (by decide) (by decide)).trans (ek 51 (by decide) (by decide) (by decide) (by decide) (by decide) (by decide))
  have hj0 : ¬ jnl σ W p i k → (-1 : Int32).toInt = jnm σ W p i k := by
    intro q
    rw [jnm, if_neg q]
    exact li_m1
  have han := ag_n ⟨fb0, fb1⟩ ⟨t0, t1⟩
  have hj1 : jnl σ W p i k → (agV (σ.2 47 (p i) ^^^ σ.2 51 k)).toInt = jnm σ W p i k := by
    intro q
    rw [jnm, if_pos q, jna, han.1, ni_i (by omega), ← han.1]
  simp only [m_isLike, okI_nI (show i < 100 by omega) (show 100 < 2147483648 by omega), okI_nI (show k < 60 by omega) (show 60 < 2147483648 by omega), if_true, ni_c (show k < 2147483648 by omega), ni_c (show i < 2147483648 by omega), e52, e55, hq, w1, ob_s, bI_0, ite_not, ix, okI_nI (show 60 * i + k < 480 by omega) (show 480 < 2147483648 by omega), ni_c (show 60 * i + k < 2147483648 by omega), nx_e]
  by_cases c1 : σ.2 55 k = 0
  · rw [if_pos c1]
    by_cases c2 : lkP σ W (p i) k
    · rw [if_pos c2]
      simp only [ob_s, if_neg (show ¬ (1 : Int32) = 0 by decide), f52, hq, agreeing_e hF (show p i < 150 by omega) (show k < 60 by omega), f47, f51]
      exact hgo σ1 _ kj1 (w2.2 57 (by decide) (by decide) (by decide)) (hj1 ⟨c1, c2⟩)
    · rw [if_neg c2]
      simp only [ob_s, if_true]
      exact hgo σ1 _ kj1 (w2.2 57 (by decide) (by decide) (by decide)) (hj0 (fun q => c2 q.2))
  · rw [if_neg c1]
    simp only [ob_s, if_true]
    exact hgo σ' _ kj rfl (hj0 (fun q => c1 q.1))
theorem join_m38 (hF : 1000 ≤ F) (h : R τ σ) {N T n : Nat} (hn : n ≤ 8) (hN : σ.1 57 = nI N) (hNb : N ≤ 150) (hT : σ.1 68 = nI T) (hTb : T ≤ 60) {W : Nat → Int32} (hW : ∀ f, f < N → ∀ σ', Kj σ σ' → ∀ t, t < 60 → ∃ σ2, m_couldBe F (nI f) (nI t) σ' = some (bI (lkP σ W f t), σ2) ∧ Km σ' σ2) {p : Nat → Nat} (hp : ∀ i, i < n → p i < N) (hq : ∀ i, i < n → σ.2 52 i = nI (p i)) (K : Int32 × MS → Option (Int32 × MS)) :
    ∃ b σ2, lp (m_join_B38 F K (nI n)) F (0, σ) = K (b, σ2) ∧ Kj σ σ2 ∧ ∀ i', i' < n → ∀ y, y < T → (σ2.2 57 (60 * i' + y)).toInt = jnm σ W p i' y := by
  refine lp_to (fun c => ∃ (k : Nat) (σ' : MS), k ≤ n ∧ c = (nI k, σ') ∧ Kj σ σ' ∧ ∀ i', i' < k → ∀ y, y < T → (σ'.2 57 (60 * i' + y)).toInt = jnm σ W p i' y) (fun c => n - cN c.1) (fun o => ∃ b σ2, o = K (b, σ2) ∧ Kj σ σ2 ∧ ∀ i', i' < n → ∀ y, y < T → (σ2.2 57 (60 * i' + y)).toInt = jnm σ W p i' y) ?_ F _ ⟨0, σ, by omega, rfl, Kj.rf, fun i' hi' => by omega⟩ (by show n - cN 0 < F; omega)
  intro RX c hc ih
  obtain ⟨k, σ', hk, rfl, kj, hd⟩ := hc
  unfold m_join_B38
  simp only [Int32.le_iff_toInt_le, ni_i (show k < 2147483648 by omega), ni_i (show n < 2147483648 by omega)]
  by_cases hend : k = n
  · subst hend
    rw [if_pos (by omega)]
    exact ⟨_, σ', rfl, kj, hd⟩
  rw [if_neg (by omega)]
  obtain ⟨b, σ2, q1, q2, q3⟩ := join_m45 (p := p) hF h hN hNb hT hTb hW (show k < 8 by omega) (hp k (by omega)) (hq k (by omega)) (fun a1 => RX (nI k + 1, a1.2)) (nI n) kj hd
  rw [q1]
  refine ih _ ⟨k + 1, σ2, by omega, by rw [nI_succ], q2, q3⟩ ?_
  show n - cN (nI k + 1) < n - cN (nI k)
  rw [← nI_succ, cN_nI (by omega), cN_nI (by omega)]
  omega
theorem join_m107 (hF : 1000 ≤ F) (K : Int32 × MS → Option (Int32 × MS)) (x1 : Int32) {σ0 : MS} (k0 : Kj σ σ0) :
    ∃ b σ2, lp (m_join_B107 F K x1) F (0, σ0) = K (b, σ2) ∧ Kj σ σ2 ∧ σ2.2 57 = σ0.2 57 ∧ ∀ y, y < 60 → σ2.2 56 y = 0 := by
  refine lp_to (fun c => ∃ (k : Nat) (σ' : MS), k ≤ 60 ∧ c = (nI k, σ') ∧ Kj σ σ' ∧ σ'.2 57 = σ0.2 57 ∧ ∀ y, y < k → σ'.2 56 y = 0) (fun c => 60 - cN c.1) (fun o => ∃ b σ2, o = K (b, σ2) ∧ Kj σ σ2 ∧ σ2.2 57 = σ0.2 57 ∧ ∀ y, y < 60 → σ2.2 56 y = 0) ?_ F _ ⟨0, σ0, by omega, rfl, k0, rfl, fun y hy => by omega⟩ (by show 60 - cN 0 < F; omega)
  intro RX c hc ih
  obtain ⟨k, σ', hk, rfl, kj, e57, hz⟩ := hc
  unfold m_join_B107
  simp only [Int32.le_iff_toInt_le, ni_i (show k < 2147483648 by omega), li_60]
  by_cases hend : k = 60
  · subst hend
    rw [if_pos (by omega)]
    exact ⟨_, σ', rfl, kj, e57, hz⟩
  rw [if_neg (by omega)]
  simp only [okI_nI (show k < 60 by omega) (show 60 < 2147483648 by omega), if_true, ni_c (show k < 2147483648 by omega), nx_e, show vp_nar .boolean 0 = 0 from rfl]
  refine ih _ ⟨k + 1, _, by omega, by rw [nI_succ], kj.a (Or.inr (Or.inl rfl)) _ _, e57, fun y hy => ?_⟩ ?_
  · by_cases hyk : y = k
    · exact if_pos hyk
    · exact (if_neg hyk).trans (hz y (by omega))
  · show 60 - cN (nI k + 1) < 60 - cN (nI k)
    rw [← nI_succ, cN_nI (by omega), cN_nI (by omega)]
    omega
end JOIN3
