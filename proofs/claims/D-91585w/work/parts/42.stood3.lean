theorem srch (P : Nat → Prop) (p : Nat) : ∀ la, p ≤ la → ∃ q, p ≤ q ∧ q ≤ la ∧ (∀ k, p ≤ k → k < q → ¬ P k) ∧ (q = la ∨ P q) := by
  intro la
  induction la with
  | zero => intro hp; exact ⟨0, by omega, by omega, fun k h1 h2 => by omega, Or.inl rfl⟩
  | succ la ih =>
    intro hp
    by_cases hpl : p = la + 1
    · exact ⟨la + 1, by omega, by omega, fun k h1 h2 => by omega, Or.inl rfl⟩
    · obtain ⟨q, h1, h2, h3, h4⟩ := ih (by omega)
      by_cases hq : P q
      · exact ⟨q, h1, by omega, h3, Or.inr hq⟩
      · rcases h4 with h4 | h4
        · subst h4
          refine ⟨q + 1, by omega, by omega, fun k k1 k2 => ?_, Or.inl rfl⟩
          by_cases hkq : k = q
          · rw [hkq]; exact hq
          · exact h3 k k1 (by omega)
        · exact absurd h4 hq
section STOOD3
variable {F : Nat} {τ : XS} {σ : MS}
theorem R.lk (h : R τ σ) (f : Nat → Option Nat) (g : Nat → Int32) : R (lkX τ f) (aS σ 64 g) := by
  have h2 := h.new (.inl (11, 100, .inr (.inr (.inr (.inr f)))))
  exact ⟨h2.s, h2.a, h2.sc, h2.pl, h2.dg, h2.me, h2.ru, h2.fi, h2.th, h2.wa, h2.dr, h2.si, h2.wo, h2.as, h2.wf⟩
theorem op_stood (hF : 200 ≤ F) (h : R τ σ) (x1 x2 x3 x4 : Int32) : Op σ (x0_stood F x1 x2 x3 x4 τ) (m_stood F x1 x2 x3 x4 σ) := by
  obtain ⟨N, hN, hNb⟩ := h.dr.1
  unfold x0_stood m_stood
  simp only [x0_in_e, x0_isWeek_e, m_isWall_e, m_in_e, m_isWeek_e, ob_s, bI_0, ite_not, h.e26, nx_e]
  simp only [li_0, li_7, li_8, li_3, li_4]
  by_cases c1 : ¬ (0 ≤ x1.toInt ∧ x1.toInt < (σ.1 79).toInt)
  · rw [if_neg c1, if_neg c1]
    exact Op.same h rfl rfl
  replace c1 := Classical.not_not.mp c1
  rw [if_pos c1, if_pos c1]
  by_cases c2 : ¬ (0 ≤ x2.toInt ∧ x2.toInt < 8)
  · rw [if_neg c2, if_neg (show ¬ (0 ≤ x2.toInt ∧ x2.toInt ≤ 7) by omega)]
    exact Op.same h rfl rfl
  replace c2 := Classical.not_not.mp c2
  rw [if_pos c2, if_pos (show 0 ≤ x2.toInt ∧ x2.toInt ≤ 7 by omega)]
  by_cases c3 : ¬ (0 ≤ x3.toInt ∧ x3.toInt < 10000)
  · rw [if_neg c3, if_neg (show ¬ (0 ≤ x3.toInt ∧ x3.toInt ≤ 9999) by omega)]
    exact Op.same h rfl rfl
  replace c3 := Classical.not_not.mp c3
  rw [if_pos c3, if_pos (show 0 ≤ x3.toInt ∧ x3.toInt ≤ 9999 by omega)]
  by_cases c4 : ¬ (0 ≤ x4.toInt ∧ x4.toInt < 4)
  · rw [if_neg c4, if_neg (show ¬ (0 ≤ x4.toInt ∧ x4.toInt ≤ 3) by omega)]
    exact Op.same h rfl rfl
  replace c4 := Classical.not_not.mp c4
  rw [if_pos c4, if_pos (show 0 ≤ x4.toInt ∧ x4.toInt ≤ 3 by omega)]
  obtain ⟨n, f, g, dk, hX, hM, hL, hn⟩ := looks_j hF h hN hNb x1 x2 x3 x4 F 0 0 (fun _ => none) (σ.2 64) id (by omega) (by omega) (fun k hk => by omega) (by omega)
  have hX' : ∀ K, lp (x0_stood_B51 F K x1 x2 x3 x4 τ.2.2.2.2) F (0, 0, xN τ (.inl (11, 100, .inr (.inr (.inr (.inr (fun _ => none))))))) = K (nI n, nI N, lkX τ f) := hX
  have hM' : m_looksAt F x1 x3 σ = some (nI n, aS σ 64 g) := by
    rw [aS_id] at hM
    exact hM
  have hR := h.lk f g
  have done : ∀ v : Int32, Op σ (tk 1 100 (some (v, lkX τ f, 0, 0))) (some (v, aS σ 64 g)) := fun v => Op.mk (tk_s _ _ _ _ _ _) rfl hR (Nat.le_succ _) (by decide) (by decide)
  rw [hX']
  simp only [hM', ob_s]
  obtain ⟨la, ea, hS, hK⟩ := st_m54 (F := F) (σ := σ) hF hNb hn hL x2 x4
  rw [hK]
  have e64 : ∀ f, (aS σ 64 f).2 64 = f := fun f => rfl
  have e61 : ∀ f, (aS σ 64 f).2 61 = σ.2 61 := fun f => rfl
  rcases hS with ⟨rfl, rfl, hno⟩ | ⟨l, e, hl, hel, rfl, rfl, hsl, hse, he, hlq⟩
  · rw [st_x162 hF h hN hNb hn hL x2 x4 (Nat.le_refl n) hno (Or.inl rfl)]
    unfold x0_stood_187
    rw [if_pos rfl, if_pos rfl]
    exact done _
  · rw [st_x162 hF h hN hNb hn hL x2 x4 (show e ≤ n by omega) he (Or.inr hse)]
    have hne : ¬ nI l = -1 := by
      rw [i_eq, ni_i (by omega), li_m1]
      omega
    have hen : ¬ nI e = nI n := fun q => by have := ni_inj (by omega) (by omega) q; omega
    rw [if_neg hne]
    unfold x0_stood_187
    rw [if_neg hen, st_x202 hF h hN hNb hn hL x2 x4 _ _ hl hlq hsl]
    obtain ⟨al, l1, l2, l3, l4, l5⟩ := lk_at (F := F) h hN hNb hL (k := l) hl
    obtain ⟨ld1, ld2, ld3⟩ := hL l hl
    by_cases w0 : x4 = 0
    · rw [if_pos w0, if_pos w0]
      simp only [lkX_gB, ob_s, okI_nI (show l < 100 by omega) (show 100 < 2147483648 by omega), if_true, ni_c (show l < 2147483648 by omega), l1, l4, e64, e61, ld2, okI_nI (show dk l < 100 by omega) (show 100 < 2147483648 by omega), ni_c (show dk l < 2147483648 by omega)]
      exact done _
    rw [if_neg w0, if_neg w0]
    by_cases w1 : x4 = 1
    · rw [if_pos w1, if_pos w1]
      simp only [← nI_succ, Int32.le_iff_toInt_le, ni_i (show n < 2147483648 by omega), ni_i (show l + 1 < 2147483648 by omega)]
      by_cases w2 : (n : Int) ≤ ((l + 1 : Nat) : Int)
      · rw [if_pos w2, if_pos w2]
        exact done _
      · rw [if_neg w2, if_neg w2]
        obtain ⟨am, m1, m2, m3, m4, m5⟩ := lk_at (F := F) h hN hNb hL (k := l + 1) (by omega)
        obtain ⟨md1, md2, md3⟩ := hL (l + 1) (by omega)
        simp only [lkX_gB, ob_s, okI_nI (show l + 1 < 100 by omega) (show 100 < 2147483648 by omega), if_true, ni_c (show l + 1 < 2147483648 by omega), m1, m4, e64, e61, md2, okI_nI (show dk (l + 1) < 100 by omega) (show 100 < 2147483648 by omega), ni_c (show dk (l + 1) < 2147483648 by omega)]
        exact done _
    rw [if_neg w1, if_neg w1]
    obtain ⟨q, q1, q2, q3, q4⟩ := srch (fun k => ¬ shw σ dk x2 k) e l hel
    have q3' : ∀ k, e ≤ k → k < q → shw σ dk x2 k := fun k k1 k2 => Classical.not_not.mp (q3 k k1 k2)
    rw [st_x268 hF h hN hNb hn hL x2 x4 q1 q2 hl q3' q4, st_m163 hF hNb hn hL x2 x4 q1 q2 hl q3' q4]
    unfold x0_stood_293 m_stood_189
    simp only [Int32.lt_iff_toInt_lt, ni_i (show q < 2147483648 by omega), ni_i (show l < 2147483648 by omega)]
    by_cases hql : q = l
    · subst hql
      rw [if_neg (by omega), if_pos rfl]
      exact done _
    · rw [if_pos (by omega), if_neg (fun z => hql (ni_inj (by omega) (by omega) z))]
      have hsq : ¬ shw σ dk x2 q := by
        rcases q4 with q4 | q4
        · exact absurd q4 hql
        · exact q4
      obtain ⟨r, r1, r2, r3, r4⟩ := srch (shw σ dk x2) q l (by omega)
      have r4' : shw σ dk x2 r := by
        rcases r4 with r4 | r4
        · rw [r4]; exact hsl
        · exact r4
      rw [st_m202 hF hNb hn hL x2 x4 _ r1 (by omega) r3 r4', st_x321 hF h hN hNb hn hL x2 r1 (by omega) r3 r4']
      obtain ⟨aq, n1, n2, n3, n4, n5⟩ := lk_at (F := F) h hN hNb hL (k := q) (by omega)
      obtain ⟨nd1, nd2, nd3⟩ := hL q (by omega)
      obtain ⟨rd1, rd2, rd3⟩ := hL r (by omega)
      by_cases w2 : x4 = 2
      · rw [if_pos w2, if_pos w2]
        simp only [lkX_gB, ob_s, okI_nI (show q < 100 by omega) (show 100 < 2147483648 by omega), if_true, ni_c (show q < 2147483648 by omega), n1, n3, e64, nd2]
        exact done _
      · rw [if_neg w2, if_neg w2]
        simp only [okI_nI (show r < 100 by omega) (show 100 < 2147483648 by omega), if_true, ni_c (show r < 2147483648 by omega), e64, rd2]
        exact done _
end STOOD3
