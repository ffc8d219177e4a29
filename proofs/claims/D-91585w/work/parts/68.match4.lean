/-! the reference's table -/
theorem fm_z (old p : Nat → Int) : ∀ n, fm old p 0 n = old 0
  | 0 => rfl
  | n + 1 => by rw [fm, if_neg (by simp), fm_z old p n]
def mxs (g : Nat → Int) : Nat → Int
  | 0 => 0
  | s + 1 => if g s ≤ mxs g s then mxs g s else g s
theorem mxs_le (g : Nat → Int) : ∀ n, 0 ≤ mxs g n ∧ ∀ s, s < n → g s ≤ mxs g n
  | 0 => ⟨Int.le_refl _, fun s hs => by omega⟩
  | n + 1 => by
    obtain ⟨h1, h2⟩ := mxs_le g n
    have h3 : mxs g n ≤ mxs g (n + 1) ∧ g n ≤ mxs g (n + 1) := by
      rw [mxs]
      split <;> omega
    refine ⟨by omega, fun s hs => ?_⟩
    by_cases hsn : s = n
    · rw [hsn]; exact h3.2
    · have := h2 s (by omega)
      omega
theorem mxs_at (g : Nat → Int) : ∀ n, mxs g n = 0 ∨ ∃ s, s < n ∧ mxs g n = g s
  | 0 => Or.inl rfl
  | n + 1 => by
    rw [mxs]
    split
    · rcases mxs_at g n with h | ⟨s, h1, h2⟩
      · exact Or.inl h
      · exact Or.inr ⟨s, by omega, h2⟩
    · exact Or.inr ⟨n, by omega, rfl⟩
section MATCH4
variable {F : Nat} {σ : MS}
theorem best_9 (hF : 1000 ≤ F) {w : Nat} (hw : w ≤ 8) (K : Int32 × MS → Option (Int32 × MS)) (x1 x2 : Int32) (f : Nat → Int32) : ∃ b g, lp (m_bestFrom_B9 F K x1 x2 (nI (2 ^ w))) F (0, aS σ 54 f) = K (b, aS σ 54 g) ∧ ∀ s, s < 2 ^ w → (g s).toInt = if s = 0 then 0 else -1 := by
  obtain ⟨p1, p2⟩ := pw8 hw
  refine lp_to (fun a => ∃ (k : Nat) (g : Nat → Int32), k ≤ 2 ^ w ∧ a = (nI k, aS σ 54 g) ∧ ∀ s, s < k → (g s).toInt = if s = 0 then 0 else -1) (fun a => 2 ^ w - cN a.1) (fun o => ∃ b g, o = K (b, aS σ 54 g) ∧ ∀ s, s < 2 ^ w → (g s).toInt = if s = 0 then 0 else -1) ?_ F _ ⟨0, f, by omega, rfl, fun s hs => by omega⟩ (by show 2 ^ w - cN 0 < F; omega)
  intro RX a hi ih
  obtain ⟨k, g, hk, rfl, hg⟩ := hi
  unfold m_bestFrom_B9
  simp only [Int32.le_iff_toInt_le, ni_i (show k < 2147483648 by omega), ni_i (show 2 ^ w < 2147483648 by omega)]
  by_cases hend : k = 2 ^ w
  · rw [if_pos (by omega)]
    exact ⟨_, g, rfl, fun s hs => hg s (by omega)⟩
  rw [if_neg (by omega)]
  simp only [okI_nI (show k < 256 by omega) (show 256 < 2147483648 by omega), if_true, nx_e, ni_c (show k < 2147483648 by omega), sA_aS, show (0 : Int32) = nI 0 from rfl, ni_ii (show k < 2147483648 by omega) (show 0 < 2147483648 by omega)]
  have hgo : ∀ v : Int32, v.toInt = (if k = 0 then 0 else -1) → ∃ b g', RX (nI k + 1, aS σ 54 (upd g k v)) = K (b, aS σ 54 g') ∧ ∀ s, s < 2 ^ w → (g' s).toInt = if s = 0 then 0 else -1 := by
    intro v hv
    refine ih _ ⟨k + 1, upd g k v, by omega, by rw [nI_succ], fun s hs => ?_⟩ ?_
    · by_cases hsk : s = k
      · rw [show upd g k v s = v from if_pos hsk, hsk, hv]
      · rw [show upd g k v s = g s from if_neg hsk]
        exact hg s (by omega)
    · show 2 ^ w - cN (nI k + 1) < 2 ^ w - cN (nI k)
      rw [← nI_succ, cN_nI (by omega), cN_nI (by omega)]
      omega
  by_cases h0 : k = 0
  · rw [if_pos h0]
    exact hgo (nI 0) (by rw [if_pos h0]; rfl)
  · rw [if_neg h0]
    exact hgo (-1) (by rw [if_neg h0]; rfl)
theorem best_73 (hF : 1000 ≤ F) {fi n T x : Nat} (hn : n ≤ 8) (hfi : fi ≤ n) (hx : x < 60) {pr : Nat → Nat → Int} (hpr : ∀ i, i < n → (σ.2 57 (60 * i + x)).toInt = pr i x ∧ -1 ≤ pr i x ∧ pr i x ≤ 8) (K : Int32 × MS → Option (Int32 × MS)) (x3 : Int32) {old : Nat → Int} (hold : ∀ s, s < 256 → -1 ≤ old s ∧ old s ≤ 9000) {s : Nat} (hs0 : 0 < s) (hs : s < 2 ^ (n - fi)) (f : Nat → Int32) (hf : ∀ s', s' ≤ s → (f s').toInt = old s') :
    ∃ b g, lp (m_bestFrom_B73 F K (nI fi) (nI n) x3 (nI x) (nI s)) F (0, aS σ 54 f) = K (b, aS σ 54 g) ∧ (g s).toInt = fm old (fun i => pr (fi + i) x) s (n - fi) ∧ ∀ s', ¬ s' = s → g s' = f s' := by
  obtain ⟨p1, p2⟩ := pw8 (show n - fi ≤ 8 by omega)
  refine lp_to (fun a => ∃ (i : Nat) (g : Nat → Int32), i ≤ n - fi ∧ a = (nI i, aS σ 54 g) ∧ (g s).toInt = fm old (fun i => pr (fi + i) x) s i ∧ ∀ s', ¬ s' = s → g s' = f s') (fun a => n - fi - cN a.1) (fun o => ∃ b g, o = K (b, aS σ 54 g) ∧ (g s).toInt = fm old (fun i => pr (fi + i) x) s (n - fi) ∧ ∀ s', ¬ s' = s → g s' = f s') ?_ F _ ⟨0, f, by omega, rfl, hf s (Nat.le_refl _), fun _ _ => rfl⟩ (by show n - fi - cN 0 < F; omega)
  intro RX a hi ih
  obtain ⟨i, g, hin, rfl, hg1, hg2⟩ := hi
  unfold m_bestFrom_B73
  have e54 : ∀ f, (aS σ 54 f).2 54 = f := fun _ => rfl
  have e57 : ∀ f, (aS σ 54 f).2 57 = σ.2 57 := fun _ => rfl
  simp only [sb_n hfi, Int32.le_iff_toInt_le, ni_i (show i < 2147483648 by omega), ni_i (show n - fi < 2147483648 by omega)]
  by_cases hend : i = n - fi
  · subst hend
    rw [if_pos (by omega)]
    exact ⟨_, g, rfl, hg1, hg2⟩
  rw [if_neg (by omega), zz_2 (show s < 256 by omega) (show i < 8 by omega)]
  have hm : n - fi - cN (nI i + 1) < n - fi - cN (nI i) := by rw [← nI_succ, cN_nI (by omega), cN_nI (by omega)]; omega
  have hstay : ¬ (s.testBit i = true ∧ ¬ pr (fi + i) x = -1 ∧ ¬ old (s - 2 ^ i) = -1) → ∃ b g', RX (nI i + 1, aS σ 54 g) = K (b, aS σ 54 g') ∧ (g' s).toInt = fm old (fun i => pr (fi + i) x) s (n - fi) ∧ ∀ s', ¬ s' = s → g' s' = f s' := by
    intro hc
    refine ih _ ⟨i + 1, g, by omega, by rw [nI_succ], ?_, hg2⟩ hm
    rw [fm, if_neg hc]
    exact hg1
  by_cases hb : s.testBit i = true
  · rw [if_pos hb, if_neg (show ¬ (1 : Int32) = 0 by decide)]
    obtain ⟨-, c1⟩ := zz_1 (show s < 256 by omega) (show i < 8 by omega) hb
    have hle := (tb_cl (j := 0) (show s < 256 by omega) (show i < 8 by omega) hb).1
    have hpos : 0 < 2 ^ i := Nat.two_pow_pos i
    have hgo : (g (s - 2 ^ i)).toInt = old (s - 2 ^ i) := by
      rw [hg2 _ (by omega)]
      exact hf _ (by omega)
    have hob := hold (s - 2 ^ i) (by omega)
    obtain ⟨hp1, hp2, hp3⟩ := hpr (fi + i) (by omega)
    have ix : (60 : Int32) * (nI fi + nI i) + nI x = nI (60 * (fi + i) + x) := by rw [show (60 : Int32) = nI 60 from rfl, ni_add, ni_mul, ni_add]
    simp only [ix, okI_nI (show 60 * (fi + i) + x < 480 by omega) (show 480 < 2147483648 by omega), if_true, ni_c (show 60 * (fi + i) + x < 2147483648 by omega), e54, e57, c1, okI_nI (show s - 2 ^ i < 256 by omega) (show 256 < 2147483648 by omega), ni_c (show s - 2 ^ i < 2147483648 by omega), okI_nI (show s < 256 by omega) (show 256 < 2147483648 by omega), ni_c (show s < 2147483648 by omega), nx_e, sA_aS]
    generalize σ.2 57 (60 * (fi + i) + x) = av at *
    generalize hgv : g (s - 2 ^ i) = gv at *
    by_cases c2 : av = -1
    · rw [if_pos c2]
      refine hstay (fun q => q.2.1 ?_)
      rw [← hp1, c2, li_m1]
    rw [if_neg c2]
    have c2' : ¬ pr (fi + i) x = -1 := fun q => c2 (by rw [i_eq, hp1, q, li_m1])
    by_cases c3 : gv = -1
    · rw [if_pos c3]
      refine hstay (fun q => q.2.2 ?_)
      rw [← hgo, c3, li_m1]
    rw [if_neg c3]
    have c3' : ¬ old (s - 2 ^ i) = -1 := fun q => c3 (by rw [i_eq, hgo, q, li_m1])
    have a1 : (gv + 1000).toInt = old (s - 2 ^ i) + 1000 := by
      rw [i_add (by rw [hgo, li_1000]; omega) (by rw [hgo, li_1000]; omega), hgo, li_1000]
    have a2 : (gv + 1000 + av).toInt = old (s - 2 ^ i) + 1000 + pr (fi + i) x := by
      rw [i_add (by rw [a1, hp1]; omega) (by rw [a1, hp1]; omega), a1, hp1]
    have e : fm old (fun i => pr (fi + i) x) s (i + 1) = if old (s - 2 ^ i) + 1000 + pr (fi + i) x ≤ fm old (fun i => pr (fi + i) x) s i then fm old (fun i => pr (fi + i) x) s i else old (s - 2 ^ i) + 1000 + pr (fi + i) x := by
      rw [fm]
      exact if_pos ⟨hb, c2', c3'⟩
    simp only [a2, hg1]
    by_cases c4 : old (s - 2 ^ i) + 1000 + pr (fi + i) x ≤ fm old (fun i => pr (fi + i) x) s i
    · rw [if_pos c4]
      refine ih _ ⟨i + 1, upd g s (g s), by omega, by rw [nI_succ], ?_, fun s' hs' => (if_neg hs').trans (hg2 s' hs')⟩ hm
      rw [e, if_pos c4, show upd g s (g s) s = g s from if_pos rfl]
      exact hg1
    · rw [if_neg c4]
      refine ih _ ⟨i + 1, upd g s (gv + 1000 + av), by omega, by rw [nI_succ], ?_, fun s' hs' => (if_neg hs').trans (hg2 s' hs')⟩ hm
      rw [e, if_neg c4, show upd g s (gv + 1000 + av) s = gv + 1000 + av from if_pos rfl]
      exact a2
  · rw [if_neg hb, if_pos (rfl : (0 : Int32) = 0)]
    exact hstay (fun q => hb q.1)
theorem best_55 (hF : 1000 ≤ F) {fi n x : Nat} (hn : n ≤ 8) (hfi : fi ≤ n) (hx : x < 60) {pr : Nat → Nat → Int} (hpr : ∀ i, i < n → (σ.2 57 (60 * i + x)).toInt = pr i x ∧ -1 ≤ pr i x ∧ pr i x ≤ 8) (K : Int32 × MS → Option (Int32 × MS)) (x3 : Int32) {old : Nat → Int} (hold : ∀ s, s < 256 → -1 ≤ old s ∧ old s ≤ 9000) (hu : σ.2 56 x = 0) (f : Nat → Int32) (hf : ∀ s, s < 2 ^ (n - fi) → (f s).toInt = old s) :
    ∃ b g, lp (m_bestFrom_B55 F K (nI fi) (nI n) x3 (nI x)) F (nI (2 ^ (n - fi)) - 1, aS σ 54 f) = K (b, aS σ 54 g) ∧ ∀ s, s < 2 ^ (n - fi) → (g s).toInt = fm old (fun i => pr (fi + i) x) s (n - fi) := by
  obtain ⟨p1, p2⟩ := pw8 (show n - fi ≤ 8 by omega)
  refine lp_to (fun a => ∃ (k : Nat) (g : Nat → Int32), k < 2 ^ (n - fi) ∧ a = (nI k, aS σ 54 g) ∧ (∀ s, s ≤ k → (g s).toInt = old s) ∧ ∀ s, k < s → s < 2 ^ (n - fi) → (g s).toInt = fm old (fun i => pr (fi + i) x) s (n - fi)) (fun a => cN a.1) (fun o => ∃ b g, o = K (b, aS σ 54 g) ∧ ∀ s, s < 2 ^ (n - fi) → (g s).toInt = fm old (fun i => pr (fi + i) x) s (n - fi)) ?_ F _ ⟨2 ^ (n - fi) - 1, f, by omega, ?_, fun s hs => hf s (by omega), fun s h1 h2 => by omega⟩ (by
    show cN (nI (2 ^ (n - fi)) - 1) < F
    rw [show (1 : Int32) = nI 1 from rfl, sb_n p1, cN_nI (by omega)]
    omega)
  · intro RX a hi ih
    obtain ⟨k, g, hk, rfl, hg1, hg2⟩ := hi
    unfold m_bestFrom_B55
    have e56 : ∀ f, (aS σ 54 f).2 56 = σ.2 56 := fun _ => rfl
    simp only [Int32.le_iff_toInt_le, ni_i (show k < 2147483648 by omega), li_0]
    by_cases hend : k = 0
    · subst hend
      rw [if_pos (by omega)]
      refine ⟨_, g, rfl, fun s hs => ?_⟩
      by_cases hs0 : s = 0
      · subst hs0
        rw [fm_z]
        exact hg1 0 (Nat.le_refl _)
      · exact hg2 s (by omega) hs
    rw [if_neg (by omega)]
    obtain ⟨b, g', e1, e2, e3⟩ := best_73 (T := 0) hF hn hfi hx hpr (fun a1 => RX (nI k + (-1), a1.2)) x3 hold (show 0 < k by omega) hk g hg1
    simp only [okI_nI hx (show 60 < 2147483648 by omega), if_true, ni_c (show x < 2147483648 by omega), e56, hu, e1]
    obtain ⟨k', rfl⟩ : ∃ k', k = k' + 1 := ⟨k - 1, by omega⟩
    refine ih _ ⟨k', g', by omega, by rw [dn_m, dn_s], fun s hs => ?_, fun s h1 h2 => ?_⟩ ?_
    · rw [e3 s (by omega)]
      exact hg1 s (by omega)
    · by_cases hsk : s = k' + 1
      · rw [hsk]; exact e2
      · rw [e3 s hsk]
        exact hg2 s (by omega) h2
    · show cN (nI (k' + 1) + (-1)) < cN (nI (k' + 1))
      rw [dn_m, dn_s, cN_nI (by omega), cN_nI (by omega)]
      omega
  · rw [show (1 : Int32) = nI 1 from rfl, sb_n p1]
theorem best_m (hF : 1000 ≤ F) {fi n T : Nat} (hn : n ≤ 8) (hfi : fi ≤ n) (hT : T ≤ 60) (h68 : σ.1 68 = nI T) {pr : Nat → Nat → Int} (hpr : ∀ x, x < T → ∀ i, i < n → (σ.2 57 (60 * i + x)).toInt = pr i x ∧ -1 ≤ pr i x ∧ pr i x ≤ 8) {U : Nat → Prop} (hU : ∀ x, x < T → (¬ σ.2 56 x = 0 ↔ U x)) (hold : ∀ k s, s < 256 → -1 ≤ vm fi n pr U k s ∧ vm fi n pr U k s ≤ 9000) (f : Nat → Int32) :
    ∃ r g, m_bestFrom F (nI fi) (nI n) (aS σ 54 f) = some (r, aS σ 54 g) ∧ r.toInt = mxs (vm fi n pr U T) (2 ^ (n - fi)) := by
  obtain ⟨p1, p2⟩ := pw8 (show n - fi ≤ 8 by omega)
  unfold m_bestFrom
  rw [sb_n hfi, zz_3 (by omega), nx_e]
  obtain ⟨b, g0, e1, e2⟩ := best_9 (σ := σ) hF (show n - fi ≤ 8 by omega) (fun a1 => lp (m_bestFrom_B41 F (fun a2 => lp (m_bestFrom_B218 F (nI (2 ^ (n - fi)))) F (0, 0, a2.2)) (nI fi) (nI n) (nI (2 ^ (n - fi)))) F (0, a1.2)) (nI fi) (nI n) f
  rw [e1]
  refine lp_to (fun a => ∃ (k : Nat) (g : Nat → Int32), k ≤ T ∧ a = (nI k, aS σ 54 g) ∧ ∀ s, s < 2 ^ (n - fi) → (g s).toInt = vm fi n pr U k s) (fun a => T - cN a.1) (fun o => ∃ (r : Int32) (g : Nat → Int32), o = some (r, aS σ 54 g) ∧ r.toInt = mxs (vm fi n pr U T) (2 ^ (n - fi))) ?_ F _ ⟨0, g0, by omega, rfl, fun s hs => by rw [e2 s hs, vm]⟩ (by show T - cN 0 < F; omega)
  intro RX a hi ih
  obtain ⟨k, g, hk, rfl, hg⟩ := hi
  unfold m_bestFrom_B41
  have e68 : ∀ f, (aS σ 54 f).1 68 = nI T := fun _ => h68
  have e56 : ∀ f, (aS σ 54 f).2 56 = σ.2 56 := fun _ => rfl
  have e54 : ∀ f, (aS σ 54 f).2 54 = f := fun _ => rfl
  simp only [e68, Int32.le_iff_toInt_le, ni_i (show k < 2147483648 by omega), ni_i (show T < 2147483648 by omega)]
  by_cases hend : k = T
  · subst hend
    rw [if_pos (by omega)]
    refine lp_to (fun a => ∃ (s : Nat) (r : Int32), s ≤ 2 ^ (n - fi) ∧ a = (r, nI s, aS σ 54 g) ∧ r.toInt = mxs (vm fi n pr U k) s) (fun a => 2 ^ (n - fi) - cN a.2.1) (fun o => ∃ (r : Int32) (g : Nat → Int32), o = some (r, aS σ 54 g) ∧ r.toInt = mxs (vm fi n pr U k) (2 ^ (n - fi))) ?_ F _ ⟨0, 0, by omega, rfl, rfl⟩ (by show 2 ^ (n - fi) - cN 0 < F; omega)
    intro RY a hi' ih'
    obtain ⟨s, r, hs, rfl, hr⟩ := hi'
    unfold m_bestFrom_B218
    simp only [e54, Int32.le_iff_toInt_le, ni_i (show s < 2147483648 by omega), ni_i (show 2 ^ (n - fi) < 2147483648 by omega)]
    by_cases hend2 : s = 2 ^ (n - fi)
    · rw [if_pos (by omega), ← hend2]
      exact ⟨r, g, rfl, hr⟩
    rw [if_neg (by omega)]
    have hm : 2 ^ (n - fi) - cN (nI s + 1) < 2 ^ (n - fi) - cN (nI s) := by rw [← nI_succ, cN_nI (by omega), cN_nI (by omega)]; omega
    simp only [okI_nI (show s < 256 by omega) (show 256 < 2147483648 by omega), if_true, ni_c (show s < 2147483648 by omega), hg s (by omega), hr, nx_e]
    by_cases c1 : vm fi n pr U k s ≤ mxs (vm fi n pr U k) s
    · rw [if_pos c1]
      exact ih' _ ⟨s + 1, r, by omega, by rw [nI_succ], by rw [mxs, if_pos c1]; exact hr⟩ hm
    · rw [if_neg c1]
      exact ih' _ ⟨s + 1, g s, by omega, by rw [nI_succ], by rw [mxs, if_neg c1]; exact hg s (by omega)⟩ hm
  rw [if_neg (by omega)]
  have hm : T - cN (nI k + 1) < T - cN (nI k) := by rw [← nI_succ, cN_nI (by omega), cN_nI (by omega)]; omega
  by_cases hu : U k
  · have hl : lp (m_bestFrom_B55 F (fun a1 => RX (nI k + 1, a1.2)) (nI fi) (nI n) (nI (2 ^ (n - fi))) (nI k)) F (nI (2 ^ (n - fi)) - 1, aS σ 54 g) = RX (nI k + 1, aS σ 54 g) := by
      obtain ⟨R', hR'⟩ := lp_1 (m_bestFrom_B55 F (fun a1 => RX (nI k + 1, a1.2)) (nI fi) (nI n) (nI (2 ^ (n - fi))) (nI k)) hF (nI (2 ^ (n - fi)) - 1, aS σ 54 g)
      rw [hR']
      unfold m_bestFrom_B55
      simp only [okI_nI (show k < 60 by omega) (show 60 < 2147483648 by omega), if_true, ni_c (show k < 2147483648 by omega), e56, if_neg ((hU k (by omega)).mpr hu), ite_self]
    rw [hl]
    refine ih _ ⟨k + 1, g, by omega, by rw [nI_succ], fun s hs => ?_⟩ hm
    have e : vm fi n pr U (k + 1) s = vm fi n pr U k s := by rw [vm]; exact if_pos hu
    rw [e]
    exact hg s hs
  · have hu0 : σ.2 56 k = 0 := Classical.byContradiction (fun q => hu ((hU k (by omega)).mp q))
    obtain ⟨b, g', e3, e4⟩ := best_55 hF hn hfi (show k < 60 by omega) (hpr k (by omega)) (fun a1 => RX (nI k + 1, a1.2)) (nI (2 ^ (n - fi))) (fun s hs => hold k s hs) hu0 g hg
    rw [e3]
    refine ih _ ⟨k + 1, g', by omega, by rw [nI_succ], fun s hs => ?_⟩ hm
    have e : vm fi n pr U (k + 1) s = fm (vm fi n pr U k) (fun f => pr (fi + f) k) s (n - fi) := by rw [vm]; exact if_neg hu
    rw [e]
    exact e4 s hs
end MATCH4
