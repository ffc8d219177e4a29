/-! AshCity's table -/
theorem z_1 : ∀ s : Fin 256, ∀ i : Fin 8, s.1.testBit i.1 = true → nI s.1 &&& (((1 : Int32) <<< (nI i.1 &&& 31)) ^^^ (-1)) = nI (s.1 - 2 ^ i.1) ∧ nI s.1 ^^^ ((1 : Int32) <<< (nI i.1 &&& 31)) = nI (s.1 - 2 ^ i.1) := by decide +kernel
theorem z_2 : ∀ s : Fin 256, ∀ i : Fin 8, (nI s.1 >>> (nI i.1 &&& 31)) &&& 1 = if s.1.testBit i.1 = true then 1 else 0 := by decide +kernel
theorem z_3 : ∀ n : Fin 9, (1 : Int32) <<< (nI n.1 &&& 31) = nI (2 ^ n.1) := by decide +kernel
theorem zz_1 {s i : Nat} (hs : s < 256) (hi : i < 8) (h : s.testBit i = true) : nI s &&& (((1 : Int32) <<< (nI i &&& 31)) ^^^ (-1)) = nI (s - 2 ^ i) ∧ nI s ^^^ ((1 : Int32) <<< (nI i &&& 31)) = nI (s - 2 ^ i) := z_1 ⟨s, hs⟩ ⟨i, hi⟩ h
theorem zz_2 {s i : Nat} (hs : s < 256) (hi : i < 8) : (nI s >>> (nI i &&& 31)) &&& 1 = if s.testBit i = true then 1 else 0 := z_2 ⟨s, hs⟩ ⟨i, hi⟩
theorem zz_3 {n : Nat} (hn : n ≤ 8) : (1 : Int32) <<< (nI n &&& 31) = nI (2 ^ n) := z_3 ⟨n, by omega⟩
theorem pw8 {n : Nat} (hn : n ≤ 8) : 1 ≤ 2 ^ n ∧ 2 ^ n ≤ 256 := ⟨Nat.one_le_two_pow, Nat.pow_le_pow_right (by omega) hn⟩
theorem fx_z (old p : Nat → Nat) : ∀ n, fx old p 0 n = old 0
  | 0 => rfl
  | n + 1 => by rw [fx, if_neg (by simp), fx_z old p n]
def qX (τ : XS) (f : Nat → Int32) : XS := (aS τ.1 20 f, τ.2)
theorem qX_u (τ : XS) (f : Nat → Int32) (i : Nat) (v : Int32) : xA (qX τ f) 20 i v = qX τ (upd f i v) := by
  unfold xA qX
  rw [sA_aS]
section MATCH3
variable {F : Nat} {τ : XS}
theorem most_3 (hF : 1000 ≤ F) {n : Nat} (hn : n ≤ 8) (h21 : τ.1.1 21 = nI n) (K : Int32 × XS → XR Int32) (x1 : Int32) (x2 : Int64) (f : Nat → Int32) : ∃ b g, lp (x0_most_B3 F K x1 x2) F (0, qX τ f) = K (b, qX τ g) ∧ ∀ s, s < 2 ^ n → g s = 0 := by
  obtain ⟨p1, p2⟩ := pw8 hn
  refine lp_to (fun a => ∃ (k : Nat) (g : Nat → Int32), k ≤ 2 ^ n ∧ a = (nI k, qX τ g) ∧ ∀ s, s < k → g s = 0) (fun a => 2 ^ n - cN a.1) (fun o => ∃ b g, o = K (b, qX τ g) ∧ ∀ s, s < 2 ^ n → g s = 0) ?_ F _ ⟨0, f, by omega, rfl, fun s hs => by omega⟩ (by show 2 ^ n - cN 0 < F; omega)
  intro RX a hi ih
  obtain ⟨k, g, hk, rfl, hg⟩ := hi
  unfold x0_most_B3
  have e21 : ∀ f, (qX τ f).1.1 21 = nI n := fun _ => h21
  simp only [e21, zz_3 hn, Int32.le_iff_toInt_le, ni_i (show k < 2147483648 by omega), ni_i (show 2 ^ n < 2147483648 by omega)]
  by_cases hend : k = 2 ^ n
  · rw [if_pos (by omega)]
    exact ⟨_, g, rfl, fun s hs => hg s (by omega)⟩
  · rw [if_neg (by omega)]
    simp only [okI_nI (show k < 256 by omega) (show 256 < 2147483648 by omega), if_true, nx_e, ni_c (show k < 2147483648 by omega), qX_u]
    refine ih _ ⟨k + 1, _, by omega, by rw [nI_succ], fun s hs => ?_⟩ ?_
    · by_cases hsk : s = k
      · exact if_pos hsk
      · exact (if_neg hsk).trans (hg s (by omega))
    · show 2 ^ n - cN (nI k + 1) < 2 ^ n - cN (nI k)
      rw [← nI_succ, cN_nI (by omega), cN_nI (by omega)]
      omega
theorem most_72 (hF : 1000 ≤ F) {n : Nat} (hn : n ≤ 8) (h21 : τ.1.1 21 = nI n) {pr : Nat → Nat → Nat} {x : Nat} (hx : x < 60) (hpr : ∀ i, i < n → τ.1.2 (11 + i) x = nI (pr i x) ∧ pr i x ≤ 108) (K : Int32 × XS → XR Int32) (x1 : Int32) (x2 : Int64) {old : Nat → Nat} (hold : ∀ s, s < 256 → old s ≤ 1000) {s : Nat} (hs0 : 0 < s) (hs : s < 2 ^ n) (f : Nat → Int32) (hf : ∀ s', s' ≤ s → f s' = nI (old s')) :
    ∃ b g, lp (x0_most_B72 F K x1 x2 (nI x) (nI s)) F (0, qX τ f) = K (b, qX τ g) ∧ g s = nI (fx old (fun i => pr i x) s n) ∧ ∀ s', ¬ s' = s → g s' = f s' := by
  obtain ⟨p1, p2⟩ := pw8 hn
  have hfb : ∀ i, i ≤ n → fx old (fun i => pr i x) s i ≤ 2000 := by
    intro i hi
    rcases fx_at old (fun i => pr i x) s i with q | ⟨j, q1, q2, q3, q4⟩
    · rw [q]
      have := hold s (by omega)
      omega
    · rw [q4]
      have := hold (s - 2 ^ j) (Nat.lt_of_le_of_lt (Nat.sub_le _ _) (by omega))
      have := (hpr j (by omega)).2
      show pr j x + old (s - 2 ^ j) ≤ 2000
      omega
  refine lp_to (fun a => ∃ (i : Nat) (g : Nat → Int32), i ≤ n ∧ a = (nI i, qX τ g) ∧ g s = nI (fx old (fun i => pr i x) s i) ∧ ∀ s', ¬ s' = s → g s' = f s') (fun a => n - cN a.1) (fun o => ∃ b g, o = K (b, qX τ g) ∧ g s = nI (fx old (fun i => pr i x) s n) ∧ ∀ s', ¬ s' = s → g s' = f s') ?_ F _ ⟨0, f, by omega, rfl, hf s (Nat.le_refl _), fun _ _ => rfl⟩ (by show n - cN 0 < F; omega)
  intro RX a hi ih
  obtain ⟨i, g, hin, rfl, hg1, hg2⟩ := hi
  unfold x0_most_B72
  have e21 : ∀ f, (qX τ f).1.1 21 = nI n := fun _ => h21
  have e20 : ∀ f, (qX τ f).1.2 20 = f := fun _ => rfl
  simp only [e21, Int32.le_iff_toInt_le, ni_i (show i < 2147483648 by omega), ni_i (show n < 2147483648 by omega)]
  by_cases hend : i = n
  · subst hend
    rw [if_pos (by omega)]
    exact ⟨_, g, rfl, hg1, hg2⟩
  rw [if_neg (by omega), zz_2 (show s < 256 by omega) (show i < 8 by omega)]
  have ep : ∀ f, (qX τ f).1.2 (11 + i) = τ.1.2 (11 + i) := fun f => if_neg (by omega)
  have hm : n - cN (nI i + 1) < n - cN (nI i) := by rw [← nI_succ, cN_nI (by omega), cN_nI (by omega)]; omega
  have hstay : ¬ (s.testBit i = true ∧ 0 < pr i x) → ∃ b g', RX (nI i + 1, qX τ g) = K (b, qX τ g') ∧ g' s = nI (fx old (fun i => pr i x) s n) ∧ ∀ s', ¬ s' = s → g' s' = f s' := by
    intro hc
    refine ih _ ⟨i + 1, g, by omega, by rw [nI_succ], ?_, hg2⟩ hm
    rw [fx, if_neg hc]
    exact hg1
  obtain ⟨hp1, hp2⟩ := hpr i (by omega)
  by_cases hb : s.testBit i = true
  · rw [if_pos hb, if_pos (rfl : (1 : Int32) = 1)]
    obtain ⟨c1, -⟩ := zz_1 (show s < 256 by omega) (show i < 8 by omega) hb
    have hle := (tb_cl (j := 0) (show s < 256 by omega) (show i < 8 by omega) hb).1
    have hpos : 0 < 2 ^ i := Nat.two_pow_pos i
    have hgo : g (s - 2 ^ i) = nI (old (s - 2 ^ i)) := by
      rw [hg2 _ (by omega)]
      exact hf _ (by omega)
    have hob := hold (s - 2 ^ i) (by omega)
    have hfi := hfb i (by omega)
    simp only [okI_nI (show i < 8 by omega) (show 8 < 2147483648 by omega), okI_nI hx (show 60 < 2147483648 by omega), okI_nI (show s < 256 by omega) (show 256 < 2147483648 by omega), if_true, ni_c (show i < 2147483648 by omega), ni_c (show x < 2147483648 by omega), ni_c (show s < 2147483648 by omega), ep, e20, c1, okI_nI (show s - 2 ^ i < 256 by omega) (show 256 < 2147483648 by omega), ni_c (show s - 2 ^ i < 2147483648 by omega), hp1, hgo, hg1, ni_add, nx_e, qX_u, Int32.lt_iff_toInt_lt, ni_i (show pr i x < 2147483648 by omega), ni_i (show fx old (fun i => pr i x) s i < 2147483648 by omega), ni_i (show pr i x + old (s - 2 ^ i) < 2147483648 by omega), li_0]
    by_cases c2 : ((pr i x : Nat) : Int) ≤ 0
    · rw [if_pos c2]
      exact hstay (fun q => by have := q.2; omega)
    rw [if_neg c2]
    refine ih _ ⟨i + 1, upd g s (if ((fx old (fun i => pr i x) s i : Nat) : Int) < ((pr i x + old (s - 2 ^ i) : Nat) : Int) then nI (pr i x + old (s - 2 ^ i)) else nI (fx old (fun i => pr i x) s i)), by omega, by rw [nI_succ], ?_, fun s' hs' => (if_neg hs').trans (hg2 s' hs')⟩ hm
    have e : fx old (fun i => pr i x) s (i + 1) = if fx old (fun i => pr i x) s i < pr i x + old (s - 2 ^ i) then pr i x + old (s - 2 ^ i) else fx old (fun i => pr i x) s i := by
      rw [fx]
      exact if_pos ⟨hb, show 0 < pr i x by omega⟩
    rw [e]
    refine (if_pos rfl).trans ?_
    by_cases c3 : fx old (fun i => pr i x) s i < pr i x + old (s - 2 ^ i)
    · rw [if_pos c3, if_pos (Int.ofNat_lt.mpr c3)]
    · rw [if_neg c3, if_neg (fun q => c3 (Int.ofNat_lt.mp q))]
  · rw [if_neg hb, if_neg (show ¬ (0 : Int32) = 1 by decide)]
    exact hstay (fun q => hb q.1)
theorem most_64 (hF : 1000 ≤ F) {n : Nat} (hn : n ≤ 8) (h21 : τ.1.1 21 = nI n) {pr : Nat → Nat → Nat} {x : Nat} (hx : x < 60) (hpr : ∀ i, i < n → τ.1.2 (11 + i) x = nI (pr i x) ∧ pr i x ≤ 108) (K : Int32 × XS → XR Int32) (x1 : Int32) (x2 : Int64) {old : Nat → Nat} (hold : ∀ s, s < 256 → old s ≤ 1000) (f : Nat → Int32) (hf : ∀ s, s < 2 ^ n → f s = nI (old s)) :
    ∃ b g, lp (x0_most_B64 F K x1 x2 (nI x)) F (nI (2 ^ n) - 1, qX τ f) = K (b, qX τ g) ∧ ∀ s, s < 2 ^ n → g s = nI (fx old (fun i => pr i x) s n) := by
  obtain ⟨p1, p2⟩ := pw8 hn
  refine lp_to (fun a => ∃ (k : Nat) (g : Nat → Int32), k < 2 ^ n ∧ a = (nI k, qX τ g) ∧ (∀ s, s ≤ k → g s = nI (old s)) ∧ ∀ s, k < s → s < 2 ^ n → g s = nI (fx old (fun i => pr i x) s n)) (fun a => cN a.1) (fun o => ∃ b g, o = K (b, qX τ g) ∧ ∀ s, s < 2 ^ n → g s = nI (fx old (fun i => pr i x) s n)) ?_ F _ ⟨2 ^ n - 1, f, by omega, ?_, fun s hs => hf s (by omega), fun s h1 h2 => by omega⟩ (by
    show cN (nI (2 ^ n) - 1) < F
    rw [show (1 : Int32) = nI 1 from rfl, sb_n p1, cN_nI (by omega)]
    omega)
  · intro RX a hi ih
    obtain ⟨k, g, hk, rfl, hg1, hg2⟩ := hi
    unfold x0_most_B64
    simp only [Int32.le_iff_toInt_le, ni_i (show k < 2147483648 by omega), li_0]
    by_cases hend : k = 0
    · subst hend
      rw [if_pos (by omega)]
      refine ⟨_, g, rfl, fun s hs => ?_⟩
      by_cases hs0 : s = 0
      · subst hs0
        rw [fx_z]
        exact hg1 0 (Nat.le_refl _)
      · exact hg2 s (by omega) hs
    rw [if_neg (by omega)]
    obtain ⟨b, g', e1, e2, e3⟩ := most_72 hF hn h21 hx hpr (fun a1 => RX (nI k + (-1), a1.2)) x1 x2 hold (show 0 < k by omega) hk g hg1
    rw [e1]
    obtain ⟨k', rfl⟩ : ∃ k', k = k' + 1 := ⟨k - 1, by omega⟩
    refine ih _ ⟨k', g', by omega, by rw [dn_m, dn_s], fun s hs => ?_, fun s h1 h2 => ?_⟩ ?_
    · rw [e3 s (by omega)]
      exact hg1 s (by omega)
    · by_cases hsk : s = k' + 1
      · rw [hsk]; exact e2
      · rw [e3 s hsk]
        exact hg2 s (by omega) h2
    · show cN (nI (k' + 1) + (-1)) < cN (nI (k' + 1))
      rw [dn_m, dn_s, cN_nI (by omega), cN_nI (by omega)]
      omega
  · rw [show (1 : Int32) = nI 1 from rfl, sb_n p1]
theorem most_x (hF : 1000 ≤ F) {n T : Nat} (hn : n ≤ 8) (hT : T ≤ 60) (h21 : τ.1.1 21 = nI n) (h18 : τ.1.1 18 = nI T) {pr : Nat → Nat → Nat} (hpr : ∀ x, x < T → ∀ i, i < n → τ.1.2 (11 + i) x = nI (pr i x) ∧ pr i x ≤ 108) {x2 : Int64} {U : Nat → Prop} (hU : ∀ x, x < T → ((lg_cmp ((x2 >>> ((nI x).toInt64 &&& 63)) &&& 1) 1) = 0 ↔ U x)) (hold : ∀ k s, s < 256 → vx n pr U k s ≤ 1000) {s0 : Nat} (hs0 : s0 < 2 ^ n) (f : Nat → Int32) :
    ∃ g, x0_most F (nI s0) x2 (qX τ f) = some (nI (vx n pr U T s0), qX τ g, 0, 0) := by
  obtain ⟨p1, p2⟩ := pw8 hn
  unfold x0_most
  obtain ⟨b, g0, e1, e2⟩ := most_3 hF hn h21 (fun a1 => lp (x0_most_B31 F (nI s0) x2) F (0, a1.2)) (nI s0) x2 f
  rw [e1]
  refine lp_to (fun a => ∃ (k : Nat) (g : Nat → Int32), k ≤ T ∧ a = (nI k, qX τ g) ∧ ∀ s, s < 2 ^ n → g s = nI (vx n pr U k s)) (fun a => T - cN a.1) (fun o => ∃ g, o = some (nI (vx n pr U T s0), qX τ g, 0, 0)) ?_ F _ ⟨0, g0, by omega, rfl, fun s hs => e2 s hs⟩ (by show T - cN 0 < F; omega)
  intro RX a hi ih
  obtain ⟨k, g, hk, rfl, hg⟩ := hi
  unfold x0_most_B31
  have e21 : ∀ f, (qX τ f).1.1 21 = nI n := fun _ => h21
  have e18 : ∀ f, (qX τ f).1.1 18 = nI T := fun _ => h18
  have e20 : ∀ f, (qX τ f).1.2 20 = f := fun _ => rfl
  simp only [e21, e18, e20, zz_3 hn, Int32.le_iff_toInt_le, ni_i (show k < 2147483648 by omega), ni_i (show T < 2147483648 by omega)]
  by_cases hend : k = T
  · subst hend
    rw [if_pos (by omega), if_pos (okI_nI (show s0 < 256 by omega) (by omega)), ni_c (show s0 < 2147483648 by omega), hg s0 hs0]
    exact ⟨g, rfl⟩
  rw [if_neg (by omega)]
  have hm : T - cN (nI k + 1) < T - cN (nI k) := by rw [← nI_succ, cN_nI (by omega), cN_nI (by omega)]; omega
  by_cases hu : U k
  · rw [if_pos ((hU k (by omega)).mpr hu)]
    refine ih _ ⟨k + 1, g, by omega, by rw [nI_succ], fun s hs => ?_⟩ hm
    have e : vx n pr U (k + 1) s = vx n pr U k s := by rw [vx]; exact if_pos hu
    rw [e]
    exact hg s hs
  · rw [if_neg (fun q => hu ((hU k (by omega)).mp q)), nx_e]
    obtain ⟨b, g', e3, e4⟩ := most_64 hF hn h21 (show k < 60 by omega) (hpr k (by omega)) (fun a1 => RX (nI k + 1, a1.2)) (nI s0) x2 (fun s hs => hold k s hs) g hg
    rw [e3]
    refine ih _ ⟨k + 1, g', by omega, by rw [nI_succ], fun s hs => ?_⟩ hm
    have e : vx n pr U (k + 1) s = fx (vx n pr U k) (fun i => pr i k) s n := by rw [vx]; exact if_neg hu
    rw [e]
    exact e4 s hs
end MATCH3
