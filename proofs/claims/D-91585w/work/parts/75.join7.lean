section JOIN7
variable {F : Nat} {τ : XS} {σ : MS}
def joQ (τ : XS) (σ : MS) (n C : Nat) (v : Int32 × XS × Nat × Nat) (w : Int32 × MS) : Prop := ∃ τ1 σ1 ρ, v = (nI C, xS (rX τ1 ρ) 22 (nI n), 0, 0) ∧ w = (nI C, rM σ1 (nI n) ρ) ∧ Kjx τ τ1 ∧ Kj σ σ1
theorem join_gr (hF : 1000 ≤ F) {lk : Nat → Nat → Prop} {ag : Nat → Nat → Nat} {px : Nat → Nat → Nat} {pm : Nat → Nat → Int} (ha : ∀ i x, lk i x → ag i x ≤ 8) (hpx : ∀ i x, (lk i x → px i x = 100 + ag i x) ∧ (¬ lk i x → px i x = 0)) (hpm : ∀ i x, (lk i x → pm i x = ag i x) ∧ (¬ lk i x → pm i x = -1)) {n T C : Nat} (hn : n ≤ 8) (hT : T ≤ 60) (h21 : τ.1.1 21 = nI n) (h18 : τ.1.1 18 = nI T) (h68 : σ.1 68 = nI T) :
    ∀ (fu i : Nat) (U : Nat → Prop) (c g got lm : Nat) (w : Int64) (ρ : Nat → Int32) (τ1 : XS) (σ1 : MS), i ≤ n → n - i < fu → Bs lk ag U T (fun j => i ≤ j ∧ j < n) c g → got + c = C → lm < 2 ^ n → (stx n lm = fun j => i ≤ j ∧ j < n) → (∀ y, y < T → (b64 w y = true ↔ U y)) → (∀ y, y < T → (¬ σ1.2 56 y = 0 ↔ U y)) → Kjx τ τ1 → Kj σ σ1 → (∀ i', i' < n → ∀ y, y < T → τ1.1.2 (11 + i') y = nI (px i' y)) → (∀ i', i' < n → ∀ y, y < T → (σ1.2 57 (60 * i' + y)).toInt = pm i' y) →
      ∃ v w', lp (x0_join_B164 F (nI n)) fu (nI lm, w, nI (100 * c + g), nI got, nI i, rX τ1 ρ) = some v ∧ lp (m_join_B147 F (nI n) (nI C)) fu (nI (1000 * c + g), nI i, rM σ1 (nI n) ρ) = some w' ∧ joQ τ σ n C v w' := by
  intro fu
  induction fu with
  | zero => intro i U c g got lm w ρ τ1 σ1 _ h; omega
  | succ fu ih =>
    intro i U c g got lm w ρ τ1 σ1 hin hfu hb hgot hlm hst hw hU kx km hx hm
    obtain ⟨p1, p2⟩ := pw8 hn
    have hs8 : ∀ j, (i ≤ j ∧ j < n) → j < 8 := fun j hj => by omega
    have b1 := Mx_8 ha hs8 hb.1
    rw [lp_s, lp_s]
    generalize lp (x0_join_B164 F (nI n)) fu = RX at ih ⊢
    generalize lp (m_join_B147 F (nI n) (nI C)) fu = RM at ih ⊢
    unfold x0_join_B164 m_join_B147
    simp only [Int32.le_iff_toInt_le, ni_i (show i < 2147483648 by omega), ni_i (show n < 2147483648 by omega)]
    by_cases hend : i = n
    · subst hend
      rw [if_pos (by omega), if_pos (by omega), nx_e]
      have hc0 : c = 0 := by
        obtain ⟨q1, -⟩ := Mx_b ha hs8 hb.1
        have : cn (fun j => i ≤ j ∧ j < i) 8 = 0 := by
          have h0 : ∀ k, cn (fun j => i ≤ j ∧ j < i) k = 0 := by
            intro k
            induction k with
            | zero => rfl
            | succ k ihk => rw [cn, ihk, if_neg (fun q => by omega)]
          exact h0 8
        omega
      have hgc : got = C := by omega
      subst hgc
      exact ⟨_, _, rfl, rfl, τ1, σ1, ρ, rfl, rfl, kx, km⟩
    rw [if_neg (by omega), if_neg (by omega), nx_e]
    have hbit : lm.testBit i = true := by
      have : stx n lm i := by rw [hst]; exact ⟨Nat.le_refl _, by omega⟩
      exact this.2
    obtain ⟨z1, -⟩ := zz_1 (show lm < 256 by omega) (show i < 8 by omega) hbit
    have hlm' : lm - 2 ^ i < 2 ^ n := Nat.lt_of_le_of_lt (Nat.sub_le _ _) hlm
    have hst' : stx n (lm - 2 ^ i) = fun j => i + 1 ≤ j ∧ j < n := by
      rw [stx_cl hn (show lm < 256 by omega) (show i < n by omega) hbit, hst]
      funext j
      apply propext
      omega
    rw [z1]
    obtain ⟨k, τ2, x1, x2, x3, x4, x5, x6⟩ := join_x182 hF ha hpx hn hT (show i < n by omega) hb h21 h18 hw hlm' hst' (fun a1 => x0_join_248 F RX (nI n) (nI (lm - 2 ^ i)) w (nI (100 * c + g)) (nI got) (nI i) a1.1 a1.2) (nI n) (nI got) ρ kx hx
    obtain ⟨k', b, σ2, m1, m2, m3, m4, m5, m6, m7⟩ := join_m160 hF ha hpm hn hT (show i < n by omega) hb h68 (fun a1 => m_join_259 F RM (nI n) (nI (1000 * c + g)) (nI C) (nI i) a1.1 a1.2.2) (nI C) (nI n) ρ km hm hU
    have hkk : k' = k := by
      by_cases q1 : k' < k
      · rcases m7 with q | q
        · omega
        · exact absurd q (x4 k' q1)
      · by_cases q2 : k < k'
        · rcases x6 with q | q
          · omega
          · exact absurd q (m5 k q2)
        · omega
    subst hkk
    rw [x1, m1]
    have e18 : τ2.1.1 18 = nI T := by rw [x2.1]; exact h18
    have er : (rX τ2 ρ).1.1 18 = nI T := e18
    simp only [x0_join_248, x0_join_270, m_join_259, er, Int32.le_iff_toInt_le, ni_i (show k' < 2147483648 by omega), ni_i (show T < 2147483648 by omega), okI_nI (show i < 8 by omega) (show 8 < 2147483648 by omega), if_true, ni_c (show i < 2147483648 by omega), nx_e, rX_u, rM_u]
    have er2 : ∀ ρ', (rX τ2 ρ').1.1 18 = nI T := fun _ => e18
    simp only [er2]
    by_cases hkT : k' = T
    · subst hkT
      have hb2 : Bs lk ag U k' (fun j => i + 1 ≤ j ∧ j < n) c g := by
        refine Bs_none (show i < n by omega) hb (fun x hxT hu hl c' g' hb' he => x4 x hxT ⟨hu, hl, c', g', hb', he⟩) (fun x => ?_)
        obtain ⟨c', g', q, -⟩ := vx_val (U := fun y => U y ∨ y = x) hn ha hpx k' (show lm - 2 ^ i < 256 by omega)
        rw [hst'] at q
        exact ⟨c', g', q⟩
      rw [if_pos (Int.le_refl _), if_pos (rfl : nI k' = nI k'), if_pos (rfl : k' = k'), if_pos (rfl : (60 : Int32) = 60), ← nI_succ]
      exact ih (i + 1) U c g got (lm - 2 ^ i) w (upd ρ i 60) τ2 σ2 (by omega) (by omega) hb2 hgot hlm' hst' hw (fun y hy => by
        rw [m4 y hy]
        exact ⟨fun q => q.elim id (fun z => by omega), Or.inl⟩) x2 m2 x3 m3
    · have hD : Dk lk ag U T n i c g k' := x6.resolve_left hkT
      obtain ⟨hu, hl, c', g', hb', e1, e2⟩ := hD
      have hkl : k' < T := by omega
      have hne : ¬ nI k' = nI T := by
        rw [ni_ii (by omega) (by omega)]
        exact hkT
      have hn6 : ¬ nI k' = 60 := by
        rw [show (60 : Int32) = nI 60 from rfl, ni_ii (by omega) (by omega)]
        omega
      have hak := ha i k' hl
      have hpk := (hpx i k').1 hl
      have ep : ∀ ρ', (rX τ2 ρ').1.2 (11 + i) = τ2.1.2 (11 + i) := fun ρ' => if_neg (by omega)
      have em : ∀ ρ', (rM σ2 (nI n) ρ').2 57 = σ2.2 57 := fun ρ' => rfl
      have hav : σ2.2 57 (60 * i + k') = nI (ag i k') := by
        rw [i_eq, m3 i (by omega) k' hkl, (hpm i k').1 hl, ni_i (by omega)]
      have ix : (60 : Int32) * nI i + nI k' = nI (60 * i + k') := by rw [show (60 : Int32) = nI 60 from rfl, ni_mul, ni_add]
      rw [if_neg (show ¬ (T : Int) ≤ (k' : Int) by omega), if_neg hne, if_neg hkT, if_neg hn6]
      simp only [okI_nI (show k' < 60 by omega) (show 60 < 2147483648 by omega), if_true, ni_c (show k' < 2147483648 by omega), ep, x3 i (by omega) k' hkl, hpk, ix, okI_nI (show 60 * i + k' < 480 by omega) (show 480 < 2147483648 by omega), ni_c (show 60 * i + k' < 2147483648 by omega), em, hav]
      rw [sb_n (show 100 + ag i k' ≤ 100 * c + g by omega), show (1000 : Int32) = nI 1000 from rfl, sb_n (show 1000 ≤ 1000 * c + g by omega), sb_n (show ag i k' ≤ 1000 * c + g - 1000 by omega), ← nI_succ, ← nI_succ, show 100 * c + g - (100 + ag i k') = 100 * c' + g' by omega, show 1000 * c + g - 1000 - ag i k' = 1000 * c' + g' by omega]
      exact ih (i + 1) (fun y => U y ∨ y = k') c' g' (got + 1) (lm - 2 ^ i) (w ||| ((1 : Int64) <<< ((nI k').toInt64 &&& 63))) (upd ρ i (nI k')) τ2 σ2 (by omega) (by omega) hb' (by omega) hlm' hst' (fun y hy => by
        rw [b64_set w (show k' < 60 by omega) (show y < 64 by omega), Bool.or_eq_true, hw y hy, decide_eq_true_iff]) (fun y hy => by
        rw [m4 y hy]
        exact ⟨fun q => q.imp id (fun z => z.2), fun q => q.imp id (fun z => ⟨hkl, z⟩)⟩) x2 m2 x3 m3
end JOIN7
