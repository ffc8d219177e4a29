/-! way: AshCity's queue -/
def cnt (f : Nat → Int32) : Nat → Nat
  | 0 => 0
  | n + 1 => cnt f n + if f n = -1 then 0 else 1
theorem cnt_le (f : Nat → Int32) (n : Nat) : cnt f n ≤ n := by
  induction n with
  | zero => exact Nat.le_refl 0
  | succ n ih => unfold cnt; split <;> omega
theorem cnt_o {f : Nat → Int32} {c : Nat} {v : Int32} : ∀ {n : Nat}, n ≤ c → cnt (upd f c v) n = cnt f n
  | 0, _ => rfl
  | n + 1, h => by
    have hu : upd f c v n = f n := if_neg (by omega)
    unfold cnt
    rw [hu, cnt_o (by omega)]
theorem cnt_u {f : Nat → Int32} {c : Nat} {v : Int32} (hf : f c = -1) (hv : ¬ v = -1) : ∀ {n : Nat}, c < n → cnt (upd f c v) n = cnt f n + 1
  | 0, h => by omega
  | n + 1, h => by
    unfold cnt
    by_cases hc : c = n
    · subst hc
      have hu : upd f c v c = v := if_pos rfl
      rw [hu, cnt_o (Nat.le_refl c), hf, if_neg hv, if_pos rfl]
    · have hu : upd f c v n = f n := if_neg (fun e => hc e.symm)
      rw [hu, cnt_u hf hv (by omega)]
      omega
theorem cnt_f {f : Nat → Int32} : ∀ {n : Nat}, (∀ c, c < n → f c = -1) → cnt f n = 0
  | 0, _ => rfl
  | n + 1, h => by
    unfold cnt
    rw [if_pos (h n (by omega)), cnt_f (fun c hc => h c (by omega))]
def nbr (W i y c : Nat) : Prop := c % W + 1 = y % W + i % 3 ∧ c / W + 1 = y / W + i / 3
theorem nbr_bes {W y c : Nat} : (∃ i, i < 9 ∧ nbr W i y c) ↔ bes W y c := by
  constructor
  · rintro ⟨i, hi, h1, h2⟩
    refine ⟨?_, ?_, ?_, ?_⟩ <;> omega
  · rintro ⟨h1, h2, h3, h4⟩
    refine ⟨(c % W + 1 - y % W) + 3 * (c / W + 1 - y / W), ?_, ?_, ?_⟩
    · generalize c % W = a at *
      generalize y % W = b at *
      generalize c / W = d at *
      generalize y / W = e at *
      omega
    · generalize c % W = a at *
      generalize y % W = b at *
      generalize c / W = d at *
      generalize y / W = e at *
      omega
    · generalize c % W = a at *
      generalize y % W = b at *
      generalize c / W = d at *
      generalize y / W = e at *
      omega
theorem cell_mk {W H a b : Nat} (ha : a < W) (hb : b < H) : (b * W + a) % W = a ∧ (b * W + a) / W = b ∧ b * W + a < W * H := by
  have h0 : 0 < W := by omega
  refine ⟨?_, ?_, ?_⟩
  · rw [Nat.mul_comm, Nat.mul_add_mod]; exact Nat.mod_eq_of_lt ha
  · rw [Nat.mul_comm, Nat.mul_add_div h0, Nat.div_eq_of_lt ha]; omega
  · have : (b + 1) * W ≤ H * W := Nat.mul_le_mul_right W (by omega)
    rw [Nat.add_mul] at this
    rw [Nat.mul_comm W H]
    omega
theorem cell_u {W a c : Nat} (h1 : a % W = c % W) (h2 : a / W = c / W) : a = c := by
  have h3 := Nat.div_add_mod a W
  have h4 := Nat.div_add_mod c W
  rw [h1, h2] at h3
  omega
def yX (τ : XS) (f q : Nat → Int32) : XS := (aS (aS τ.1 31 f) 32 q, τ.2)
theorem yX_f (τ : XS) (f q : Nat → Int32) (i : Nat) (v : Int32) : xA (yX τ f q) 31 i v = yX τ (upd f i v) q := by
  unfold xA yX
  rw [sA_aS_ne _ _ _ _ _ _ (by decide), sA_aS]
theorem yX_q (τ : XS) (f q : Nat → Int32) (i : Nat) (v : Int32) : xA (yX τ f q) 32 i v = yX τ f (upd q i v) := by
  unfold xA yX
  rw [sA_aS]
theorem yX_id (τ : XS) : yX τ (τ.1.2 31) (τ.1.2 32) = τ := by
  unfold yX
  rw [aS_id]
  show (aS τ.1 32 (τ.1.2 32), τ.2) = τ
  rw [aS_id]
/-- one popped cell's neighbours -/
def nI2 (n : Nat) (f0 q0 : Nat → Int32) (t0 : Nat) (v : Int32) (E : Nat → Prop) (wk : Nat → Prop) (t : Nat) (g q : Nat → Int32) : Prop :=
  (∀ c, c < n → (f0 c = -1 ∧ wk c ∧ E c → g c = v) ∧ (¬ (f0 c = -1 ∧ wk c ∧ E c) → g c = f0 c)) ∧ t0 ≤ t ∧ (∀ j, j < t0 → q j = q0 j) ∧ (∀ j, t0 ≤ j → j < t → ∃ c, c < n ∧ q j = nI c ∧ f0 c = -1 ∧ g c = v) ∧ (∀ c, c < n → f0 c = -1 → g c = v → ∃ j, t0 ≤ j ∧ j < t ∧ q j = nI c) ∧ t = cnt g n
section WAYX
variable {F : Nat} {τ : XS} {σ : MS} {W H n : Nat}
theorem way_x38 (hF : 1000 ≤ F) (hn : τ.1.1 0 * τ.1.1 1 = nI n) (hnb : n ≤ 100) (K : Int32 × XS → XR Int32) (x1 x2 : Int32) (q : Nat → Int32) (f : Nat → Int32) : lp (x0_way_B38 F K x1 x2) F (0, yX τ f q) = K (nI n, yX τ (fl n (-1) f) q) := by
  refine lp_to (fun a => ∃ k : Nat, k ≤ n ∧ a = (nI k, yX τ (fl k (-1) f) q)) (fun a => n - cN a.1) (fun o => o = K (nI n, yX τ (fl n (-1) f) q)) ?_ F _ ⟨0, by omega, by rw [fl_0]; rfl⟩ (by show n - cN 0 < F; omega)
  intro RX a hi ih
  obtain ⟨k, hk, rfl⟩ := hi
  unfold x0_way_B38
  have e0 : ∀ f q, (yX τ f q).1.1 0 * (yX τ f q).1.1 1 = nI n := fun _ _ => hn
  simp only [e0, Int32.le_iff_toInt_le, ni_i (show k < 2147483648 by omega), ni_i (show n < 2147483648 by omega)]
  by_cases hend : k = n
  · subst hend
    rw [if_pos (by omega)]
  · rw [if_neg (by omega)]
    simp only [okI_nI (show k < 100 by omega) (show 100 < 2147483648 by omega), if_true, nx_e, ni_c (show k < 2147483648 by omega), yX_f, fl_s]
    refine ih _ ⟨k + 1, by omega, by rw [nI_succ]⟩ ?_
    show n - cN (nI k + 1) < n - cN (nI k)
    rw [← nI_succ, cN_nI (by omega), cN_nI (by omega)]
    omega
theorem way_x128 (hF : 1000 ≤ F) (h0 : τ.1.1 0 = nI W) (h1 : τ.1.1 1 = nI H) (hWH : n = W * H) (hnb : n ≤ 100) (hW : 4 ≤ W ∧ W ≤ 10) (hH : 4 ≤ H ∧ H ≤ 10) (K : Int32 × Int32 × XS → XR Int32) (x2 x4 : Int32) {y k t0 : Nat} (hy : y < n) (hk : k < 1000) (f0 q0 : Nat → Int32) (hf0 : f0 y = nI k) (ht : t0 = cnt f0 n) :
    ∃ t b g q, lp (x0_way_B128 F K x2 x4 (nI y)) F (nI t0, 0, yX τ f0 q0) = K (nI t, b, yX τ g q) ∧ nI2 n f0 q0 t0 (nI (k + 1)) (bes W y) (fun c => x2 < τ.1.2 3 c) t g q := by
  refine lp_to (fun a => ∃ (i t : Nat) (g q : Nat → Int32), i ≤ 9 ∧ a = (nI t, nI i, yX τ g q) ∧ nI2 n f0 q0 t0 (nI (k + 1)) (fun c => ∃ i', i' < i ∧ nbr W i' y c) (fun c => x2 < τ.1.2 3 c) t g q) (fun a => 9 - cN a.2.1) (fun o => ∃ t b g q, o = K (nI t, b, yX τ g q) ∧ nI2 n f0 q0 t0 (nI (k + 1)) (bes W y) (fun c => x2 < τ.1.2 3 c) t g q) ?_ F _ ⟨0, t0, f0, q0, by omega, rfl, fun c hc => ⟨fun z => by obtain ⟨-, -, i', hi', -⟩ := z; omega, fun _ => rfl⟩, Nat.le_refl _, fun _ _ => rfl, fun j h1 h2 => by omega, fun c hc z1 z2 => by
    exfalso
    rw [z1, i_eq, li_m1, ni_i (by omega)] at z2
    omega, ht⟩ (by show 9 - cN 0 < F; omega)
  intro RX a hi ih
  obtain ⟨i, t, g, q, hi, rfl, hI⟩ := hi
  obtain ⟨A, B1, B2, B3, B4, B5⟩ := hI
  unfold x0_way_B128
  have e0 : ∀ f q, (yX τ f q).1.1 0 = nI W := fun _ _ => h0
  have e1 : ∀ f q, (yX τ f q).1.1 1 = nI H := fun _ _ => h1
  have e31 : ∀ f q, (yX τ f q).1.2 31 = f := fun _ _ => rfl
  have e3 : ∀ f q, (yX τ f q).1.2 3 = τ.1.2 3 := fun _ _ => rfl
  have hz : ¬ nI W = 0 := by rw [i_eq, ni_i (by omega), li_0]; omega
  simp only [e0, e1, e31, e3, hz, not_false_eq_true, if_true, Int32.le_iff_toInt_le, ni_i (show i < 2147483648 by omega), li_9, jr_n (show y < 2147483648 by omega) (show W < 2147483648 by omega) (by omega), dv_n (show y < 2147483648 by omega) (show W < 2147483648 by omega) (by omega), show (3 : Int32) = nI 3 from rfl, jr_n (show i < 2147483648 by omega) (show 3 < 2147483648 by omega) (by omega), dv_n (show i < 2147483648 by omega) (show 3 < 2147483648 by omega) (by omega), ni_add, nx_e]
  by_cases hend : i = 9
  · subst hend
    rw [if_pos (by omega)]
    refine ⟨t, _, g, q, rfl, fun c hc => ?_, B1, B2, B3, B4, B5⟩
    rw [← nbr_bes]
    exact A c hc
  rw [if_neg (by omega)]
  have hmeas : 9 - cN (nI i + 1) < 9 - cN (nI i) := by rw [← nI_succ, cN_nI (by omega), cN_nI (by omega)]; omega
  -- nothing changes
  have hstay : (∀ c, c < n → nbr W i y c → ¬ (f0 c = -1 ∧ x2 < τ.1.2 3 c) ∨ g c = nI (k + 1)) → ∃ t' b g' q', RX (nI t, nI i + 1, yX τ g q) = K (nI t', b, yX τ g' q') ∧ nI2 n f0 q0 t0 (nI (k + 1)) (bes W y) (fun c => x2 < τ.1.2 3 c) t' g' q' := by
    intro hno
    refine ih _ ⟨i + 1, t, g, q, by omega, by rw [nI_succ i], fun c hc => ⟨?_, ?_⟩, B1, B2, B3, B4, B5⟩ hmeas
    · rintro ⟨z1, z2, i', z3, z4⟩
      by_cases hii : i' = i
      · subst hii
        rcases hno c hc z4 with z5 | z5
        · exact absurd ⟨z1, z2⟩ z5
        · exact z5
      · exact (A c hc).1 ⟨z1, z2, i', by omega, z4⟩
    · intro z
      exact (A c hc).2 (fun ⟨z1, z2, i', z3, z4⟩ => z ⟨z1, z2, i', by omega, z4⟩)
  have ym : y % W < W := Nat.mod_lt y (by omega)
  have yd : y / W < H := by
    rw [Nat.div_lt_iff_lt_mul (by omega), Nat.mul_comm]
    omega
  have hin : ∀ a b : Nat, a < 100 → b < 100 → x0_in F (nI a - 1) (nI b) = some (bI (1 ≤ a ∧ a ≤ b)) := by
    intro a b ha hb
    have e : (nI a - 1).toInt = (a : Int) - 1 := ni_si (b := 1) (by omega) (by omega)
    rw [x0_in_e, e, ni_i (by omega)]
    exact congrArg some (bI_c (by omega))
  generalize hya : y % W = ya at *
  generalize hyb : y / W = yb at *
  rw [hin (ya + i % 3) W (by omega) (by omega), hin (yb + i / 3) H (by omega) (by omega)]
  simp only [ob_s, bI_0, ite_not]
  by_cases c1 : 1 ≤ ya + i % 3 ∧ ya + i % 3 ≤ W
  · rw [if_pos c1]
    by_cases c2 : 1 ≤ yb + i / 3 ∧ yb + i / 3 ≤ H
    · rw [if_pos c2]
      obtain ⟨a, ha⟩ : ∃ a, ya + i % 3 = a + 1 := ⟨ya + i % 3 - 1, by omega⟩
      obtain ⟨b, hb⟩ : ∃ b, yb + i / 3 = b + 1 := ⟨yb + i / 3 - 1, by omega⟩
      obtain ⟨m1, m2, m3⟩ := cell_mk (W := W) (H := H) (a := a) (b := b) (by omega) (by omega)
      have hcell : ∀ c, nbr W i y c → c = b * W + a := by
        intro c ⟨z1, z2⟩
        rw [hya] at z1
        rw [hyb] at z2
        exact cell_u (W := W) (by omega) (by omega)
      have hnb : nbr W i y (b * W + a) := by
        unfold nbr
        rw [m1, m2, hya, hyb]
        omega
      simp only [yX_f, yX_q, e0]
      rw [ha, hb, dn_s, dn_s, ni_mul, ni_add]
      generalize b * W + a = d at *
      have hdn : d < n := by omega
      simp only [okI_nI (show d < 100 by omega) (show 100 < 2147483648 by omega), if_true, ni_c (show d < 2147483648 by omega), okI_nI (show y < 100 by omega) (show 100 < 2147483648 by omega), ni_c (show y < 2147483648 by omega), yX_f, yX_q]
      by_cases c3 : g d = -1
      · rw [if_pos c3]
        have hfd : f0 d = -1 := by
          by_cases hq : f0 d = -1 ∧ x2 < τ.1.2 3 d ∧ ∃ i', i' < i ∧ nbr W i' y d
          · exact hq.1
          · rw [← (A d hdn).2 hq]; exact c3
        by_cases c4 : x2 < τ.1.2 3 d
        · rw [if_pos c4]
          have hv : ¬ nI (k + 1) = -1 := by rw [i_eq, li_m1, ni_i (by omega)]; omega
          have hgy : g y = nI k := by
            rw [← hf0]
            refine (A y hy).2 (fun z => ?_)
            have := z.1
            rw [hf0, i_eq, li_m1, ni_i (by omega)] at this
            omega
          have hcu := cnt_u (n := n) c3 hv hdn
          have hcl := cnt_le (upd g d (nI (k + 1))) n
          rw [hgy, ← nI_succ k, if_pos (okI_nI (show t < 100 by omega) (show 100 < 2147483648 by omega)), ni_c (show t < 2147483648 by omega)]
          have hde : ¬ ∃ i', i' < i ∧ nbr W i' y d := by
            intro z
            have := (A d hdn).1 ⟨hfd, c4, z⟩
            rw [c3] at this
            exact hv this.symm
          refine ih _ ⟨i + 1, t + 1, upd g d (nI (k + 1)), upd q t (nI d), by omega, by rw [nI_succ i, nI_succ t], fun c hc => ⟨?_, ?_⟩, by omega, ?_, ?_, ?_, by omega⟩ hmeas
          · rintro ⟨z1, z2, i', z3, z4⟩
            by_cases hcd : c = d
            · exact if_pos hcd
            · rw [show upd g d (nI (k + 1)) c = g c from if_neg hcd]
              refine (A c hc).1 ⟨z1, z2, i', ?_, z4⟩
              by_cases hii : i' = i
              · subst hii; exact absurd (hcell c z4) hcd
              · omega
          · intro z
            have hcd : ¬ c = d := by
              rintro rfl
              exact z ⟨hfd, c4, i, by omega, hnb⟩
            rw [show upd g d (nI (k + 1)) c = g c from if_neg hcd]
            exact (A c hc).2 (fun ⟨z1, z2, i', z3, z4⟩ => z ⟨z1, z2, i', by omega, z4⟩)
          · intro j hj
            rw [show upd q t (nI d) j = q j from if_neg (by omega)]
            exact B2 j hj
          · intro j hj1 hj2
            by_cases hjt : j = t
            · exact ⟨d, hdn, if_pos hjt, hfd, if_pos rfl⟩
            · obtain ⟨c, z1, z2, z3, z4⟩ := B3 j hj1 (by omega)
              refine ⟨c, z1, (if_neg hjt).trans z2, z3, ?_⟩
              by_cases hcd : c = d
              · exact if_pos hcd
              · exact (if_neg hcd).trans z4
          · intro c hc z1 z2
            by_cases hcd : c = d
            · exact ⟨t, B1, by omega, by rw [hcd]; exact if_pos rfl⟩
            · rw [show upd g d (nI (k + 1)) c = g c from if_neg hcd] at z2
              obtain ⟨j, y1, y2, y3⟩ := B4 c hc z1 z2
              exact ⟨j, y1, by omega, (if_neg (by omega)).trans y3⟩
        · rw [if_neg c4]
          exact hstay (fun c hc z => Or.inl (by rw [hcell c z]; exact fun w => c4 w.2))
      · rw [if_neg c3]
        refine hstay (fun c hc z => ?_)
        rw [hcell c z]
        by_cases hq : f0 d = -1 ∧ x2 < τ.1.2 3 d ∧ ∃ i', i' < i ∧ nbr W i' y d
        · exact Or.inr ((A d hdn).1 hq)
        · rw [(A d hdn).2 hq] at c3
          exact Or.inl (fun w => c3 w.1)
    · rw [if_neg c2]
      refine hstay (fun c hc z => ?_)
      exfalso
      have z2 := z.2
      have : c / W < H := by
        rw [Nat.div_lt_iff_lt_mul (by omega), Nat.mul_comm]
        omega
      rw [hyb] at z2
      generalize c / W = cw at z2 this
      omega
  · rw [if_neg c1]
    refine hstay (fun c hc z => ?_)
    exfalso
    have z1 := z.1
    have : c % W < W := Nat.mod_lt c (by omega)
    rw [hya] at z1
    omega
end WAYX
