theorem and255 (x : Int32) : 0 ≤ (x &&& 255).toInt ∧ (x &&& 255).toInt ≤ 255 := by
  have h1 : (x &&& 255).toBitVec.toNat ≤ 255 := by
    show (x.toBitVec &&& (255 : Int32).toBitVec).toNat ≤ 255
    rw [BitVec.toNat_and]
    exact Nat.and_le_right
  have h2 : (x &&& 255).toInt = ((x &&& 255).toBitVec.toNat : Int) := by
    show (x &&& 255).toBitVec.toInt = _
    exact BitVec.toInt_eq_toNat_of_lt (by omega)
  omega
theorem tk_tk {α : Type} (c s c' s' : Nat) (x : XR α) : tk c s (tk c' s' x) = tk (c + c') (s + s') x := by
  cases x with
  | none => rfl
  | some r =>
    obtain ⟨v, t, a, b⟩ := r
    simp only [tk_s, Nat.add_assoc]
noncomputable def cn (P : Nat → Prop) : Nat → Nat
  | 0 => 0
  | k + 1 => cn P k + @ite Nat (P k) (Classical.propDecidable _) 1 0
theorem cn_s (P : Nat → Prop) (k : Nat) : nI (cn P (k + 1)) = nI (cn P k) + cI (P k) := by
  by_cases h : P k
  · rw [cI_t h, ← nI_succ, cn, if_pos h]
  · rw [cI_f h, cn, if_neg h, show (0 : Int32) = nI 0 from rfl, ni_add]
theorem cn_le (P : Nat → Prop) (k : Nat) : cn P k ≤ k := by
  induction k with
  | zero => exact Nat.le_refl _
  | succ k ih =>
    by_cases h : P k
    · rw [cn, if_pos h]; omega
    · rw [cn, if_neg h]; omega
def zX (τ : XS) (v : Int32) (q : Nat → Int32) : XS := (aS (sS τ.1 21 v) 9 q, τ.2)
section LOST2
variable {F : Nat} {τ : XS} {σ : MS}
def akQ (τ : XS) (σ : MS) (x1 : Int32) (n N : Nat) (v : Int32 × XS × Nat × Nat) (w : Int32 × MS) : Prop := ∃ (b : Int32) (q q' : Nat → Int32), v = (b, zX τ x1 q, 0, 0) ∧ w = (b, aS σ 52 q') ∧ (b = 0 ∨ (b = 1 ∧ ∀ i, i < n → q i = q' i ∧ ∃ f, f < N ∧ q i = nI f))
theorem asks_j (hF : 1000 ≤ F) (h : R τ σ) {N : Nat} (hN : σ.1 57 = nI N) (hNb : N ≤ 150) {n : Nat} (hn : n ≤ 100) : ∃ v w, x0_asks F (nI n) τ = some v ∧ m_hearsFinds F (nI n) σ = some w ∧ akQ τ σ (nI n) n N v w := by
  have e16 : τ.1.1 16 = nI N := h.e16.trans hN
  unfold x0_asks m_hearsFinds
  rw [nx_e, show xS τ 21 (nI n) = zX τ (nI n) (τ.1.2 9) from by
    unfold zX
    rw [show τ.1.2 9 = (sS τ.1 21 (nI n)).2 9 from rfl, aS_id]
    rfl, show lp (m_hearsFinds_B2 F (nI n)) F (0, σ) = lp (m_hearsFinds_B2 F (nI n)) F (0, aS σ 52 (σ.2 52)) by rw [aS_id]]
  refine lp_join (BX := x0_asks_B7 F (nI n)) (BM := m_hearsFinds_B2 F (nI n)) (fun a b => ∃ (k : Nat) (q q' : Nat → Int32), k ≤ n ∧ a = (nI k, zX τ (nI n) q) ∧ b = (nI k, aS σ 52 q') ∧ ∀ i, i < k → q i = q' i ∧ ∃ f, f < N ∧ q i = nI f) (fun a _ => n - cN a.1) (akQ τ σ (nI n) n N) ?_ F _ _ ⟨0, _, _, by omega, rfl, rfl, fun i hi => by omega⟩ (by show n - cN 0 < F; omega)
  intro RX RM a b hi ih
  obtain ⟨k, q, q', hk, rfl, rfl, hq⟩ := hi
  unfold x0_asks_B7 m_hearsFinds_B2
  have z4 : ∀ v q, (zX τ v q).1.2 4 = σ.2 20 := fun v q => h.a4
  have m20 : ∀ q, (aS σ 52 q).2 20 = σ.2 20 := fun q => rfl
  have zA : ∀ v q i x, xA (zX τ v q) 9 i x = zX τ v (upd q i x) := by
    intro v q i x
    unfold xA zX
    rw [sA_aS]
  have z9 : ∀ v q, (zX τ v q).1.2 9 = q := fun v q => rfl
  have z16 : ∀ v q, (zX τ v q).1.1 16 = nI N := fun v q => e16
  have m52 : ∀ q, (aS σ 52 q).2 52 = q := fun q => rfl
  have m57 : ∀ q, (aS σ 52 q).1 57 = nI N := fun q => hN
  simp only [Int32.le_iff_toInt_le, ni_i (show k < 2147483648 by omega), ni_i (show n < 2147483648 by omega)]
  refine jn_ite (fun _ => ⟨_, _, rfl, rfl, 1, q, q', rfl, rfl, Or.inr ⟨rfl, fun i hi => hq i (by omega)⟩⟩) (fun c1 => ?_)
  have hu : ∀ (f : Nat → Int32) (x : Int32), upd f k x k = x := fun f x => if_pos rfl
  simp only [okI_nI (show k < 400 by omega) (show 400 < 2147483648 by omega), okI_nI (show k < 100 by omega) (show 100 < 2147483648 by omega), if_true, ni_c (show k < 2147483648 by omega), z4, m20, nx_e, zA, sA_aS, z9, z16, m52, hu, m_isFind_e, m57, ob_s, bI_0, ite_not, Int32.lt_iff_toInt_lt, ni_i (show N < 2147483648 by omega)]
  obtain ⟨v0, v1⟩ := and255 (σ.2 20 k)
  generalize hv : σ.2 20 k &&& 255 = v at *
  refine jn_itq (by omega) (fun c2 => ?_) (fun _ => ⟨_, _, rfl, rfl, 0, upd q k v, upd q' k v, rfl, rfl, Or.inl rfl⟩)
  obtain ⟨f, fb, hf, fi⟩ := nn_of v0
  have hq2 : ∀ i, i < k + 1 → upd q k v i = upd q' k v i ∧ ∃ f, f < N ∧ upd q k v i = nI f := by
    intro i hi
    unfold upd
    by_cases hik : i = k
    · rw [if_pos hik, if_pos hik]
      exact ⟨rfl, f, by omega, hf⟩
    · rw [if_neg hik, if_neg hik]
      exact hq i (by omega)
  refine lp_join (BX := x0_asks_B45 F (fun a1 => RX (nI k + 1, a1.2)) (nI n) (nI k)) (BM := m_hearsFinds_B40 F (fun a1 => RM (nI k + 1, a1.2)) (nI n) (nI k)) (fun a b => ∃ (i : Nat), i ≤ k ∧ a = (nI i, zX τ (nI n) (upd q k v)) ∧ b = (nI i, aS σ 52 (upd q' k v))) (fun a _ => k - cN a.1) (akQ τ σ (nI n) n N) ?_ F _ _ ⟨0, by omega, rfl, rfl⟩ (by show k - cN 0 < F; omega)
  intro RX' RM' a b hi ih'
  obtain ⟨i, hi, rfl, rfl⟩ := hi
  unfold x0_asks_B45 m_hearsFinds_B40
  simp only [Int32.le_iff_toInt_le, ni_i (show k < 2147483648 by omega), ni_i (show i < 2147483648 by omega)]
  refine jn_ite (fun _ => ?_) (fun c3 => ?_)
  · refine ih _ _ ⟨k + 1, _, _, by omega, by rw [nI_succ], by rw [nI_succ], hq2⟩ ?_
    show n - cN (nI k + 1) < n - cN (nI k)
    rw [← nI_succ, cN_nI (by omega), cN_nI (by omega)]
    omega
  · simp only [okI_nI (show k < 100 by omega) (show 100 < 2147483648 by omega), okI_nI (show i < 100 by omega) (show 100 < 2147483648 by omega), if_true, ni_c (show k < 2147483648 by omega), ni_c (show i < 2147483648 by omega), z9, m52, ← (hq2 i (by omega)).1, ← (hq2 k (by omega)).1]
    refine jn_ite (fun _ => ⟨_, _, rfl, rfl, 0, _, _, rfl, rfl, Or.inl rfl⟩) (fun _ => ?_)
    refine ih' _ _ ⟨i + 1, by omega, by rw [nI_succ], by rw [nI_succ]⟩ ?_
    show k - cN (nI i + 1) < k - cN (nI i)
    rw [← nI_succ, cN_nI (by omega), cN_nI (by omega)]
    omega
end LOST2
