/-! taken things, as bits of a long -/
def b64 (w : Int64) (i : Nat) : Bool := w.toBitVec.getLsbD i
theorem b64_ext {x y : Int64} (h : ∀ i, i < 64 → b64 x i = b64 y i) : x = y := Int64.toBitVec_inj.mp (BitVec.eq_of_getLsbD_eq h)
theorem b64_0 (i : Nat) : b64 0 i = false := BitVec.getLsbD_zero
theorem b64_1 : ∀ i : Fin 64, b64 1 i.1 = decide (i.1 = 0) := by decide +kernel
theorem sm64 : ∀ n : Fin 60, (((nI n.1).toInt64 &&& 63).toBitVec.smod 64).toNat = n.1 := by decide +kernel
theorem b64_sh : ∀ k : Fin 60, ∀ i : Fin 64, b64 ((1 : Int64) <<< ((nI k.1).toInt64 &&& 63)) i.1 = decide (i.1 = k.1) := by decide +kernel
theorem b64_t (x : Int64) {k : Nat} (hk : k < 60) : (x >>> ((nI k).toInt64 &&& 63)) &&& 1 = if b64 x k = true then 1 else 0 := by
  apply b64_ext
  intro i hi
  have h1 : b64 ((x >>> ((nI k).toInt64 &&& 63)) &&& 1) i = (b64 (x >>> ((nI k).toInt64 &&& 63)) i && b64 1 i) := by
    unfold b64
    rw [Int64.toBitVec_and, BitVec.getLsbD_and]
  have h2 := b64_1 ⟨i, hi⟩
  rw [h1, h2]
  by_cases h0 : i = 0
  · subst h0
    have h3 : b64 (x >>> ((nI k).toInt64 &&& 63)) 0 = b64 x k := by
      unfold b64
      rw [Int64.toBitVec_shiftRight]
      show (x.toBitVec.sshiftRight (((nI k).toInt64 &&& 63).toBitVec.smod 64).toNat).getLsbD 0 = _
      rw [sm64 ⟨k, hk⟩, BitVec.getLsbD_sshiftRight]
      simp [show k < 64 by omega]
    rw [h3]
    cases hb : b64 x k with
    | true => rfl
    | false => rfl
  · rw [show decide (i = 0) = false from decide_eq_false h0, Bool.and_false]
    cases hb : b64 x k with
    | true => rw [if_pos rfl, h2]; exact (decide_eq_false h0).symm
    | false => rw [if_neg (by simp), b64_0]
theorem b64_set (x : Int64) {k i : Nat} (hk : k < 60) (hi : i < 64) : b64 (x ||| ((1 : Int64) <<< ((nI k).toInt64 &&& 63))) i = (b64 x i || decide (i = k)) := by
  have h1 : b64 (x ||| ((1 : Int64) <<< ((nI k).toInt64 &&& 63))) i = (b64 x i || b64 ((1 : Int64) <<< ((nI k).toInt64 &&& 63)) i) := by
    unfold b64
    rw [Int64.toBitVec_or, BitVec.getLsbD_or]
  rw [h1, b64_sh ⟨k, hk⟩ ⟨i, hi⟩]
theorem lgc (w : Int64) {k : Nat} (hk : k < 60) : lg_cmp ((w >>> ((nI k).toInt64 &&& 63)) &&& 1) 1 = 0 ↔ b64 w k = true := by
  rw [b64_t w hk]
  cases hb : b64 w k with
  | true => exact ⟨fun _ => rfl, fun _ => by decide +kernel⟩
  | false => exact ⟨fun q => absurd q (by decide +kernel), fun q => by cases q⟩
