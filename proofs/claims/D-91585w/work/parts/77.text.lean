/-! texts: bytes and numbers -/
def sB (t : Nat → Int32) (L p : Nat) : Nat := if p < L then cN (t p &&& 255) else 256
theorem sB_n {t : Nat → Int32} {L p : Nat} (h : p < L) : t p &&& 255 = nI (sB t L p) ∧ sB t L p < 256 := by
  obtain ⟨h1, h2⟩ := and255 (t p)
  have h3 := c_i h1
  unfold sB cN
  rw [if_pos h]
  exact ⟨(ni_eq h1).symm, by omega⟩
theorem sB_e {t : Nat → Int32} {L p : Nat} (h : ¬ p < L) : sB t L p = 256 := if_neg h
/-- a digit -/
def dg (B : Nat → Nat) (p : Nat) : Prop := 48 ≤ B p ∧ B p ≤ 57
/-- the value of k digits -/
def sv (B : Nat → Nat) (p : Nat) : Nat → Nat
  | 0 => 0
  | k + 1 => 10 * sv B p k + (B (p + k) - 48)
theorem sv_b {B : Nat → Nat} {p : Nat} : ∀ k, (∀ i, i < k → dg B (p + i)) → sv B p k < 10 ^ k
  | 0, _ => Nat.zero_lt_one
  | k + 1, h => by
    have ih := sv_b k (fun i hi => h i (by omega))
    have hd := h k (by omega)
    unfold dg at hd
    rw [sv, Nat.pow_succ]
    omega
/-- reading a number: an error (what, where), or where it ends and what it is -/
def sN (B : Nat → Nat) (most p : Nat) (r : (Nat × Nat) ⊕ (Nat × Nat)) : Prop :=
  (¬ dg B p ∧ r = .inl (1, p)) ∨ (∃ k, 1 ≤ k ∧ k ≤ 5 ∧ (∀ i, i < k → dg B (p + i)) ∧ ¬ dg B (p + k) ∧ ((most < sv B p k ∧ r = .inl (3, p)) ∨ (sv B p k ≤ most ∧ r = .inr (p + k, sv B p k)))) ∨ ((∀ i, i < 6 → dg B (p + i)) ∧ r = .inl (2, p + 5))
theorem sN_u {B : Nat → Nat} {most p : Nat} {r r' : (Nat × Nat) ⊕ (Nat × Nat)} (h : sN B most p r) (h' : sN B most p r') : r = r' := by
  rcases h with ⟨a, rfl⟩ | ⟨k, k1, k2, k3, k4, k5⟩ | ⟨a, rfl⟩
  · rcases h' with ⟨b, rfl⟩ | ⟨k', q1, q2, q3, q4, q5⟩ | ⟨b, rfl⟩
    · rfl
    · exact absurd (q3 0 (by omega)) a
    · exact absurd (b 0 (by omega)) a
  · rcases h' with ⟨b, rfl⟩ | ⟨k', q1, q2, q3, q4, q5⟩ | ⟨b, rfl⟩
    · exact absurd (k3 0 (by omega)) b
    · have hk : k = k' := by
        by_cases h1 : k < k'
        · exact absurd (q3 k h1) k4
        · by_cases h2 : k' < k
          · exact absurd (k3 k' h2) q4
          · omega
      subst hk
      rcases k5 with ⟨a1, rfl⟩ | ⟨a1, rfl⟩ <;> rcases q5 with ⟨b1, rfl⟩ | ⟨b1, rfl⟩
      · rfl
      · omega
      · omega
      · rfl
    · exact absurd (b k (by omega)) k4
  · rcases h' with ⟨b, rfl⟩ | ⟨k', q1, q2, q3, q4, q5⟩ | ⟨b, rfl⟩
    · exact absurd (a 0 (by omega)) b
    · exact absurd (a k' (by omega)) q4
    · rfl
