/-! the texts' language, told once: what is read from place p, as both sides read it -/
def dk (B : Nat → Nat) : Nat → Nat → Nat
  | 0, _ => 0
  | n + 1, p => if 48 ≤ B p ∧ B p ≤ 57 then dk B n (p + 1) + 1 else 0
theorem dk_le {B : Nat → Nat} : ∀ n p, dk B n p ≤ n
  | 0, _ => Nat.le_refl 0
  | n + 1, p => by
    have := dk_le (B := B) n (p + 1)
    rw [dk]
    split <;> omega
theorem dk_in {B : Nat → Nat} : ∀ n p i, i < dk B n p → dg B (p + i)
  | 0, p, i, h => absurd h (Nat.not_lt_zero i)
  | n + 1, p, i, h => by
    rw [dk] at h
    split at h
    · rename_i h1
      cases i with
      | zero => exact h1
      | succ i =>
        have := dk_in (B := B) n (p + 1) i (by omega)
        rw [show p + (i + 1) = p + 1 + i from by omega]
        exact this
    · omega
theorem dk_out {B : Nat → Nat} : ∀ n p, dk B n p < n → ¬ dg B (p + dk B n p)
  | 0, p, h => absurd h (Nat.not_lt_zero _)
  | n + 1, p, h => by
    rw [dk] at h ⊢
    split at h
    · rename_i h1
      rw [if_pos h1]
      have := dk_out (B := B) n (p + 1) (by omega)
      rw [show p + (dk B n (p + 1) + 1) = p + 1 + dk B n (p + 1) from by omega]
      exact this
    · rename_i h1
      rw [if_neg h1]
      exact h1
def sNum (B : Nat → Nat) (most p : Nat) : (Nat × Nat) ⊕ (Nat × Nat) :=
  if dk B 6 p = 0 then .inl (1, p) else if dk B 6 p = 6 then .inl (2, p + 5) else if most < sv B p (dk B 6 p) then .inl (3, p) else .inr (p + dk B 6 p, sv B p (dk B 6 p))
theorem sN_e {B : Nat → Nat} {most p : Nat} : sN B most p (sNum B most p) := by
  have h1 := dk_le (B := B) 6 p
  have h2 := dk_in (B := B) 6 p
  have h3 := dk_out (B := B) 6 p
  unfold sNum sN
  by_cases h0 : dk B 6 p = 0
  · rw [if_pos h0]
    rw [h0] at h3
    exact Or.inl ⟨h3 (by omega), rfl⟩
  · rw [if_neg h0]
    by_cases h6 : dk B 6 p = 6
    · rw [if_pos h6]
      rw [h6] at h2
      exact Or.inr (Or.inr ⟨h2, rfl⟩)
    · rw [if_neg h6]
      refine Or.inr (Or.inl ⟨dk B 6 p, by omega, by omega, h2, h3 (by omega), ?_⟩)
      by_cases hm : most < sv B p (dk B 6 p)
      · rw [if_pos hm]; exact Or.inl ⟨hm, rfl⟩
      · rw [if_neg hm]; exact Or.inr ⟨by omega, rfl⟩
/-- what a sum or a condition is worth with the facts f; none: refused -/
abbrev sD : Type := (Nat → Int32) → Option Int32
/-- an error (what, where), or: where it ends, its codes, its worth -/
abbrev sE : Type := (Nat × Nat) ⊕ (Nat × List Nat × sD)
def fct (c : Nat) : Nat := if c = 119 then 0 else if c = 104 then 1 else if c = 107 then 2 else if c = 109 then 3 else if c = 112 then 4 else 5
def mop (c : Nat) : Nat := if c = 42 then 4 else if c = 47 then 5 else if c = 37 then 6 else 0
def aop (c : Nat) : Nat := if c = 43 then 2 else if c = 45 then 3 else 0
def cop (c : Nat) : Nat := if c = 60 then 7 else if c = 62 then 8 else if c = 61 then 9 else 0
def opd (op : Nat) (u u' : sD) : sD := fun f => (u f).bind fun x => (u' f).bind fun y => if op = 2 then some (x + y) else if op = 3 then some (x - y) else if op = 4 then some (x * y) else if y = 0 then none else if op = 5 then some (x / y) else some (jrem x y)
def cmd (op : Nat) (u u' : sD) : sD := fun f => (u f).bind fun x => (u' f).bind fun y => some (if op = 7 then bI (x < y) else if op = 8 then bI (y < x) else bI (x = y))
def ntd (u : sD) : sD := fun f => (u f).bind fun x => some (1 - x)
def jd (op : Nat) (u u' : sD) : sD := fun f => (u f).bind fun x => if x = (if op = 12 then 1 else 0) then some x else u' f
/-- a factor; d brackets may still be opened; S: the sum in a bracket -/
def facS (B : Nat → Nat) (d : Nat) (S : Nat → sE) (p : Nat) : sE :=
  if B p = 91 then (if d = 0 then .inl (5, p) else match S (p + 1) with
    | .inl e => .inl e
    | .inr (p', c, u) => if B p' = 93 then .inr (p' + 1, c, u) else .inl (1, p'))
  else if 48 ≤ B p ∧ B p ≤ 57 then (match sNum B 99999 p with
    | .inl e => .inl e
    | .inr (p', v) => .inr (p', [v], fun _ => some (nI v)))
  else if fct (B p) = 5 then .inl (1, p) else .inr (p + 1, [1048576 + fct (B p)], fun f => some (f (fct (B p))))
/-- the rest of a row with the signs op -/
def rowT (B : Nat → Nat) (op : Nat → Nat) (S : Nat → sE) : Nat → Nat → List Nat → sD → sE
  | 0, _, _, _ => .inl (0, 0)
  | n + 1, p, c, u => if op (B p) = 0 then .inr (p, c, u) else match S (p + 1) with
    | .inl e => .inl e
    | .inr (p', c', u') => rowT B op S n p' (c ++ (c' ++ [1048576 * op (B p)])) (opd (op (B p)) u u')
def rowS (B : Nat → Nat) (op : Nat → Nat) (S : Nat → sE) (p : Nat) : sE := match S p with
  | .inl e => .inl e
  | .inr (p', c, u) => rowT B op S 200 p' c u
def sumS (B : Nat → Nat) : Nat → Nat → sE
  | 0 => rowS B aop (rowS B mop (facS B 0 (fun _ => .inl (0, 0))))
  | d + 1 => rowS B aop (rowS B mop (facS B (d + 1) (sumS B d)))
/-- the rest of a row with the sign b, whose jump is op; s: where the codes begin -/
def jmpT (B : Nat → Nat) (b op : Nat) (S : Nat → Nat → sE) : Nat → Nat → Nat → List Nat → sD → sE
  | 0, _, _, _, _ => .inl (0, 0)
  | n + 1, s, p, c, u => if B p = b then (match S (s + c.length + 1) (p + 1) with
    | .inl e => .inl e
    | .inr (p', c', u') => jmpT B b op S n s p' (c ++ ((1048576 * op + (s + c.length + 1 + c'.length)) :: c')) (jd op u u')) else .inr (p, c, u)
def jmpS (B : Nat → Nat) (b op : Nat) (S : Nat → Nat → sE) (s p : Nat) : sE := match S s p with
  | .inl e => .inl e
  | .inr (p', c, u) => jmpT B b op S 200 s p' c u
/-- the bracket's end -/
def conE (B : Nat → Nat) : sE → sE
  | .inl e => .inl e
  | .inr (p', c, u) => if B p' = 41 then .inr (p' + 1, c, u) else .inl (1, p')
def conS (B : Nat → Nat) (d : Nat) (S : Nat → Nat → sE) (s p : Nat) : sE :=
  if d = 0 then .inl (5, p) else conE B (jmpS B 124 12 (jmpS B 38 11 S) s (p + 1))
def cmpS (B : Nat → Nat) (S : Nat → sE) (p : Nat) : sE := match S p with
    | .inl e => .inl e
    | .inr (p1, c1, u1) => if cop (B p1) = 0 then .inl (1, p1) else match S (p1 + 1) with
      | .inl e => .inl e
      | .inr (p2, c2, u2) => .inr (p2, c1 ++ (c2 ++ [1048576 * cop (B p1)]), cmd (cop (B p1)) u1 u2)
def pieF (B : Nat → Nat) (d : Nat) (S : Nat → Nat → sE) (s p : Nat) : sE :=
  if B p = 33 then (if d = 0 then .inl (5, p) else match S s (p + 1) with
    | .inl e => .inl e
    | .inr (p', c, u) => .inr (p', c ++ [10485760], ntd u))
  else if B p = 40 then conS B d S s p
  else cmpS B (sumS B d) p
def pieS (B : Nat → Nat) : Nat → Nat → Nat → sE
  | 0 => pieF B 0 (fun _ _ => .inl (0, 0))
  | d + 1 => pieF B (d + 1) (pieS B d)
/-- the plain law of what is read: it ends later, at or before L; its codes are no more than its bytes -/
def sOk (L p : Nat) (r : sE) : Prop := match r with
  | .inl e => e.1 = 0 ∨ (1 ≤ e.1 ∧ e.1 ≤ 5 ∧ e.2 ≤ L)
  | .inr (p', c, _) => p < p' ∧ p' ≤ L ∧ c.length + p ≤ p' ∧ c ≠ [] ∧ ∀ x ∈ c, x < 13631488
def sBL (B : Nat → Nat) (L : Nat) : Prop := L ≤ 160 ∧ ∀ p, B p < 256 ↔ p < L
theorem sBL.lt {B : Nat → Nat} {L : Nat} (h : sBL B L) {p : Nat} (hp : B p < 256) : p < L := (h.2 p).mp hp
theorem sNum_ok {B : Nat → Nat} {L most p : Nat} (h : sBL B L) (hp : p ≤ L) : match sNum B most p with
  | .inl e => 1 ≤ e.1 ∧ e.1 ≤ 5 ∧ e.2 ≤ L
  | .inr (p', v) => p < p' ∧ p' ≤ L ∧ v ≤ most ∧ v < 100000 := by
  have h1 := dk_le (B := B) 6 p
  have h2 := dk_in (B := B) 6 p
  unfold sNum
  by_cases h0 : dk B 6 p = 0
  · rw [if_pos h0]
    exact ⟨by omega, by omega, hp⟩
  · have hl : p + (dk B 6 p - 1) < L := by
      have := h2 (dk B 6 p - 1) (by omega)
      unfold dg at this
      exact h.lt (by omega)
    rw [if_neg h0]
    by_cases h6 : dk B 6 p = 6
    · rw [if_pos h6]
      exact ⟨by show 1 ≤ 2; omega, by show 2 ≤ 5; omega, by show p + 5 ≤ L; omega⟩
    · rw [if_neg h6]
      by_cases hm : most < sv B p (dk B 6 p)
      · rw [if_pos hm]; exact ⟨by show 1 ≤ 3; omega, by show 3 ≤ 5; omega, hp⟩
      · rw [if_neg hm]
        refine ⟨by omega, by omega, by omega, ?_⟩
        have h5 := sv_b (B := B) (p := p) (dk B 6 p) h2
        have h7 : 10 ^ dk B 6 p ≤ 10 ^ 5 := Nat.pow_le_pow_right (by omega) (by omega)
        have h8 : 10 ^ 5 = 100000 := by decide
        show sv B p (dk B 6 p) < 100000
        omega
theorem fct_le {c : Nat} : fct c ≤ 5 := by
  unfold fct
  repeat' split
  all_goals omega
theorem facS_ok {B : Nat → Nat} {L d : Nat} {S : Nat → sE} (h : sBL B L) (hS : d ≠ 0 → ∀ p, p ≤ L → sOk L p (S p)) {p : Nat} (hp : p ≤ L) : sOk L p (facS B d S p) := by
  unfold facS
  by_cases h1 : B p = 91
  · rw [if_pos h1]
    have hpL : p < L := h.lt (by omega)
    by_cases h2 : d = 0
    · rw [if_pos h2]; exact Or.inr ⟨by show 1 ≤ 5; omega, by show 5 ≤ 5; omega, hp⟩
    · rw [if_neg h2]
      have := hS h2 (p + 1) (by omega)
      revert this
      cases S (p + 1) with
      | inl e => exact id
      | inr r =>
        obtain ⟨p', c, u⟩ := r
        intro ⟨a1, a2, a3, a4, a5⟩
        show sOk L p (if B p' = 93 then .inr (p' + 1, c, u) else .inl (1, p'))
        by_cases h3 : B p' = 93
        · rw [if_pos h3]
          have : p' < L := h.lt (by omega)
          exact ⟨by omega, by omega, by omega, a4, a5⟩
        · rw [if_neg h3]
          exact Or.inr ⟨by show 1 ≤ 1; omega, by show 1 ≤ 5; omega, a2⟩
  · rw [if_neg h1]
    by_cases h2 : 48 ≤ B p ∧ B p ≤ 57
    · rw [if_pos h2]
      have := sNum_ok (most := 99999) h hp
      revert this
      cases sNum B 99999 p with
      | inl e => exact Or.inr
      | inr r =>
        obtain ⟨p', v⟩ := r
        intro ⟨a1, a2, a3, a4⟩
        refine ⟨a1, a2, by show 1 + p ≤ p'; omega, by simp, ?_⟩
        intro x hx
        rw [List.mem_singleton] at hx
        omega
    · rw [if_neg h2]
      by_cases h3 : fct (B p) = 5
      · rw [if_pos h3]; exact Or.inr ⟨by show 1 ≤ 1; omega, by show 1 ≤ 5; omega, hp⟩
      · rw [if_neg h3]
        have hpL : p < L := h.lt (by
          by_cases h4 : B p < 256
          · exact h4
          · exfalso
            apply h3
            unfold fct
            rw [if_neg (by omega), if_neg (by omega), if_neg (by omega), if_neg (by omega), if_neg (by omega)])
        refine ⟨by omega, by omega, by show 1 + p ≤ p + 1; omega, by simp, ?_⟩
        intro x hx
        rw [List.mem_singleton] at hx
        have := fct_le (c := B p)
        omega
/-- signs: their bytes lie in the text, their codes are small -/
def sOp (op : Nat → Nat) : Prop := ∀ c, op c ≠ 0 → c < 256 ∧ op c < 13
theorem sOp_m : sOp mop := by
  intro c h
  unfold mop at h ⊢
  repeat' split at h
  all_goals first | omega | (repeat' split; all_goals omega)
theorem sOp_a : sOp aop := by
  intro c h
  unfold aop at h ⊢
  repeat' split at h
  all_goals first | omega | (repeat' split; all_goals omega)
theorem sOp_c : sOp cop := by
  intro c h
  unfold cop at h ⊢
  repeat' split at h
  all_goals first | omega | (repeat' split; all_goals omega)
theorem rowT_ok {B : Nat → Nat} {L : Nat} {op : Nat → Nat} {S : Nat → sE} (h : sBL B L) (ho : sOp op) (hS : ∀ p, p ≤ L → sOk L p (S p)) : ∀ n p c u p0, p0 < p → p ≤ L → c.length + p0 ≤ p → c ≠ [] → (∀ x ∈ c, x < 13631488) → sOk L p0 (rowT B op S n p c u)
  | 0, _, _, _, _, _, _, _, _, _ => Or.inl rfl
  | n + 1, p, c, u, p0, h0, h1, h2, h3, h4 => by
    rw [rowT]
    by_cases hb : op (B p) = 0
    · rw [if_pos hb]; exact ⟨h0, h1, h2, h3, h4⟩
    · rw [if_neg hb]
      obtain ⟨hb1, hb2⟩ := ho _ hb
      have hpL := h.lt hb1
      have := hS (p + 1) (by omega)
      revert this
      cases S (p + 1) with
      | inl e => exact id
      | inr r =>
        obtain ⟨p', c', u'⟩ := r
        intro ⟨a1, a2, a3, a4, a5⟩
        refine rowT_ok h ho hS n p' _ _ p0 (by omega) a2 ?_ (by simp [h3]) ?_
        · rw [List.length_append, List.length_append]
          show c.length + (c'.length + 1) + p0 ≤ p'
          omega
        · intro x hx
          rw [List.mem_append, List.mem_append, List.mem_singleton] at hx
          rcases hx with hx | hx | hx
          · exact h4 x hx
          · exact a5 x hx
          · omega
theorem rowS_ok {B : Nat → Nat} {L : Nat} {op : Nat → Nat} {S : Nat → sE} (h : sBL B L) (ho : sOp op) (hS : ∀ p, p ≤ L → sOk L p (S p)) {p : Nat} (hp : p ≤ L) : sOk L p (rowS B op S p) := by
  unfold rowS
  have := hS p hp
  revert this
  cases S p with
  | inl e => exact id
  | inr r =>
    obtain ⟨p', c', u'⟩ := r
    intro ⟨a1, a2, a3, a4, a5⟩
    exact rowT_ok h ho hS 200 p' c' u' p a1 a2 a3 a4 a5
theorem sumS_ok {B : Nat → Nat} {L : Nat} (h : sBL B L) : ∀ d p, p ≤ L → sOk L p (sumS B d p)
  | 0, p, hp => rowS_ok h sOp_a (fun p hp => rowS_ok h sOp_m (fun p hp => facS_ok h (fun x => absurd rfl x) hp) hp) hp
  | d + 1, p, hp => rowS_ok h sOp_a (fun p hp => rowS_ok h sOp_m (fun p hp => facS_ok h (fun _ p hp => sumS_ok h d p hp) hp) hp) hp
/-- conditions also: codes begin at s ≤ p, so jumps stay below 1000 -/
theorem jmpT_ok {B : Nat → Nat} {L b op : Nat} {S : Nat → Nat → sE} (h : sBL B L) (hb : b < 256) (ho : op = 11 ∨ op = 12) (hS : ∀ s p, s ≤ p → p ≤ L → sOk L p (S s p)) : ∀ n s p c u p0, s ≤ p0 → p0 < p → p ≤ L → c.length + p0 ≤ p → c ≠ [] → (∀ x ∈ c, x < 13631488) → sOk L p0 (jmpT B b op S n s p c u)
  | 0, _, _, _, _, _, _, _, _, _, _, _ => Or.inl rfl
  | n + 1, s, p, c, u, p0, hs, h0, h1, h2, h3, h4 => by
    rw [jmpT]
    by_cases hbb : B p = b
    · rw [if_pos hbb]
      have hpL := h.lt (p := p) (by omega)
      have := hS (s + c.length + 1) (p + 1) (by omega) (by omega)
      revert this
      cases S (s + c.length + 1) (p + 1) with
      | inl e => exact id
      | inr r =>
        obtain ⟨p', c', u'⟩ := r
        intro ⟨a1, a2, a3, a4, a5⟩
        refine jmpT_ok h hb ho hS n s p' _ _ p0 hs (by omega) a2 ?_ (by simp) ?_
        · rw [List.length_append]
          show c.length + (c'.length + 1) + p0 ≤ p'
          omega
        · intro x hx
          have := h.1
          rw [List.mem_append, List.mem_cons] at hx
          rcases hx with hx | hx | hx
          · exact h4 x hx
          · omega
          · exact a5 x hx
    · rw [if_neg hbb]; exact ⟨h0, h1, h2, h3, h4⟩
theorem jmpS_ok {B : Nat → Nat} {L b op : Nat} {S : Nat → Nat → sE} (h : sBL B L) (hb : b < 256) (ho : op = 11 ∨ op = 12) (hS : ∀ s p, s ≤ p → p ≤ L → sOk L p (S s p)) (s p : Nat) (hs : s ≤ p) (hp : p ≤ L) : sOk L p (jmpS B b op S s p) := by
  unfold jmpS
  have := hS s p hs hp
  revert this
  cases S s p with
  | inl e => exact id
  | inr r =>
    obtain ⟨p', c', u'⟩ := r
    intro ⟨a1, a2, a3, a4, a5⟩
    exact jmpT_ok h hb ho hS 200 s p' c' u' p hs a1 a2 a3 a4 a5
theorem conS_ok {B : Nat → Nat} {L d : Nat} {S : Nat → Nat → sE} (h : sBL B L) (hS : d ≠ 0 → ∀ s p, s ≤ p → p ≤ L → sOk L p (S s p)) {s p : Nat} (hs : s ≤ p) (hp : B p = 40) : sOk L p (conS B d S s p) := by
  have hpL := h.lt (p := p) (by omega)
  unfold conS
  by_cases hd : d = 0
  · rw [if_pos hd]; exact Or.inr ⟨by show 1 ≤ 5; omega, by show 5 ≤ 5; omega, by show p ≤ L; omega⟩
  · rw [if_neg hd]
    have := jmpS_ok h (b := 124) (op := 12) (by omega) (Or.inr rfl) (jmpS_ok h (b := 38) (op := 11) (by omega) (Or.inl rfl) (hS hd)) s (p + 1) (by omega) (by omega)
    revert this
    cases jmpS B 124 12 (jmpS B 38 11 S) s (p + 1) with
    | inl e => exact id
    | inr r =>
      obtain ⟨p', c, u⟩ := r
      intro ⟨a1, a2, a3, a4, a5⟩
      show sOk L p (if B p' = 41 then .inr (p' + 1, c, u) else .inl (1, p'))
      by_cases h3 : B p' = 41
      · rw [if_pos h3]
        have : p' < L := h.lt (by omega)
        exact ⟨by omega, by omega, by omega, a4, a5⟩
      · rw [if_neg h3]
        exact Or.inr ⟨by show 1 ≤ 1; omega, by show 1 ≤ 5; omega, a2⟩
theorem cmpS_ok {B : Nat → Nat} {L : Nat} {S : Nat → sE} (h : sBL B L) (hS : ∀ p, p ≤ L → sOk L p (S p)) {p : Nat} (hp : p ≤ L) : sOk L p (cmpS B S p) := by
  unfold cmpS
  have := hS p hp
  revert this
  cases S p with
  | inl e => exact id
  | inr r =>
    obtain ⟨p1, c1, u1⟩ := r
    intro ⟨a1, a2, a3, a4, a5⟩
    show sOk L p (if cop (B p1) = 0 then .inl (1, p1) else match S (p1 + 1) with
      | .inl e => .inl e
      | .inr (p2, c2, u2) => .inr (p2, c1 ++ (c2 ++ [1048576 * cop (B p1)]), cmd (cop (B p1)) u1 u2))
    by_cases hc : cop (B p1) = 0
    · rw [if_pos hc]; exact Or.inr ⟨by show 1 ≤ 1; omega, by show 1 ≤ 5; omega, a2⟩
    · rw [if_neg hc]
      obtain ⟨b1, b2⟩ := sOp_c _ hc
      have hpL := h.lt b1
      have := hS (p1 + 1) (by omega)
      revert this
      cases S (p1 + 1) with
      | inl e => exact id
      | inr r =>
        obtain ⟨p2, c2, u2⟩ := r
        intro ⟨d1, d2, d3, d4, d5⟩
        refine ⟨by omega, d2, ?_, by simp, ?_⟩
        · rw [List.length_append, List.length_append]
          show c1.length + (c2.length + 1) + p ≤ p2
          omega
        · intro x hx
          rw [List.mem_append, List.mem_append, List.mem_singleton] at hx
          rcases hx with hx | hx | hx
          · exact a5 x hx
          · exact d5 x hx
          · omega
theorem pieF_ok {B : Nat → Nat} {L d : Nat} {S : Nat → Nat → sE} (h : sBL B L) (hS : d ≠ 0 → ∀ s p, s ≤ p → p ≤ L → sOk L p (S s p)) {s p : Nat} (hs : s ≤ p) (hp : p ≤ L) : sOk L p (pieF B d S s p) := by
  unfold pieF
  by_cases h1 : B p = 33
  · rw [if_pos h1]
    have hpL : p < L := h.lt (by omega)
    by_cases h2 : d = 0
    · rw [if_pos h2]; exact Or.inr ⟨by show 1 ≤ 5; omega, by show 5 ≤ 5; omega, hp⟩
    · rw [if_neg h2]
      have := hS h2 s (p + 1) (by omega) (by omega)
      revert this
      cases S s (p + 1) with
      | inl e => exact id
      | inr r =>
        obtain ⟨p', c, u⟩ := r
        intro ⟨a1, a2, a3, a4, a5⟩
        refine ⟨by omega, a2, ?_, by simp, ?_⟩
        · rw [List.length_append]
          show c.length + 1 + p ≤ p'
          omega
        · intro x hx
          rw [List.mem_append, List.mem_singleton] at hx
          rcases hx with hx | hx
          · exact a5 x hx
          · omega
  · rw [if_neg h1]
    by_cases h2 : B p = 40
    · rw [if_pos h2]; exact conS_ok h hS hs h2
    · rw [if_neg h2]; exact cmpS_ok h (sumS_ok h d) hp
theorem pieS_ok {B : Nat → Nat} {L : Nat} (h : sBL B L) : ∀ d s p, s ≤ p → p ≤ L → sOk L p (pieS B d s p)
  | 0, _, _, hs, hp => pieF_ok h (fun x => absurd rfl x) hs hp
  | d + 1, _, _, hs, hp => pieF_ok h (fun _ s p hs hp => pieS_ok h d s p hs hp) hs hp
