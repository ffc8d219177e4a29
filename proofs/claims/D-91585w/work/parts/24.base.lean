/-! PLAIN LEMMAS: numbers, answers, loops, cells -/
theorem i_bm {x : Int} (h1 : -2147483648 ≤ x) (h2 : x < 2147483648) : x.bmod 4294967296 = x := by
  have := Int.bmod_def x 4294967296
  omega
theorem i_add {a b : Int32} (h1 : -2147483648 ≤ a.toInt + b.toInt) (h2 : a.toInt + b.toInt < 2147483648) : (a + b).toInt = a.toInt + b.toInt := by
  rw [Int32.toInt_add]; exact i_bm h1 h2
theorem i_sub {a b : Int32} (h1 : -2147483648 ≤ a.toInt - b.toInt) (h2 : a.toInt - b.toInt < 2147483648) : (a - b).toInt = a.toInt - b.toInt := by
  rw [Int32.toInt_sub]; exact i_bm h1 h2
theorem i_mul {a b : Int32} (h1 : -2147483648 ≤ a.toInt * b.toInt) (h2 : a.toInt * b.toInt < 2147483648) : (a * b).toInt = a.toInt * b.toInt := by
  rw [Int32.toInt_mul]; exact i_bm h1 h2
theorem i_div {a b : Int32} (ha : 0 ≤ a.toInt) (hb : 0 < b.toInt) : (a / b).toInt = a.toInt / b.toInt := by
  rw [Int32.toInt_div, Int.tdiv_eq_ediv_of_nonneg ha]
  have h1 : 0 ≤ a.toInt / b.toInt := Int.ediv_nonneg ha (by omega)
  have h2 : a.toInt / b.toInt ≤ a.toInt := Int.ediv_le_self _ ha
  have h3 := a.toInt_lt
  exact i_bm (by omega) (by omega)
theorem i_rem {a b : Int32} (ha : 0 ≤ a.toInt) (hb : 0 < b.toInt) : (jrem a b).toInt = a.toInt % b.toInt := by
  have hq := i_div ha hb
  have h1 : 0 ≤ a.toInt / b.toInt := Int.ediv_nonneg ha (by omega)
  have h2 : a.toInt / b.toInt * b.toInt ≤ a.toInt := Int.ediv_mul_le _ (by omega)
  have h3 := a.toInt_lt
  have h4 : 0 ≤ a.toInt / b.toInt * b.toInt := Int.mul_nonneg h1 (by omega)
  have e1 : (a / b * b).toInt = a.toInt / b.toInt * b.toInt := by
    rw [i_mul (by rw [hq]; omega) (by rw [hq]; omega), hq]
  have e2 : a.toInt % b.toInt = a.toInt - a.toInt / b.toInt * b.toInt := by
    have := Int.emod_add_mul_ediv a.toInt b.toInt
    have h5 : b.toInt * (a.toInt / b.toInt) = a.toInt / b.toInt * b.toInt := Int.mul_comm _ _
    omega
  unfold jrem
  rw [i_sub (by rw [e1]; omega) (by rw [e1]; omega), e1, e2]
theorem ni_i {n : Nat} (h : n < 2147483648) : (nI n).toInt = n := by
  unfold nI
  rw [Int32.toInt_ofNat']
  exact i_bm (by omega) (by omega)
theorem ni_c {n : Nat} (h : n < 2147483648) : (nI n).toNatClampNeg = n := nI_clamp h
theorem ni_le {a b : Nat} (ha : a < 2147483648) (hb : b < 2147483648) : nI a ≤ nI b ↔ a ≤ b := by
  rw [Int32.le_iff_toInt_le, ni_i ha, ni_i hb]; omega
theorem ni_lt {a b : Nat} (ha : a < 2147483648) (hb : b < 2147483648) : nI a < nI b ↔ a < b := by
  rw [Int32.lt_iff_toInt_lt, ni_i ha, ni_i hb]; omega
theorem ni_inj {a b : Nat} (ha : a < 2147483648) (hb : b < 2147483648) (h : nI a = nI b) : a = b := by
  have h2 := congrArg Int32.toInt h
  rw [ni_i ha, ni_i hb] at h2
  omega
theorem ni_eq {x : Int32} (h : 0 ≤ x.toInt) : nI x.toNatClampNeg = x := by
  apply Int32.toInt_inj.mp
  have h3 := x.toInt_lt
  have h4 : x.toNatClampNeg = x.toInt.toNat := rfl
  rw [ni_i (by omega), h4]
  omega
theorem c_i {x : Int32} (h : 0 ≤ x.toInt) : (x.toNatClampNeg : Int) = x.toInt := by
  have h4 : x.toNatClampNeg = x.toInt.toNat := rfl
  omega
theorem okI_nI {n k : Nat} (h : n < k) (hk : k < 2147483648) : okI (nI n) k = true := by
  unfold okI
  rw [Bool.and_eq_true]
  refine ⟨decide_eq_true ?_, decide_eq_true ?_⟩
  · rw [Int32.le_iff_toInt_le, ni_i (by omega)]; simp
  · rw [ni_c (by omega)]; exact h
theorem okI_i {x : Int32} {k : Nat} (h0 : 0 ≤ x.toInt) (h : x.toInt < k) : okI x k = true := by
  unfold okI
  rw [Bool.and_eq_true]
  refine ⟨decide_eq_true ?_, decide_eq_true ?_⟩
  · rw [Int32.le_iff_toInt_le]; simpa using h0
  · have := c_i h0; omega
def bI (p : Prop) [Decidable p] : Int32 := if p then 1 else 0
theorem bI_t {p : Prop} [Decidable p] (h : p) : bI p = 1 := if_pos h
theorem bI_f {p : Prop} [Decidable p] (h : ¬ p) : bI p = 0 := if_neg h
theorem bI_0 {p : Prop} [Decidable p] : (bI p = 0) = ¬ p := by
  by_cases h : p
  · rw [bI_t h]; simp [h]
  · rw [bI_f h]; simp [h]
theorem bI_1 {p : Prop} [Decidable p] : (bI p = 1) = p := by
  by_cases h : p
  · rw [bI_t h]; simp [h]
  · rw [bI_f h]; simp [h]
theorem bI_B {p : Prop} [Decidable p] : okB (bI p) = true := by
  by_cases h : p
  · rw [bI_t h]; rfl
  · rw [bI_f h]; rfl
theorem bI_c {p q : Prop} [Decidable p] [Decidable q] (h : p ↔ q) : bI p = bI q := by
  by_cases hp : p
  · rw [bI_t hp, bI_t (h.mp hp)]
  · rw [bI_f hp, bI_f (fun x => hp (h.mpr x))]
theorem tk_00 {α : Type} (x : XR α) : tk 0 0 x = x := by
  cases x with
  | none => rfl
  | some r => simp [tk]
theorem tk_s {α : Type} (c s : Nat) (v : α) (τ : XS) (c' s' : Nat) : tk c s (some (v, τ, c', s')) = some (v, τ, c + c', s + s') := rfl
theorem ob_s {α β : Type} (a : α) (f : α → Option β) : (some a).bind f = f a := rfl
theorem nx_e {α β : Type} (x : α) (f : α → β) : nx x f = f x := rfl
/-- two loops side by side -/
theorem lp_join {α β ρ κ : Type} {BX : (α → Option ρ) → α → Option ρ} {BM : (β → Option κ) → β → Option κ} (Inv : α → β → Prop) (meas : α → β → Nat) (Q : ρ → κ → Prop)
    (step : ∀ (RX : α → Option ρ) (RM : β → Option κ) (a : α) (b : β), Inv a b → (∀ a' b', Inv a' b' → meas a' b' < meas a b → ∃ v w, RX a' = some v ∧ RM b' = some w ∧ Q v w) → ∃ v w, BX RX a = some v ∧ BM RM b = some w ∧ Q v w) :
    ∀ (k : Nat) (a : α) (b : β), Inv a b → meas a b < k → ∃ v w, lp BX k a = some v ∧ lp BM k b = some w ∧ Q v w := by
  intro k
  induction k with
  | zero => intro a b _ h; omega
  | succ k ih =>
    intro a b hi hk
    rw [lp_s, lp_s]
    exact step _ _ a b hi (fun a' b' hi' hm => ih a' b' hi' (by omega))
theorem lp_one {α ρ : Type} {B : (α → Option ρ) → α → Option ρ} (Inv : α → Prop) (meas : α → Nat) (Q : ρ → Prop)
    (step : ∀ (R : α → Option ρ) (a : α), Inv a → (∀ a', Inv a' → meas a' < meas a → ∃ v, R a' = some v ∧ Q v) → ∃ v, B R a = some v ∧ Q v) :
    ∀ (k : Nat) (a : α), Inv a → meas a < k → ∃ v, lp B k a = some v ∧ Q v := by
  intro k
  induction k with
  | zero => intro a _ h; omega
  | succ k ih =>
    intro a hi hk
    rw [lp_s]
    exact step _ a hi (fun a' hi' hm => ih a' hi' (by omega))
/-! cells of the pool -/
abbrev Pl : Type := Nat → Option pE
def Ob (P : Pl) (a c : Nat) (l : List (Nat × Int32)) : Prop := ∃ V : Nat → Value, P a = some (.inr (c, V)) ∧ ∀ z ∈ l, V z.1 = .int z.2
theorem gI_of {τ : XS} {a c k : Nat} {cs : List Nat} {V : Nat → Value} {x : Int32} (h : τ.2.2.2.1 a = some (.inr (c, V))) (hc : c ∈ cs) (hv : V k = .int x) : gI τ a cs k = some x := by
  simp [gI, gF, h, hc, hv]
theorem gN_of {τ : XS} {a c k b : Nat} {cs : List Nat} {V : Nat → Value} (h : τ.2.2.2.1 a = some (.inr (c, V))) (hc : c ∈ cs) (hv : V k = .ref b) : gN τ a cs k = some b := by
  simp [gN, gF, h, hc, hv]
theorem gQ_of {τ : XS} {a c k : Nat} {cs : List Nat} {V : Nat → Value} {q : Option Nat} (h : τ.2.2.2.1 a = some (.inr (c, V))) (hc : c ∈ cs) (hv : V k = va_rf q) : gQ τ a cs k = some q := by
  cases q with
  | none => simp [gQ, gF, h, hc, hv, va_rf]
  | some b => simp [gQ, gF, h, hc, hv, va_rf]
theorem isC_of {τ : XS} {a c : Nat} {cs : List Nat} {V : Nat → Value} (h : τ.2.2.2.1 a = some (.inr (c, V))) (hc : c ∈ cs) : isC τ a cs = true := by
  simp [isC, h, hc]
theorem pF_of {τ : XS} {a c k : Nat} {cs : List Nat} {V : Nat → Value} {v : Value} (h : τ.2.2.2.1 a = some (.inr (c, V))) (hc : c ∈ cs) : pF τ a cs k v = some (xP τ a (.inr (c, updV V k v))) := by
  simp [pF, h, hc]
theorem gA_of {τ : XS} {a t m : Nat} {f : Nat → Int32} (h : τ.2.2.2.1 a = some (.inl (t, m, .inl f))) : gA τ a t = some (m, f) := by
  simp [gA, h]
theorem gB_of {τ : XS} {a t m : Nat} {f : Nat → Option Nat} (h : τ.2.2.2.1 a = some (.inl (t, m, .inr (.inr (.inr (.inr f)))))) : gB τ a t = some (m, f) := by
  simp [gB, h]
theorem Ob.gI {τ : XS} {a c k : Nat} {l : List (Nat × Int32)} {x : Int32} (h : Ob τ.2.2.2.1 a c l) (hm : (k, x) ∈ l) {cs : List Nat} (hc : c ∈ cs) : gI τ a cs k = some x := by
  obtain ⟨V, h1, h2⟩ := h
  exact gI_of h1 hc (h2 _ hm)
theorem Ob.isC {τ : XS} {a c : Nat} {l : List (Nat × Int32)} (h : Ob τ.2.2.2.1 a c l) {cs : List Nat} (hc : c ∈ cs) : isC τ a cs = true := by
  obtain ⟨V, h1, h2⟩ := h
  exact isC_of h1 hc
theorem xP_xN {τ : XS} {e e' : pE} : xP (xN τ e) τ.2.2.2.2 e' = xN τ e' := by
  unfold xP xN
  simp only
  congr 3
  congr 1
  funext b
  by_cases hb : b = τ.2.2.2.2
  · simp [pup, hb]
  · simp [pup, hb]
theorem pF_xN {τ : XS} {c k : Nat} {cs : List Nat} {V : Nat → Value} {v : Value} (hc : c ∈ cs) : pF (xN τ (.inr (c, V))) τ.2.2.2.2 cs k v = some (xN τ (.inr (c, updV V k v))) := by
  rw [pF_of (c := c) (V := V) (by simp [xN, pup]) hc, xP_xN]
/-- which fields may change later -/
def mutF (M : Nat → Bool) (c k : Nat) : Bool := M c && ((c == 19 && k == 5) || ((c == 5 || c == 6 || c == 7) && k == 8) || (c == 21 && k == 3))
def Es (M : Nat → Bool) (e e' : pE) : Prop := e' = e ∨ (∃ (c : Nat) (V V' : Nat → Value), e = .inr (c, V) ∧ e' = .inr (c, V') ∧ ∀ k, mutF M c k = false → V' k = V k) ∨ ∃ (m : Nat) (f f' : Nat → Int32), e = .inl (2, m, .inl f) ∧ e' = .inl (2, m, .inl f')
def PM (M : Nat → Bool) (P P' : Pl) : Prop := ∀ (a : Nat) (e : pE), P a = some e → ∃ e', P' a = some e' ∧ Es M e e'
def M0 : Nat → Bool := fun c => c == 19
def Md : Nat → Bool := fun c => c == 19 || c == 5 || c == 6 || c == 7
def Mt : Nat → Bool := fun c => c == 19 || c == 21
def Ma : Nat → Bool := fun _ => true
theorem Es.rf {M : Nat → Bool} (e : pE) : Es M e e := Or.inl rfl
theorem Es.tr {M : Nat → Bool} {e1 e2 e3 : pE} (h1 : Es M e1 e2) (h2 : Es M e2 e3) : Es M e1 e3 := by
  rcases h1 with rfl | ⟨c, V, V', rfl, rfl, h⟩ | ⟨m, f, f', rfl, rfl⟩
  · exact h2
  · rcases h2 with rfl | ⟨c2, V2, V2', h3, rfl, h4⟩ | ⟨m, f, f', h3, -⟩
    · exact Or.inr (Or.inl ⟨c, V, V', rfl, rfl, h⟩)
    · cases h3
      exact Or.inr (Or.inl ⟨c, V, V2', rfl, rfl, fun k hk => (h4 k hk).trans (h k hk)⟩)
    · cases h3
  · rcases h2 with rfl | ⟨c2, V2, V2', h3, rfl, h4⟩ | ⟨m, f, f'', h3, rfl⟩
    · exact Or.inr (Or.inr ⟨m, f, f', rfl, rfl⟩)
    · cases h3
    · cases h3
      exact Or.inr (Or.inr ⟨m, _, f'', rfl, rfl⟩)
theorem PM.rf {M : Nat → Bool} (P : Pl) : PM M P P := fun a e h => ⟨e, h, Es.rf e⟩
theorem PM.tr {M : Nat → Bool} {P1 P2 P3 : Pl} (h1 : PM M P1 P2) (h2 : PM M P2 P3) : PM M P1 P3 := by
  intro a e h
  obtain ⟨e', h3, h4⟩ := h1 a e h
  obtain ⟨e'', h5, h6⟩ := h2 a e' h3
  exact ⟨e'', h5, h4.tr h6⟩
theorem PM.wk {M M' : Nat → Bool} (hM : ∀ c, M c = true → M' c = true) {P P' : Pl} (h : PM M P P') : PM M' P P' := by
  intro a e he
  obtain ⟨e', h1, h2⟩ := h a e he
  refine ⟨e', h1, ?_⟩
  rcases h2 with h2 | ⟨c, V, V', h3, h4, h5⟩ | h2
  · exact Or.inl h2
  · refine Or.inr (Or.inl ⟨c, V, V', h3, h4, fun k hk => h5 k ?_⟩)
    by_cases hc : M c = true
    · unfold mutF at hk ⊢
      rw [hM c hc] at hk
      rw [hc]
      exact hk
    · unfold mutF
      simp [hc]
  · exact Or.inr (Or.inr h2)
theorem PM.a {M : Nat → Bool} {P P' : Pl} (h : PM M P P') : PM Ma P P' := h.wk (fun _ _ => rfl)
/-- an object of an unchanging class stays -/
theorem PM.keep {M : Nat → Bool} {P P' : Pl} (h : PM M P P') {a c : Nat} {V : Nat → Value} (he : P a = some (.inr (c, V))) : ∃ V', P' a = some (.inr (c, V')) ∧ ∀ k, mutF M c k = false → V' k = V k := by
  obtain ⟨e', h1, h2⟩ := h a _ he
  rcases h2 with rfl | ⟨c2, V2, V', h3, h4, h5⟩ | ⟨m, f, f', h3, -⟩
  · exact ⟨V, h1, fun _ _ => rfl⟩
  · cases h3
    exact ⟨V', by rw [h1, h4], h5⟩
  · cases h3
theorem Ob.mono {M : Nat → Bool} {P P' : Pl} (hp : PM M P P') {a c : Nat} {l : List (Nat × Int32)} (hl : ∀ z ∈ l, mutF M c z.1 = false) (h : Ob P a c l) : Ob P' a c l := by
  obtain ⟨V, h1, h2⟩ := h
  obtain ⟨V', h3, h4⟩ := hp.keep h1
  exact ⟨V', h3, fun z hz => (h4 _ (hl z hz)).trans (h2 z hz)⟩
theorem mutF_n {M : Nat → Bool} {c k : Nat} (h : M c = false) : mutF M c k = false := by simp [mutF, h]
theorem mutF_k {M : Nat → Bool} {c k : Nat} (h : ((c == 19 && k == 5) || ((c == 5 || c == 6 || c == 7) && k == 8) || (c == 21 && k == 3)) = false) : mutF M c k = false := by simp [mutF, h]
/-- the pool lies below the heap's end -/
def WFp (τ : XS) : Prop := ∀ (a : Nat) (e : pE), τ.2.2.2.1 a = some e → a < τ.2.2.2.2
theorem PM.new {M : Nat → Bool} {τ : XS} {e : pE} (hw : WFp τ) : PM M τ.2.2.2.1 (xN τ e).2.2.2.1 := by
  intro a e0 h
  have := hw a e0 h
  refine ⟨e0, ?_, Es.rf _⟩
  show (if a = τ.2.2.2.2 then some e else τ.2.2.2.1 a) = some e0
  rw [if_neg (by omega)]
  exact h
theorem WFp.new {τ : XS} {e : pE} (hw : WFp τ) : WFp (xN τ e) := by
  intro a e0 h
  have h : (if a = τ.2.2.2.2 then some e else τ.2.2.2.1 a) = some e0 := h
  show a < τ.2.2.2.2 + 1
  by_cases ha : a = τ.2.2.2.2
  · omega
  · rw [if_neg ha] at h
    have := hw a e0 h
    omega
theorem WFp.up {τ : XS} {a : Nat} {e e0 : pE} (hw : WFp τ) (h0 : τ.2.2.2.1 a = some e0) : WFp (xP τ a e) := by
  intro b e1 h
  have h : (if b = a then some e else τ.2.2.2.1 b) = some e1 := h
  show b < τ.2.2.2.2
  by_cases hb : b = a
  · rw [hb]; exact hw a e0 h0
  · rw [if_neg hb] at h
    exact hw b e1 h
theorem PM.up {M : Nat → Bool} {τ : XS} {a : Nat} {e e0 : pE} (h0 : τ.2.2.2.1 a = some e0) (he : Es M e0 e) : PM M τ.2.2.2.1 (xP τ a e).2.2.2.1 := by
  intro b e1 h
  by_cases hb : b = a
  · subst hb
    cases h0.symm.trans h
    exact ⟨e, if_pos rfl, he⟩
  · exact ⟨e1, (if_neg hb).trans h, Es.rf _⟩
/-! rows of objects -/
def OL (P : Pl) (ref : Nat → Option Nat) (n c : Nat) (fs : Nat → List (Nat × Int32)) : Prop := ∀ i : Nat, i < n → ∃ a, ref i = some a ∧ Ob P a c (fs i)
theorem OL.mono {M : Nat → Bool} {P P' : Pl} (hp : PM M P P') {ref : Nat → Option Nat} {n c : Nat} {fs : Nat → List (Nat × Int32)} (hl : ∀ i, ∀ z ∈ fs i, mutF M c z.1 = false) (h : OL P ref n c fs) : OL P' ref n c fs := by
  intro i hi
  obtain ⟨a, h1, h2⟩ := h i hi
  exact ⟨a, h1, h2.mono hp (hl i)⟩
theorem OL.push {P : Pl} {ref : Nat → Option Nat} {n c a : Nat} {fs fs' : Nat → List (Nat × Int32)} (h : OL P ref n c fs) (hf : ∀ i, i < n → fs' i = fs i) (ha : Ob P a c (fs' n)) : OL P (va_up ref n (some a)) (n + 1) c fs' := by
  intro i hi
  by_cases hin : i = n
  · subst hin
    exact ⟨a, va_up_self _ _ _, ha⟩
  · obtain ⟨b, h1, h2⟩ := h i (by omega)
    exact ⟨b, (va_up_ne _ _ hin).trans h1, by rw [hf i (by omega)]; exact h2⟩
