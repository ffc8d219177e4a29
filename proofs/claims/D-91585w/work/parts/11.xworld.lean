/-! AshCity's WORLD -/
abbrev pE : Type := (Nat × vp_A) ⊕ (Nat × (Nat → Value))
def toE (G : gG) (e : pE) : hE := match e with
  | .inl x => .inl (G.2.2 x.1, x.2)
  | .inr o => .inr o
/-- AshCity's state: its ints and int arrays, its arrays of references, firstDig, the pool of other cells, the heap's size -/
abbrev XS : Type := MS × (Nat → Nat → Option Nat) × Option Nat × (Nat → Option pE) × Nat
def xAr : Nat → Option Nat := fun k => match k with
  | 6 => some 0
  | 7 => some 1
  | 8 => some 2
  | 9 => some 3
  | 10 => some 4
  | 13 => some 5
  | 15 => some 6
  | 17 => some 7
  | 19 => some 8
  | 20 => some 9
  | 23 => some 10
  | 24 => some 19
  | 25 => some 20
  | 28 => some 21
  | 29 => some 22
  | 30 => some 23
  | 31 => some 24
  | 32 => some 25
  | 33 => some 26
  | 36 => some 27
  | 37 => some 28
  | 38 => some 29
  | 39 => some 30
  | 40 => some 31
  | 41 => some 32
  | 43 => some 33
  | 45 => some 34
  | _ => none
def xLens : List Nat := [30, 100, 100, 100, 400, 200, 20, 150, 60, 100, 8, 60, 60, 60, 60, 60, 60, 60, 60, 8, 256, 30, 100, 8, 8, 8, 8, 40, 40, 40, 40, 100, 100, 100, 9]
def xTyl : List Nat := [3, 4, 4, 0, 1, 5, 6, 7, 8, 0, 9, 0, 0, 0, 0, 0, 0, 0, 0, 0, 0, 10, 11, 0, 0, 0, 0, 0, 0, 0, 0, 0, 0, 12, 13]
def xLen (j : Nat) : Nat := xLens.getD j 0
def xTy (j : Nat) : Nat := xTyl.getD j 0
def xS (τ : XS) (k : Nat) (v : Int32) : XS := (sS τ.1 k v, τ.2)
def xA (τ : XS) (j i : Nat) (v : Int32) : XS := (sA τ.1 j i v, τ.2)
def xR (τ : XS) (j i : Nat) (r : Option Nat) : XS := (τ.1, (fun q => if q = j then va_up (τ.2.1 j) i r else τ.2.1 q), τ.2.2)
def xF (τ : XS) (r : Option Nat) : XS := (τ.1, τ.2.1, r, τ.2.2.2)
def pup (h : Nat → Option pE) (a : Nat) (e : pE) : Nat → Option pE := fun b => if b = a then some e else h b
def xP (τ : XS) (a : Nat) (e : pE) : XS := (τ.1, τ.2.1, τ.2.2.1, pup τ.2.2.2.1 a e, τ.2.2.2.2)
def xN (τ : XS) (e : pE) : XS := (τ.1, τ.2.1, τ.2.2.1, pup τ.2.2.2.1 τ.2.2.2.2 e, τ.2.2.2.2 + 1)
def xV (o : Nat) (τ : XS) (k : Nat) : Value := match xAr k with
  | some j => .ref (o + 1 + j)
  | none => if k = 11 then va_rf τ.2.2.1 else .int (τ.1.1 k)
def xCt (o : Nat) (τ : XS) (j : Nat) : (Nat → Int32) ⊕ (Nat → Int64) ⊕ (Nat → UInt32) ⊕ (Nat → UInt64) ⊕ (Nat → Option Nat) := if xTy j < 3 then .inl (τ.1.2 j) else .inr (.inr (.inr (.inr (if j = 10 then (fun i => some (o + 12 + i)) else τ.2.1 j))))
def xH (G : gG) (o : Nat) (τ : XS) : Nat → Option hE := fun a => if a = o then some (.inr (0, xV o τ)) else if o < a ∧ a < o + 1 + 35 then some (.inl (G.2.2 (xTy (a - o - 1)), xLen (a - o - 1), xCt o τ (a - o - 1))) else (τ.2.2.2.1 a).map (toE G)
def XW (G : gG) (o B : Nat) (τ : XS) (H : Heap) : Prop := hR G (xH G o τ) H ∧ H.size = τ.2.2.2.2 ∧ o + 1 + 35 ≤ B ∧ B ≤ τ.2.2.2.2 ∧ ∀ (a : Nat) (e : pE), τ.2.2.2.1 a = some e → B ≤ a
def xa (o B : Nat) : Nat → Prop := fun q => (o ≤ q ∧ q < o + 1 + 35) ∨ B ≤ q
section XLEM
variable {G : gG} {o B : Nat} {τ : XS} {H H' : Heap}
theorem xH_o : xH G o τ o = some (.inr (0, xV o τ)) := if_pos rfl
theorem xH_a {j : Nat} (hj : j < 35) : xH G o τ (o + 1 + j) = some (.inl (G.2.2 (xTy j), xLen j, xCt o τ j)) := by
  unfold xH
  rw [if_neg (by omega), if_pos (by omega), show o + 1 + j - o - 1 = j by omega]
theorem xH_p {a : Nat} (ha : o + 1 + 35 ≤ a) : xH G o τ a = (τ.2.2.2.1 a).map (toE G) := by
  unfold xH
  rw [if_neg (by omega), if_neg (by omega)]
theorem XW.at {a : Nat} {e : pE} (h : XW G o B τ H) (he : τ.2.2.2.1 a = some e) : hAt G a (toE G e) H := by
  have hb := h.2.2.2.2 a e he
  refine h.1 a _ ?_
  rw [xH_p (by have := h.2.2.1; omega), he]
  rfl
theorem XW.up {a : Nat} {e : hE} {τ' : XS} (h : XW G o B τ H) (he : hAt G a e H') (oq : ∀ q : Nat, q ≠ a → H'[q]? = H[q]?) (hz : H'.size = H.size) (e1 : hup (xH G o τ) a e = xH G o τ') (e2 : τ'.2.2.2.2 = τ.2.2.2.2) (e3 : ∀ (a : Nat) (e : pE), τ'.2.2.2.1 a = some e → B ≤ a) : XW G o B τ' H' :=
  ⟨by rw [← e1]; exact hR.up h.1 he oq, by rw [hz, e2]; exact h.2.1, h.2.2.1, by rw [e2]; exact h.2.2.2.1, e3⟩
theorem XW.putS {k : Nat} {v : Int32} (hk : xAr k = none) (hf : ¬ k = 11) (h : XW G o B τ H) (hz : H'.size = H.size) (oq : ∀ q : Nat, q ≠ o → H'[q]? = H[q]?) (he : hAt G o (.inr (0, updV (xV o τ) k (.int v))) H') : XW G o B (xS τ k v) H' := by
  refine h.up he oq hz ?_ rfl h.2.2.2.2
  funext a
  unfold hup xH
  by_cases ha : a = o
  · rw [if_pos ha, if_pos ha]
    congr 3
    funext q
    unfold updV xV xS sS
    by_cases hq : q = k
    · subst hq
      simp [hk, hf]
    · simp [hq]
  · rw [if_neg ha, if_neg ha, if_neg ha]
    rfl
theorem XW.putD {r : Option Nat} (h : XW G o B τ H) (hz : H'.size = H.size) (oq : ∀ q : Nat, q ≠ o → H'[q]? = H[q]?) (he : hAt G o (.inr (0, updV (xV o τ) 11 (va_rf r))) H') : XW G o B (xF τ r) H' := by
  refine h.up he oq hz ?_ rfl h.2.2.2.2
  funext a
  unfold hup xH
  by_cases ha : a = o
  · rw [if_pos ha, if_pos ha]
    congr 3
    funext q
    unfold updV xV xF
    by_cases hq : q = 11
    · subst hq
      simp [show xAr 11 = none from rfl]
    · simp [hq]
  · rw [if_neg ha, if_neg ha, if_neg ha]
    rfl
theorem XW.arr {j : Nat} {τ' : XS} {c : (Nat → Int32) ⊕ (Nat → Int64) ⊕ (Nat → UInt32) ⊕ (Nat → UInt64) ⊕ (Nat → Option Nat)} (hj : j < 35) (h : XW G o B τ H) (hz : H'.size = H.size) (oq : ∀ q : Nat, q ≠ o + 1 + j → H'[q]? = H[q]?) (he : hAt G (o + 1 + j) (.inl (G.2.2 (xTy j), xLen j, c)) H') (e1 : xV o τ' = xV o τ) (e2 : xCt o τ' j = c) (e3 : ∀ q, q ≠ j → xCt o τ' q = xCt o τ q) (e4 : τ'.2.2.2 = τ.2.2.2) : XW G o B τ' H' := by
  refine h.up he oq hz ?_ (by rw [e4]) (by rw [e4]; exact h.2.2.2.2)
  funext a
  unfold hup
  by_cases ha : a = o + 1 + j
  · rw [if_pos ha, ha, xH_a hj, e2]
  · rw [if_neg ha]
    unfold xH
    by_cases ho : a = o
    · rw [if_pos ho, if_pos ho, e1]
    · rw [if_neg ho, if_neg ho]
      by_cases hr : o < a ∧ a < o + 1 + 35
      · rw [if_pos hr, if_pos hr, e3 _ (by omega)]
      · rw [if_neg hr, if_neg hr, e4]
theorem XW.ast {j i : Nat} {v : Int32} (hj : j < 35) (ht : xTy j < 3) (h : XW G o B τ H) (hz : H'.size = H.size) (oq : ∀ q : Nat, q ≠ o + 1 + j → H'[q]? = H[q]?) (he : hAt G (o + 1 + j) (.inl (G.2.2 (xTy j), xLen j, .inl (upd (τ.1.2 j) i v))) H') : XW G o B (xA τ j i v) H' := by
  refine h.arr hj hz oq he rfl ?_ ?_ rfl
  · unfold xCt
    rw [if_pos ht]
    simp [xA, sA]
  · intro q hq
    unfold xCt
    simp [xA, sA, hq]
theorem XW.qst {j i : Nat} {r : Option Nat} (hj : j < 35) (ht : ¬ xTy j < 3) (h10 : ¬ j = 10) (h : XW G o B τ H) (hz : H'.size = H.size) (oq : ∀ q : Nat, q ≠ o + 1 + j → H'[q]? = H[q]?) (he : hAt G (o + 1 + j) (.inl (G.2.2 (xTy j), xLen j, .inr (.inr (.inr (.inr (va_up (τ.2.1 j) i r)))))) H') : XW G o B (xR τ j i r) H' := by
  refine h.arr hj hz oq he rfl ?_ ?_ rfl
  · unfold xCt
    rw [if_neg ht, if_neg h10]
    simp [xR]
  · intro q hq
    unfold xCt
    simp [xR, hq]
theorem XW.pool {a : Nat} {e e0 : pE} (h0 : τ.2.2.2.1 a = some e0) (h : XW G o B τ H) (hz : H'.size = H.size) (oq : ∀ q : Nat, q ≠ a → H'[q]? = H[q]?) (he : hAt G a (toE G e) H') : XW G o B (xP τ a e) H' := by
  have hb := h.2.2.2.2 a e0 h0
  have ho := h.2.2.1
  refine h.up he oq hz ?_ rfl ?_
  · funext b
    unfold hup
    by_cases hba : b = a
    · rw [if_pos hba, xH_p (by omega)]
      simp [xP, pup, hba]
    · rw [if_neg hba]
      unfold xH
      by_cases hbo : b = o
      · rw [if_pos hbo, if_pos hbo]
        rfl
      · rw [if_neg hbo, if_neg hbo]
        by_cases hr : o < b ∧ b < o + 1 + 35
        · rw [if_pos hr, if_pos hr]
          rfl
        · rw [if_neg hr, if_neg hr]
          simp [xP, pup, hba]
  · intro b e' hb'
    simp only [xP, pup] at hb'
    by_cases hba : b = a
    · rw [hba]; exact hb
    · rw [if_neg hba] at hb'
      exact h.2.2.2.2 b e' hb'
theorem XW.new {e : pE} (h : XW G o B τ H) (hz : H'.size = H.size + 1) (oq : ∀ q : Nat, q < H.size → H'[q]? = H[q]?) (he : hAt G H.size (toE G e) H') : XW G o B (xN τ e) H' := by
  obtain ⟨h1, h2, h3, h4, h5⟩ := h
  refine ⟨?_, by rw [hz, h2]; rfl, h3, by show B ≤ _ + 1; omega, ?_⟩
  · intro b e' hb
    by_cases hbs : b = H.size
    · rw [hbs, xH_p (by omega)] at hb
      simp [xN, pup, h2] at hb
      rw [hbs, ← hb]
      exact he
    · have hb2 : xH G o τ b = some e' := by
        rw [← hb]
        unfold xH
        by_cases hbo : b = o
        · rw [if_pos hbo, if_pos hbo]
          rfl
        · rw [if_neg hbo, if_neg hbo]
          by_cases hr : o < b ∧ b < o + 1 + 35
          · rw [if_pos hr, if_pos hr]
            rfl
          · rw [if_neg hr, if_neg hr]
            simp [xN, pup, ← h2, hbs]
      have h6 := h1 b e' hb2
      exact h6.kept (oq b h6.lt)
  · intro b e' hb
    simp only [xN, pup] at hb
    by_cases hbs : b = τ.2.2.2.2
    · rw [hbs]; exact h4
    · rw [if_neg hbs] at hb
      exact h5 b e' hb
end XLEM
def nwF : List Cond := [(Jvm.Cond.fieldLinkNest "AshCity" (356 : Nat) "AshCity$Place" "number" "I" "AshCity"), (Jvm.Cond.fieldLinkNest "AshCity" (316 : Nat) "AshCity$Place" "kind" "I" "AshCity"), (Jvm.Cond.fieldLinkNest "AshCity" (173 : Nat) "AshCity$Place" "where" "LAshCity$Rectangle;" "AshCity"), (Jvm.Cond.fieldLinkNest "AshCity" (237 : Nat) "AshCity$Dig" "number" "I" "AshCity"), (Jvm.Cond.fieldLinkNest "AshCity" (337 : Nat) "AshCity$Dig" "hand" "I" "AshCity"), (Jvm.Cond.fieldLinkNest "AshCity" (342 : Nat) "AshCity$Dig" "top" "I" "AshCity"), (Jvm.Cond.fieldLinkNest "AshCity" (349 : Nat) "AshCity$Dig" "bottom" "I" "AshCity"), (Jvm.Cond.fieldLinkNest "AshCity" (217 : Nat) "AshCity$Dig" "from" "I" "AshCity"), (Jvm.Cond.fieldLinkNest "AshCity" (341 : Nat) "AshCity$Dig" "to" "I" "AshCity"), (Jvm.Cond.fieldLinkNest "AshCity" (350 : Nat) "AshCity$Dig" "where" "LAshCity$Rectangle;" "AshCity"), (Jvm.Cond.fieldLinkNest "AshCity" (210 : Nat) "AshCity$Dig" "struck" "I" "AshCity"), (Jvm.Cond.fieldLinkNest "AshCity" (249 : Nat) "AshCity$Meaning" "numbering" "I" "AshCity"), (Jvm.Cond.fieldLinkNest "AshCity" (252 : Nat) "AshCity$Meaning" "number" "I" "AshCity"), (Jvm.Cond.fieldLinkNest "AshCity" (257 : Nat) "AshCity$Meaning" "place" "I" "AshCity"), (Jvm.Cond.fieldLinkNest "AshCity" (253 : Nat) "AshCity$Meaning" "from" "I" "AshCity"), (Jvm.Cond.fieldLinkNest "AshCity" (254 : Nat) "AshCity$Meaning" "to" "I" "AshCity"), (Jvm.Cond.fieldLinkNest "AshCity" (291 : Nat) "AshCity$Rules" "clauses" "[LAshCity$Clause;" "AshCity"), (Jvm.Cond.fieldLinkNest "AshCity" (281 : Nat) "AshCity$Rules" "isStruck" "[Z" "AshCity"), (Jvm.Cond.fieldLinkNest "AshCity" (288 : Nat) "AshCity$Rules" "many" "I" "AshCity"), (Jvm.Cond.fieldLinkNest "AshCity" (295 : Nat) "AshCity$Clause" "letter" "I" "AshCity"), (Jvm.Cond.fieldLinkNest "AshCity$Rules" (141 : Nat) "AshCity$Clause" "number" "I" "AshCity"), (Jvm.Cond.fieldLinkNest "AshCity" (300 : Nat) "AshCity$Clause" "number" "I" "AshCity"), (Jvm.Cond.fieldLinkNest "AshCity$Rules" (143 : Nat) "AshCity$Clause" "other" "I" "AshCity"), (Jvm.Cond.fieldLinkNest "AshCity" (301 : Nat) "AshCity$Clause" "other" "I" "AshCity"), (Jvm.Cond.fieldLinkNest "AshCity$Rules" (146 : Nat) "AshCity$Clause" "condition" "LAshCity$Condition;" "AshCity"), (Jvm.Cond.fieldLinkNest "AshCity$Rules" (97 : Nat) "AshCity$Row" "next" "LAshCity$Row;" "AshCity"), (Jvm.Cond.fieldLinkNest "AshCity$Rules" (126 : Nat) "AshCity$Some" "next" "LAshCity$Some;" "AshCity"), (Jvm.Cond.fieldLinkNest "AshCity" (304 : Nat) "AshCity$Asked" "week" "I" "AshCity"), (Jvm.Cond.fieldLinkNest "AshCity$Compared" (20 : Nat) "AshCity$Asked" "isRefused" "Z" "AshCity"), (Jvm.Cond.fieldLinkNest "AshCity$Row" (17 : Nat) "AshCity$Asked" "isRefused" "Z" "AshCity"), (Jvm.Cond.fieldLinkNest "AshCity" (340 : Nat) "AshCity$Find" "hand" "I" "AshCity"), (Jvm.Cond.fieldLinkNest "AshCity" (357 : Nat) "AshCity$Find" "from" "I" "AshCity"), (Jvm.Cond.fieldLinkNest "AshCity" (358 : Nat) "AshCity$Find" "to" "I" "AshCity"), (Jvm.Cond.fieldLinkNest "AshCity" (351 : Nat) "AshCity$Find" "number" "I" "AshCity"), (Jvm.Cond.fieldLinkNest "AshCity" (348 : Nat) "AshCity$Find" "top" "I" "AshCity"), (Jvm.Cond.fieldLinkNest "AshCity" (345 : Nat) "AshCity$Find" "bottom" "I" "AshCity"), (Jvm.Cond.fieldLinkNest "AshCity" (352 : Nat) "AshCity$Find" "kind" "I" "AshCity"), (Jvm.Cond.fieldLinkNest "AshCity$Thing" (19 : Nat) "AshCity$Find" "marks" "I" "AshCity"), (Jvm.Cond.fieldLinkNest "AshCity" (353 : Nat) "AshCity$Find" "marks" "I" "AshCity"), (Jvm.Cond.fieldLinkNest "AshCity" (366 : Nat) "AshCity$Find" "told" "I" "AshCity"), (Jvm.Cond.fieldLinkNest "AshCity" (419 : Nat) "AshCity$Thing" "museum" "I" "AshCity"), (Jvm.Cond.fieldLinkNest "AshCity" (388 : Nat) "AshCity$Thing" "kind" "I" "AshCity"), (Jvm.Cond.fieldLinkNest "AshCity" (384 : Nat) "AshCity$Thing" "isGone" "Z" "AshCity"), (Jvm.Cond.fieldLinkNest "AshCity" (491 : Nat) "AshCity$Wall" "worth" "I" "AshCity"), (Jvm.Cond.fieldLinkNest "AshCity" (460 : Nat) "AshCity$Drawing" "number" "I" "AshCity"), (Jvm.Cond.fieldLinkNest "AshCity" (446 : Nat) "AshCity$Drawing" "wall" "I" "AshCity"), (Jvm.Cond.fieldLinkNest "AshCity" (456 : Nat) "AshCity$Drawing" "week" "I" "AshCity"), (Jvm.Cond.fieldLinkNest "AshCity" (449 : Nat) "AshCity$Drawing" "features" "I" "AshCity"), (Jvm.Cond.fieldLinkNest "AshCity" (455 : Nat) "AshCity$Drawing" "told" "I" "AshCity"), (Jvm.Cond.fieldLinkNest "AshCity" (452 : Nat) "AshCity$Drawing" "isCopy" "Z" "AshCity"), (Jvm.Cond.fieldLinkNest "AshCity" (478 : Nat) "AshCity$Sign" "name" "I" "AshCity"), (Jvm.Cond.fieldLinkNest "AshCity" (482 : Nat) "AshCity$Sign" "kind" "I" "AshCity"), (Jvm.Cond.fieldLinkNest "AshCity" (477 : Nat) "AshCity$Sign" "place" "I" "AshCity"), (Jvm.Cond.fieldLinkNest "AshCity" (481 : Nat) "AshCity$Sign" "week" "I" "AshCity"), (Jvm.Cond.fieldLinkNest "AshCity" (490 : Nat) "AshCity$Work" "wall" "I" "AshCity"), (Jvm.Cond.fieldLinkNest "AshCity" (487 : Nat) "AshCity$Work" "cost" "I" "AshCity"), (Jvm.Cond.fieldLinkNest "AshCity" (494 : Nat) "AshCity$Work" "hundredths" "I" "AshCity")]
def nwM : List Cond := [(Jvm.Cond.methodLinkNest "AshCity$Rectangle" (22 : Nat) ({ cls := "AshCity", name := "within", desc := "(III)Z" } : Jvm.MethodName) "AshCity"), (Jvm.Cond.methodLinkNest "AshCity$Dig" (46 : Nat) ({ cls := "AshCity", name := "within", desc := "(III)Z" } : Jvm.MethodName) "AshCity"), (Jvm.Cond.methodLinkNest "AshCity$Not" (1 : Nat) ({ cls := "AshCity$Condition", name := "<init>", desc := "()V" } : Jvm.MethodName) "AshCity"), (Jvm.Cond.methodLinkNest "AshCity$Number" (1 : Nat) ({ cls := "AshCity$Sum", name := "<init>", desc := "()V" } : Jvm.MethodName) "AshCity"), (Jvm.Cond.methodLinkNest "AshCity$Letter" (1 : Nat) ({ cls := "AshCity$Sum", name := "<init>", desc := "()V" } : Jvm.MethodName) "AshCity"), (Jvm.Cond.methodLinkNest "AshCity$Row" (1 : Nat) ({ cls := "AshCity$Sum", name := "<init>", desc := "()V" } : Jvm.MethodName) "AshCity"), (Jvm.Cond.methodLinkNest "AshCity$Compared" (1 : Nat) ({ cls := "AshCity$Condition", name := "<init>", desc := "()V" } : Jvm.MethodName) "AshCity"), (Jvm.Cond.methodLinkNest "AshCity$Some" (1 : Nat) ({ cls := "AshCity$Condition", name := "<init>", desc := "()V" } : Jvm.MethodName) "AshCity"), (Jvm.Cond.methodLinkNest "AshCity$Rules" (152 : Nat) ({ cls := "AshCity", name := "within", desc := "(III)Z" } : Jvm.MethodName) "AshCity"), (Jvm.Cond.methodLinkNest "AshCity$Thing" (22 : Nat) ({ cls := "AshCity", name := "sizeOf", desc := "(I)I" } : Jvm.MethodName) "AshCity")]
def nwD : List Cond := [(Jvm.Cond.declares ({ cls := "AshCity$Dig", name := "makes", desc := "(I)I" } : Jvm.MethodName)), (Jvm.Cond.declares ({ cls := "AshCity$Condition", name := "holds", desc := "(LAshCity$Asked;)I" } : Jvm.MethodName)), (Jvm.Cond.declares ({ cls := "AshCity$Sum", name := "worth", desc := "(LAshCity$Asked;)I" } : Jvm.MethodName)), (Jvm.Cond.declares ({ cls := "AshCity$Dig", name := "kind", desc := "()I" } : Jvm.MethodName))]
def nwC : List Cond := [(Jvm.Cond.castable "AshCity$Opening" "AshCity$Dig"), (Jvm.Cond.castable "AshCity$Tunnel" "AshCity$Dig"), (Jvm.Cond.castable "AshCity$Refilling" "AshCity$Dig")]
def aoL : List String := ["AshCity$Place", "AshCity$Dig", "AshCity$Meaning", "AshCity$Rules", "AshCity$Find", "AshCity$Thing", "AshCity$Wall", "AshCity$Drawing", "AshCity$Sign", "AshCity$Work", "AshCity$Clause"]
/-- the words that don't ride in lw_all, at a state -/
def NW (U : State) : Prop := (∀ w ∈ nwF, va_Nw w U) ∧ (∀ w ∈ nwM, va_Nw w U) ∧ (∀ w ∈ nwD, va_Nw w U) ∧ (∀ w ∈ nwC, va_Nw w U) ∧ ∀ C ∈ aoL, va_AO C U
theorem NW.warm {s U : State} (hW : s.WarmedH U.vm) (h : NW s) : NW U := by
  obtain ⟨h1, h2, h3, h4, h5⟩ := h
  refine ⟨?_, ?_, ?_, ?_, fun C hC => (h5 C hC).moved hW.alike⟩
  · intro w hw
    have hk := h1 w hw
    unfold nwF at hw
    simp only [List.mem_cons, List.not_mem_nil, or_false] at hw
    rcases hw with rfl | rfl | rfl | rfl | rfl | rfl | rfl | rfl | rfl | rfl | rfl | rfl | rfl | rfl | rfl | rfl | rfl | rfl | rfl | rfl | rfl | rfl | rfl | rfl | rfl | rfl | rfl | rfl | rfl | rfl | rfl | rfl | rfl | rfl | rfl | rfl | rfl | rfl | rfl | rfl | rfl | rfl | rfl | rfl | rfl | rfl | rfl | rfl | rfl | rfl | rfl | rfl | rfl | rfl | rfl | rfl | rfl <;> exact va_Nw.warmF hW hk
  · intro w hw
    have hk := h2 w hw
    unfold nwM at hw
    simp only [List.mem_cons, List.not_mem_nil, or_false] at hw
    rcases hw with rfl | rfl | rfl | rfl | rfl | rfl | rfl | rfl | rfl | rfl <;> exact va_Nw.warmM hW hk
  · intro w hw
    have hk := h3 w hw
    unfold nwD at hw
    simp only [List.mem_cons, List.not_mem_nil, or_false] at hw
    rcases hw with rfl | rfl | rfl | rfl <;> exact va_Nw.warmD hW hk
  · intro w hw
    have hk := h4 w hw
    unfold nwC at hw
    simp only [List.mem_cons, List.not_mem_nil, or_false] at hw
    rcases hw with rfl | rfl | rfl <;> exact va_Nw.warmC hW hk
theorem NW.same {u U : State} (h : u.vm = U.vm) (hh : NW u) : NW U := by
  obtain ⟨h1, h2, h3, h4, h5⟩ := hh
  refine ⟨?_, ?_, ?_, ?_, fun C hC => (h5 C hC).moved (by rw [h]; exact Vm.Alike.refl _)⟩
  · intro w hw
    have hk := h1 w hw
    unfold nwF at hw
    simp only [List.mem_cons, List.not_mem_nil, or_false] at hw
    rcases hw with rfl | rfl | rfl | rfl | rfl | rfl | rfl | rfl | rfl | rfl | rfl | rfl | rfl | rfl | rfl | rfl | rfl | rfl | rfl | rfl | rfl | rfl | rfl | rfl | rfl | rfl | rfl | rfl | rfl | rfl | rfl | rfl | rfl | rfl | rfl | rfl | rfl | rfl | rfl | rfl | rfl | rfl | rfl | rfl | rfl | rfl | rfl | rfl | rfl | rfl | rfl | rfl | rfl | rfl | rfl | rfl | rfl <;> exact va_Nw.same rfl h hk
  · intro w hw
    have hk := h2 w hw
    unfold nwM at hw
    simp only [List.mem_cons, List.not_mem_nil, or_false] at hw
    rcases hw with rfl | rfl | rfl | rfl | rfl | rfl | rfl | rfl | rfl | rfl <;> exact va_Nw.same rfl h hk
  · intro w hw
    have hk := h3 w hw
    unfold nwD at hw
    simp only [List.mem_cons, List.not_mem_nil, or_false] at hw
    rcases hw with rfl | rfl | rfl | rfl <;> exact va_Nw.same rfl h hk
  · intro w hw
    have hk := h4 w hw
    unfold nwC at hw
    simp only [List.mem_cons, List.not_mem_nil, or_false] at hw
    rcases hw with rfl | rfl | rfl <;> exact va_Nw.same rfl h hk
theorem n364 : (Jvm.Cond.fieldLinkNest "AshCity" (356 : Nat) "AshCity$Place" "number" "I" "AshCity") ∈ nwF := List.mem_of_getElem? (i := 0) rfl
theorem n366 : (Jvm.Cond.fieldLinkNest "AshCity" (316 : Nat) "AshCity$Place" "kind" "I" "AshCity") ∈ nwF := List.mem_of_getElem? (i := 1) rfl
theorem n368 : (Jvm.Cond.fieldLinkNest "AshCity" (173 : Nat) "AshCity$Place" "where" "LAshCity$Rectangle;" "AshCity") ∈ nwF := List.mem_of_getElem? (i := 2) rfl
theorem n406 : (Jvm.Cond.fieldLinkNest "AshCity" (237 : Nat) "AshCity$Dig" "number" "I" "AshCity") ∈ nwF := List.mem_of_getElem? (i := 3) rfl
theorem n408 : (Jvm.Cond.fieldLinkNest "AshCity" (337 : Nat) "AshCity$Dig" "hand" "I" "AshCity") ∈ nwF := List.mem_of_getElem? (i := 4) rfl
theorem n410 : (Jvm.Cond.fieldLinkNest "AshCity" (342 : Nat) "AshCity$Dig" "top" "I" "AshCity") ∈ nwF := List.mem_of_getElem? (i := 5) rfl
theorem n412 : (Jvm.Cond.fieldLinkNest "AshCity" (349 : Nat) "AshCity$Dig" "bottom" "I" "AshCity") ∈ nwF := List.mem_of_getElem? (i := 6) rfl
theorem n414 : (Jvm.Cond.fieldLinkNest "AshCity" (217 : Nat) "AshCity$Dig" "from" "I" "AshCity") ∈ nwF := List.mem_of_getElem? (i := 7) rfl
theorem n416 : (Jvm.Cond.fieldLinkNest "AshCity" (341 : Nat) "AshCity$Dig" "to" "I" "AshCity") ∈ nwF := List.mem_of_getElem? (i := 8) rfl
theorem n419 : (Jvm.Cond.fieldLinkNest "AshCity" (350 : Nat) "AshCity$Dig" "where" "LAshCity$Rectangle;" "AshCity") ∈ nwF := List.mem_of_getElem? (i := 9) rfl
theorem n421 : (Jvm.Cond.fieldLinkNest "AshCity" (210 : Nat) "AshCity$Dig" "struck" "I" "AshCity") ∈ nwF := List.mem_of_getElem? (i := 10) rfl
theorem n542 : (Jvm.Cond.fieldLinkNest "AshCity" (249 : Nat) "AshCity$Meaning" "numbering" "I" "AshCity") ∈ nwF := List.mem_of_getElem? (i := 11) rfl
theorem n544 : (Jvm.Cond.fieldLinkNest "AshCity" (252 : Nat) "AshCity$Meaning" "number" "I" "AshCity") ∈ nwF := List.mem_of_getElem? (i := 12) rfl
theorem n546 : (Jvm.Cond.fieldLinkNest "AshCity" (257 : Nat) "AshCity$Meaning" "place" "I" "AshCity") ∈ nwF := List.mem_of_getElem? (i := 13) rfl
theorem n548 : (Jvm.Cond.fieldLinkNest "AshCity" (253 : Nat) "AshCity$Meaning" "from" "I" "AshCity") ∈ nwF := List.mem_of_getElem? (i := 14) rfl
theorem n550 : (Jvm.Cond.fieldLinkNest "AshCity" (254 : Nat) "AshCity$Meaning" "to" "I" "AshCity") ∈ nwF := List.mem_of_getElem? (i := 15) rfl
theorem n590 : (Jvm.Cond.fieldLinkNest "AshCity" (291 : Nat) "AshCity$Rules" "clauses" "[LAshCity$Clause;" "AshCity") ∈ nwF := List.mem_of_getElem? (i := 16) rfl
theorem n592 : (Jvm.Cond.fieldLinkNest "AshCity" (281 : Nat) "AshCity$Rules" "isStruck" "[Z" "AshCity") ∈ nwF := List.mem_of_getElem? (i := 17) rfl
theorem n594 : (Jvm.Cond.fieldLinkNest "AshCity" (288 : Nat) "AshCity$Rules" "many" "I" "AshCity") ∈ nwF := List.mem_of_getElem? (i := 18) rfl
theorem n737 : (Jvm.Cond.fieldLinkNest "AshCity" (295 : Nat) "AshCity$Clause" "letter" "I" "AshCity") ∈ nwF := List.mem_of_getElem? (i := 19) rfl
theorem n738 : (Jvm.Cond.fieldLinkNest "AshCity$Rules" (141 : Nat) "AshCity$Clause" "number" "I" "AshCity") ∈ nwF := List.mem_of_getElem? (i := 20) rfl
theorem n739 : (Jvm.Cond.fieldLinkNest "AshCity" (300 : Nat) "AshCity$Clause" "number" "I" "AshCity") ∈ nwF := List.mem_of_getElem? (i := 21) rfl
theorem n740 : (Jvm.Cond.fieldLinkNest "AshCity$Rules" (143 : Nat) "AshCity$Clause" "other" "I" "AshCity") ∈ nwF := List.mem_of_getElem? (i := 22) rfl
theorem n741 : (Jvm.Cond.fieldLinkNest "AshCity" (301 : Nat) "AshCity$Clause" "other" "I" "AshCity") ∈ nwF := List.mem_of_getElem? (i := 23) rfl
theorem n743 : (Jvm.Cond.fieldLinkNest "AshCity$Rules" (146 : Nat) "AshCity$Clause" "condition" "LAshCity$Condition;" "AshCity") ∈ nwF := List.mem_of_getElem? (i := 24) rfl
theorem n845 : (Jvm.Cond.fieldLinkNest "AshCity$Rules" (97 : Nat) "AshCity$Row" "next" "LAshCity$Row;" "AshCity") ∈ nwF := List.mem_of_getElem? (i := 25) rfl
theorem n876 : (Jvm.Cond.fieldLinkNest "AshCity$Rules" (126 : Nat) "AshCity$Some" "next" "LAshCity$Some;" "AshCity") ∈ nwF := List.mem_of_getElem? (i := 26) rfl
theorem n895 : (Jvm.Cond.fieldLinkNest "AshCity" (304 : Nat) "AshCity$Asked" "week" "I" "AshCity") ∈ nwF := List.mem_of_getElem? (i := 27) rfl
theorem n900 : (Jvm.Cond.fieldLinkNest "AshCity$Compared" (20 : Nat) "AshCity$Asked" "isRefused" "Z" "AshCity") ∈ nwF := List.mem_of_getElem? (i := 28) rfl
theorem n901 : (Jvm.Cond.fieldLinkNest "AshCity$Row" (17 : Nat) "AshCity$Asked" "isRefused" "Z" "AshCity") ∈ nwF := List.mem_of_getElem? (i := 29) rfl
theorem n980 : (Jvm.Cond.fieldLinkNest "AshCity" (340 : Nat) "AshCity$Find" "hand" "I" "AshCity") ∈ nwF := List.mem_of_getElem? (i := 30) rfl
theorem n982 : (Jvm.Cond.fieldLinkNest "AshCity" (357 : Nat) "AshCity$Find" "from" "I" "AshCity") ∈ nwF := List.mem_of_getElem? (i := 31) rfl
theorem n984 : (Jvm.Cond.fieldLinkNest "AshCity" (358 : Nat) "AshCity$Find" "to" "I" "AshCity") ∈ nwF := List.mem_of_getElem? (i := 32) rfl
theorem n986 : (Jvm.Cond.fieldLinkNest "AshCity" (351 : Nat) "AshCity$Find" "number" "I" "AshCity") ∈ nwF := List.mem_of_getElem? (i := 33) rfl
theorem n988 : (Jvm.Cond.fieldLinkNest "AshCity" (348 : Nat) "AshCity$Find" "top" "I" "AshCity") ∈ nwF := List.mem_of_getElem? (i := 34) rfl
theorem n990 : (Jvm.Cond.fieldLinkNest "AshCity" (345 : Nat) "AshCity$Find" "bottom" "I" "AshCity") ∈ nwF := List.mem_of_getElem? (i := 35) rfl
theorem n992 : (Jvm.Cond.fieldLinkNest "AshCity" (352 : Nat) "AshCity$Find" "kind" "I" "AshCity") ∈ nwF := List.mem_of_getElem? (i := 36) rfl
theorem n994 : (Jvm.Cond.fieldLinkNest "AshCity$Thing" (19 : Nat) "AshCity$Find" "marks" "I" "AshCity") ∈ nwF := List.mem_of_getElem? (i := 37) rfl
theorem n995 : (Jvm.Cond.fieldLinkNest "AshCity" (353 : Nat) "AshCity$Find" "marks" "I" "AshCity") ∈ nwF := List.mem_of_getElem? (i := 38) rfl
theorem n997 : (Jvm.Cond.fieldLinkNest "AshCity" (366 : Nat) "AshCity$Find" "told" "I" "AshCity") ∈ nwF := List.mem_of_getElem? (i := 39) rfl
theorem n1089 : (Jvm.Cond.fieldLinkNest "AshCity" (419 : Nat) "AshCity$Thing" "museum" "I" "AshCity") ∈ nwF := List.mem_of_getElem? (i := 40) rfl
theorem n1091 : (Jvm.Cond.fieldLinkNest "AshCity" (388 : Nat) "AshCity$Thing" "kind" "I" "AshCity") ∈ nwF := List.mem_of_getElem? (i := 41) rfl
theorem n1093 : (Jvm.Cond.fieldLinkNest "AshCity" (384 : Nat) "AshCity$Thing" "isGone" "Z" "AshCity") ∈ nwF := List.mem_of_getElem? (i := 42) rfl
theorem n1163 : (Jvm.Cond.fieldLinkNest "AshCity" (491 : Nat) "AshCity$Wall" "worth" "I" "AshCity") ∈ nwF := List.mem_of_getElem? (i := 43) rfl
theorem n1183 : (Jvm.Cond.fieldLinkNest "AshCity" (460 : Nat) "AshCity$Drawing" "number" "I" "AshCity") ∈ nwF := List.mem_of_getElem? (i := 44) rfl
theorem n1185 : (Jvm.Cond.fieldLinkNest "AshCity" (446 : Nat) "AshCity$Drawing" "wall" "I" "AshCity") ∈ nwF := List.mem_of_getElem? (i := 45) rfl
theorem n1187 : (Jvm.Cond.fieldLinkNest "AshCity" (456 : Nat) "AshCity$Drawing" "week" "I" "AshCity") ∈ nwF := List.mem_of_getElem? (i := 46) rfl
theorem n1189 : (Jvm.Cond.fieldLinkNest "AshCity" (449 : Nat) "AshCity$Drawing" "features" "I" "AshCity") ∈ nwF := List.mem_of_getElem? (i := 47) rfl
theorem n1191 : (Jvm.Cond.fieldLinkNest "AshCity" (455 : Nat) "AshCity$Drawing" "told" "I" "AshCity") ∈ nwF := List.mem_of_getElem? (i := 48) rfl
theorem n1193 : (Jvm.Cond.fieldLinkNest "AshCity" (452 : Nat) "AshCity$Drawing" "isCopy" "Z" "AshCity") ∈ nwF := List.mem_of_getElem? (i := 49) rfl
theorem n1265 : (Jvm.Cond.fieldLinkNest "AshCity" (478 : Nat) "AshCity$Sign" "name" "I" "AshCity") ∈ nwF := List.mem_of_getElem? (i := 50) rfl
theorem n1267 : (Jvm.Cond.fieldLinkNest "AshCity" (482 : Nat) "AshCity$Sign" "kind" "I" "AshCity") ∈ nwF := List.mem_of_getElem? (i := 51) rfl
theorem n1269 : (Jvm.Cond.fieldLinkNest "AshCity" (477 : Nat) "AshCity$Sign" "place" "I" "AshCity") ∈ nwF := List.mem_of_getElem? (i := 52) rfl
theorem n1271 : (Jvm.Cond.fieldLinkNest "AshCity" (481 : Nat) "AshCity$Sign" "week" "I" "AshCity") ∈ nwF := List.mem_of_getElem? (i := 53) rfl
theorem n1295 : (Jvm.Cond.fieldLinkNest "AshCity" (490 : Nat) "AshCity$Work" "wall" "I" "AshCity") ∈ nwF := List.mem_of_getElem? (i := 54) rfl
theorem n1297 : (Jvm.Cond.fieldLinkNest "AshCity" (487 : Nat) "AshCity$Work" "cost" "I" "AshCity") ∈ nwF := List.mem_of_getElem? (i := 55) rfl
theorem n1299 : (Jvm.Cond.fieldLinkNest "AshCity" (494 : Nat) "AshCity$Work" "hundredths" "I" "AshCity") ∈ nwF := List.mem_of_getElem? (i := 56) rfl
theorem n384 : (Jvm.Cond.methodLinkNest "AshCity$Rectangle" (22 : Nat) ({ cls := "AshCity", name := "within", desc := "(III)Z" } : Jvm.MethodName) "AshCity") ∈ nwM := List.mem_of_getElem? (i := 0) rfl
theorem n511 : (Jvm.Cond.methodLinkNest "AshCity$Dig" (46 : Nat) ({ cls := "AshCity", name := "within", desc := "(III)Z" } : Jvm.MethodName) "AshCity") ∈ nwM := List.mem_of_getElem? (i := 1) rfl
theorem n791 : (Jvm.Cond.methodLinkNest "AshCity$Not" (1 : Nat) ({ cls := "AshCity$Condition", name := "<init>", desc := "()V" } : Jvm.MethodName) "AshCity") ∈ nwM := List.mem_of_getElem? (i := 2) rfl
theorem n819 : (Jvm.Cond.methodLinkNest "AshCity$Number" (1 : Nat) ({ cls := "AshCity$Sum", name := "<init>", desc := "()V" } : Jvm.MethodName) "AshCity") ∈ nwM := List.mem_of_getElem? (i := 3) rfl
theorem n833 : (Jvm.Cond.methodLinkNest "AshCity$Letter" (1 : Nat) ({ cls := "AshCity$Sum", name := "<init>", desc := "()V" } : Jvm.MethodName) "AshCity") ∈ nwM := List.mem_of_getElem? (i := 4) rfl
theorem n841 : (Jvm.Cond.methodLinkNest "AshCity$Row" (1 : Nat) ({ cls := "AshCity$Sum", name := "<init>", desc := "()V" } : Jvm.MethodName) "AshCity") ∈ nwM := List.mem_of_getElem? (i := 5) rfl
theorem n858 : (Jvm.Cond.methodLinkNest "AshCity$Compared" (1 : Nat) ({ cls := "AshCity$Condition", name := "<init>", desc := "()V" } : Jvm.MethodName) "AshCity") ∈ nwM := List.mem_of_getElem? (i := 6) rfl
theorem n872 : (Jvm.Cond.methodLinkNest "AshCity$Some" (1 : Nat) ({ cls := "AshCity$Condition", name := "<init>", desc := "()V" } : Jvm.MethodName) "AshCity") ∈ nwM := List.mem_of_getElem? (i := 7) rfl
theorem n927 : (Jvm.Cond.methodLinkNest "AshCity$Rules" (152 : Nat) ({ cls := "AshCity", name := "within", desc := "(III)Z" } : Jvm.MethodName) "AshCity") ∈ nwM := List.mem_of_getElem? (i := 8) rfl
theorem n1122 : (Jvm.Cond.methodLinkNest "AshCity$Thing" (22 : Nat) ({ cls := "AshCity", name := "sizeOf", desc := "(I)I" } : Jvm.MethodName) "AshCity") ∈ nwM := List.mem_of_getElem? (i := 9) rfl
theorem n513 : (Jvm.Cond.declares ({ cls := "AshCity$Dig", name := "makes", desc := "(I)I" } : Jvm.MethodName)) ∈ nwD := List.mem_of_getElem? (i := 0) rfl
theorem n933 : (Jvm.Cond.declares ({ cls := "AshCity$Condition", name := "holds", desc := "(LAshCity$Asked;)I" } : Jvm.MethodName)) ∈ nwD := List.mem_of_getElem? (i := 1) rfl
theorem n939 : (Jvm.Cond.declares ({ cls := "AshCity$Sum", name := "worth", desc := "(LAshCity$Asked;)I" } : Jvm.MethodName)) ∈ nwD := List.mem_of_getElem? (i := 2) rfl
theorem n1068 : (Jvm.Cond.declares ({ cls := "AshCity$Dig", name := "kind", desc := "()I" } : Jvm.MethodName)) ∈ nwD := List.mem_of_getElem? (i := 3) rfl
theorem n2116 : (Jvm.Cond.castable "AshCity$Opening" "AshCity$Dig") ∈ nwC := List.mem_of_getElem? (i := 0) rfl
theorem n2117 : (Jvm.Cond.castable "AshCity$Tunnel" "AshCity$Dig") ∈ nwC := List.mem_of_getElem? (i := 1) rfl
theorem n2118 : (Jvm.Cond.castable "AshCity$Refilling" "AshCity$Dig") ∈ nwC := List.mem_of_getElem? (i := 2) rfl
