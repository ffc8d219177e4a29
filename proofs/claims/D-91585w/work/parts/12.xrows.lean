/-! ROWS OVER AshCity's WORLD -/
section JQ
variable {γ : jG} {P : Heap → Prop} {k n pc nL : Nat} {L : List (Nat × Value)} {st : List Value} {cc : ByteArray} {own : String}
theorem j_aloadq_n (C : JC γ cc nL own) {i : Fin 4} {x : Option Nat} (hd : decode cc pc = .ok (.aload_n i, 1)) (q : Nat) (hq : L[q]? = some ((i : Nat), va_rf x)) (kk : J γ P k n (pc + 1) L (va_rf x :: st)) : J γ P k n pc L st := by
  intro H locs ls hP hS hl
  cases x with
  | none => exact lv_aload_nN C.1 C.2.1 hd rfl (lv_at hl q hq) (kk H locs ls hP hS hl)
  | some a => exact lv_aload_n C.1 C.2.1 hd rfl (lv_at hl q hq) (kk H locs ls hP hS hl)
theorem j_aloadq (C : JC γ cc nL own) {i : Nat} {x : Option Nat} (hd : decode cc pc = .ok (.aload i, 2)) (q : Nat) (hq : L[q]? = some (i, va_rf x)) (kk : J γ P k n (pc + 2) L (va_rf x :: st)) : J γ P k n pc L st := by
  intro H locs ls hP hS hl
  cases x with
  | none => exact lv_aloadN C.1 C.2.1 hd (lv_at hl q hq) (kk H locs ls hP hS hl)
  | some a => exact lv_aload C.1 C.2.1 hd (lv_at hl q hq) (kk H locs ls hP hS hl)
theorem j_astoreq_n (C : JC γ cc nL own) {i : Fin 4} {x : Option Nat} (L' : List (Nat × Value)) (hd : decode cc pc = .ok (.astore_n i, 1)) (hn : Nat.blt (i : Nat) nL = true) (hL : ((i : Nat), va_rf x) :: L.filter (fun q => !(q.1 == (i : Nat)) && !(q.1 + 1 == (i : Nat) && q.2.category == 2)) = L') (kk : J γ P k n (pc + 1) L' st) : J γ P k n pc L (va_rf x :: st) := by
  intro H locs ls hP hS hl
  cases x with
  | none => exact lv_astore_nN C.1 C.2.1 hd rfl hl (by rw [C.2.2.1]; exact Nat.le_of_ble_eq_true hn) hL (fun ls' hl' => kk H locs ls' hP hS hl')
  | some a => exact lv_astore_n C.1 C.2.1 hd rfl hl (by rw [C.2.2.1]; exact Nat.le_of_ble_eq_true hn) hL (fun ls' hl' => kk H locs ls' hP hS hl')
theorem j_astoreq (C : JC γ cc nL own) {i : Nat} {x : Option Nat} (L' : List (Nat × Value)) (hd : decode cc pc = .ok (.astore i, 2)) (hn : Nat.blt i nL = true) (hL : (i, va_rf x) :: L.filter (fun q => !(q.1 == i) && !(q.1 + 1 == i && q.2.category == 2)) = L') (kk : J γ P k n (pc + 2) L' st) : J γ P k n pc L (va_rf x :: st) := by
  intro H locs ls hP hS hl
  cases x with
  | none => exact lv_astoreN C.1 C.2.1 hd hl (by rw [C.2.2.1]; exact Nat.le_of_ble_eq_true hn) hL (fun ls' hl' => kk H locs ls' hP hS hl')
  | some a => exact lv_astore C.1 C.2.1 hd hl (by rw [C.2.2.1]; exact Nat.le_of_ble_eq_true hn) hL (fun ls' hl' => kk H locs ls' hP hS hl')
theorem j_null (C : JC γ cc nL own) (hd : decode cc pc = .ok (.aconst_null, 1)) (kk : J γ P k n (pc + 1) L (va_rf none :: st)) : J γ P k n pc L st := fun H locs ls hP hS hl => lv_null C.1 C.2.1 hd (kk H locs ls hP hS hl)
theorem j_ifnull (C : JC γ cc nL own) {x : Option Nat} {off : Int} (t : Nat) (hd : decode cc pc = .ok (.ifnull off, 3)) (ht : (pc : Int) + off = (t : Int)) (kt : x = none → J γ P k n t L st) (kf : ¬ x = none → J γ P k n (pc + 3) L st) : J γ P k n pc L (va_rf x :: st) := by
  intro H locs ls hP hS hl
  cases x with
  | none => exact lv_ifnullN C.1 C.2.1 hd ht (kt rfl H locs ls hP hS hl)
  | some a => exact lv_ifnull C.1 C.2.1 hd (kf (by simp) H locs ls hP hS hl)
theorem j_ifnonnull (C : JC γ cc nL own) {x : Option Nat} {off : Int} (t : Nat) (hd : decode cc pc = .ok (.ifnonnull off, 3)) (ht : (pc : Int) + off = (t : Int)) (kt : ¬ x = none → J γ P k n t L st) (kf : x = none → J γ P k n (pc + 3) L st) : J γ P k n pc L (va_rf x :: st) := by
  intro H locs ls hP hS hl
  cases x with
  | none => exact lv_ifnonnullN C.1 C.2.1 hd (kf rfl H locs ls hP hS hl)
  | some a => exact lv_ifnonnull C.1 C.2.1 hd ht (kt (by simp) H locs ls hP hS hl)
theorem j_objInit (C : JC γ cc nL own) {idx a : Nat} (hq : Cond.methodLink own idx Lib.objectInit ∈ lw_all) (hd : decode cc pc = .ok (.invokespecial idx, 3)) (hR : 1 ≤ (jR γ).frames ∧ 40 ≤ (jR γ).locals) (hrm : Nat.ble ((st.map fun v => v.category).sum) 8 = true) (kk : J γ P k n (pc + 3) L st) : J γ P k n pc L (.ref a :: st) := fun H locs ls hP hS hl =>
  W.objInit C.1 C.2.1 C.2.2.2.1 (C.2.2.2.2.1 _ hq) (C.2.2.2.2.1 _ q141) (C.2.2.2.2.1 _ q142) rfl (by exact hl.1) rfl hd hR.1 (by have h := lv_room (m := jm γ) (pc := pc) (ls := ls) (rest := st) (Nat.le_of_ble_eq_true hrm); exact Nat.le_trans (Nat.add_le_add_right h 12) (Nat.le_trans (by decide) hR.2)) (kk H locs ls hP hS hl)
theorem j_lconst (C : JC γ cc nL own) {c : Fin 2} {v : Int64} (hd : decode cc pc = .ok (.lconst c, 1)) (hv : Int64.ofNat (c : Nat) = v) (kk : J γ P k n (pc + 1) L (.long v :: st)) : J γ P k n pc L st := fun H locs ls hP hS hl => lv_lconst C.1 C.2.1 hd hv (kk H locs ls hP hS hl)
theorem j_lstore_n (C : JC γ cc nL own) {i : Fin 4} {x : Int64} (L' : List (Nat × Value)) (hd : decode cc pc = .ok (.lstore_n i, 1)) (hn : Nat.blt ((i : Nat) + 1) nL = true) (hL : ((i : Nat), Value.long x) :: L.filter (fun q => !(q.1 == (i : Nat)) && (!(q.1 == (i : Nat) + 1) && !(q.1 + 1 == (i : Nat) && q.2.category == 2))) = L') (kk : J γ P k n (pc + 1) L' st) : J γ P k n pc L (.long x :: st) := fun H locs ls hP hS hl => lv_lstore_n C.1 C.2.1 hd rfl hl (by rw [C.2.2.1]; exact Nat.le_of_ble_eq_true hn) hL (fun ls' hl' => kk H locs ls' hP hS hl')
theorem j_lshr (C : JC γ cc nL own) {x : Int64} {y : Int32} (hd : decode cc pc = .ok (.lshr, 1)) (kk : J γ P k n (pc + 1) L (.long (x >>> (y.toInt64 &&& 63)) :: st)) : J γ P k n pc L (.int y :: .long x :: st) := fun H locs ls hP hS hl => lv_lshr C.1 C.2.1 hd rfl (kk H locs ls hP hS hl)
theorem j_lshl (C : JC γ cc nL own) {x : Int64} {y : Int32} (hd : decode cc pc = .ok (.lshl, 1)) (kk : J γ P k n (pc + 1) L (.long (x <<< (y.toInt64 &&& 63)) :: st)) : J γ P k n pc L (.int y :: .long x :: st) := fun H locs ls hP hS hl => lv_lshl C.1 C.2.1 hd rfl (kk H locs ls hP hS hl)
theorem j_lcmp (C : JC γ cc nL own) {x y : Int64} (hd : decode cc pc = .ok (.lcmp, 1)) (kk : J γ P k n (pc + 1) L (.int (lg_cmp x y) :: st)) : J γ P k n pc L (.long y :: .long x :: st) := fun H locs ls hP hS hl => W.lcmp C.1 C.2.1 hd (kk H locs ls hP hS hl)
theorem j_iushr (C : JC γ cc nL own) {x y : Int32} (hd : decode cc pc = .ok (.iushr, 1)) (kk : J γ P k n (pc + 1) L (.int (x.toUInt32 >>> (y.toUInt32 &&& Int32.toUInt32 31)).toInt32 :: st)) : J γ P k n pc L (.int y :: .int x :: st) := fun H locs ls hP hS hl => lv_iushr C.1 C.2.1 hd rfl (kk H locs ls hP hS hl)
end JQ
/-! reads and writes of the pool -/
def gF (τ : XS) (a : Nat) (cs : List Nat) (k : Nat) : Option Value := match τ.2.2.2.1 a with
  | some (.inr x) => if x.1 ∈ cs then some (x.2 k) else none
  | _ => none
def gI (τ : XS) (a : Nat) (cs : List Nat) (k : Nat) : Option Int32 := match gF τ a cs k with
  | some (.int x) => some x
  | _ => none
def gQ (τ : XS) (a : Nat) (cs : List Nat) (k : Nat) : Option (Option Nat) := match gF τ a cs k with
  | some (.ref b) => some (some b)
  | some .null => some none
  | _ => none
def gN (τ : XS) (a : Nat) (cs : List Nat) (k : Nat) : Option Nat := match gF τ a cs k with
  | some (.ref b) => some b
  | _ => none
def pF (τ : XS) (a : Nat) (cs : List Nat) (k : Nat) (v : Value) : Option XS := match τ.2.2.2.1 a with
  | some (.inr x) => if x.1 ∈ cs then some (xP τ a (.inr (x.1, updV x.2 k v))) else none
  | _ => none
def cO (τ : XS) (a : Nat) : Option Nat := match τ.2.2.2.1 a with
  | some (.inr x) => some x.1
  | _ => none
def isC (τ : XS) (v : Nat) (cs : List Nat) : Bool := match τ.2.2.2.1 v with
  | some (.inr x) => decide (x.1 ∈ cs)
  | _ => false
/-- an int array of the pool, of type t: its length and contents -/
def gA (τ : XS) (a t : Nat) : Option (Nat × (Nat → Int32)) := match τ.2.2.2.1 a with
  | some (.inl (t', m, .inl f)) => if t' = t then some (m, f) else none
  | _ => none
def gB (τ : XS) (a t : Nat) : Option (Nat × (Nat → Option Nat)) := match τ.2.2.2.1 a with
  | some (.inl (t', m, .inr (.inr (.inr (.inr f))))) => if t' = t then some (m, f) else none
  | _ => none
theorem gF_spec {τ : XS} {a : Nat} {cs : List Nat} {k : Nat} {v : Value} (h : gF τ a cs k = some v) : ∃ (c : Nat) (V : Nat → Value), τ.2.2.2.1 a = some (.inr (c, V)) ∧ c ∈ cs ∧ V k = v := by
  unfold gF at h
  split at h
  · rename_i x hx
    by_cases hc : x.1 ∈ cs
    · rw [if_pos hc] at h
      exact ⟨x.1, x.2, hx, hc, Option.some.inj h⟩
    · rw [if_neg hc] at h
      cases h
  · cases h
theorem gI_spec {τ : XS} {a : Nat} {cs : List Nat} {k : Nat} {x : Int32} (h : gI τ a cs k = some x) : gF τ a cs k = some (.int x) := by
  unfold gI at h
  split at h
  · rename_i y hy
    cases h
    exact hy
  · cases h
theorem gQ_spec {τ : XS} {a : Nat} {cs : List Nat} {k : Nat} {x : Option Nat} (h : gQ τ a cs k = some x) : gF τ a cs k = some (va_rf x) := by
  unfold gQ at h
  split at h
  · rename_i y hy
    cases h
    exact hy
  · rename_i hy
    cases h
    exact hy
  · cases h
theorem gN_spec {τ : XS} {a : Nat} {cs : List Nat} {k : Nat} {x : Nat} (h : gN τ a cs k = some x) : gF τ a cs k = some (.ref x) := by
  unfold gN at h
  split at h
  · rename_i y hy
    cases h
    exact hy
  · cases h
theorem pF_spec {τ τ' : XS} {a : Nat} {cs : List Nat} {k : Nat} {v : Value} (h : pF τ a cs k v = some τ') : ∃ (c : Nat) (V : Nat → Value), τ.2.2.2.1 a = some (.inr (c, V)) ∧ c ∈ cs ∧ τ' = xP τ a (.inr (c, updV V k v)) := by
  unfold pF at h
  split at h
  · rename_i x hx
    by_cases hc : x.1 ∈ cs
    · rw [if_pos hc] at h
      exact ⟨x.1, x.2, hx, hc, (Option.some.inj h).symm⟩
    · rw [if_neg hc] at h
      cases h
  · cases h
theorem isC_spec {τ : XS} {v : Nat} {cs : List Nat} (h : isC τ v cs = true) : ∃ (c : Nat) (V : Nat → Value), τ.2.2.2.1 v = some (.inr (c, V)) ∧ c ∈ cs := by
  unfold isC at h
  split at h
  · rename_i x hx
    exact ⟨x.1, x.2, hx, of_decide_eq_true h⟩
  · cases h
theorem cO_spec {τ : XS} {a c : Nat} (h : cO τ a = some c) : ∃ V : Nat → Value, τ.2.2.2.1 a = some (.inr (c, V)) := by
  unfold cO at h
  split at h
  · rename_i x hx
    cases h
    exact ⟨x.2, hx⟩
  · cases h
theorem gA_spec {τ : XS} {a t : Nat} {A : Nat × (Nat → Int32)} (h : gA τ a t = some A) : τ.2.2.2.1 a = some (.inl (t, A.1, .inl A.2)) := by
  unfold gA at h
  split at h
  · rename_i t' m f hx
    by_cases hc : t' = t
    · rw [if_pos hc] at h
      cases h
      rw [hx, hc]
    · rw [if_neg hc] at h
      cases h
  · cases h
theorem gB_spec {τ : XS} {a t : Nat} {A : Nat × (Nat → Option Nat)} (h : gB τ a t = some A) : τ.2.2.2.1 a = some (.inl (t, A.1, .inr (.inr (.inr (.inr A.2))))) := by
  unfold gB at h
  split at h
  · rename_i t' m f hx
    by_cases hc : t' = t
    · rw [if_pos hc] at h
      cases h
      rw [hx, hc]
    · rw [if_neg hc] at h
      cases h
  · cases h
/-! costs: cells and slots made -/
abbrev XR (α : Type) : Type := Option (α × XS × Nat × Nat)
def tk {α : Type} (c s : Nat) (x : XR α) : XR α := x.bind fun r => some (r.1, r.2.1, c + r.2.2.1, s + r.2.2.2)
theorem o_tk {α : Type} {c s c0 s0 : Nat} {x : XR α} {v : α} {τ : XS} (h : tk c s x = some (v, τ, c0, s0)) : ∃ c' s', x = some (v, τ, c', s') ∧ c0 = c + c' ∧ s0 = s + s' := by
  unfold tk at h
  obtain ⟨r, h1, h2⟩ := o_bind h
  cases h2
  exact ⟨r.2.2.1, r.2.2.2, h1, rfl, rfl⟩
theorem lp_Wc {α ρ : Type} {B : (α → XR ρ) → α → XR ρ} {v : ρ} {τ : XS} {Wd : α → Nat → Nat → Prop} (hB : ∀ R, (∀ a c s, R a = some (v, τ, c, s) → Wd a c s) → ∀ a c s, B R a = some (v, τ, c, s) → Wd a c s) : ∀ (n : Nat) (a : α) (c s : Nat), lp B n a = some (v, τ, c, s) → Wd a c s := by
  intro n
  induction n with
  | zero => intro a c s h; cases h
  | succ n ih => intro a c s h; exact hB _ ih a c s h
/-! contracts and context -/
def rmX (d c s : Nat) : Room := { frames := d, cells := c, slots := s, locals := 60 * d }
def xQi (G : gG) (o B : Nat) (r : Int32) (τ : XS) : Array Value → State → Outcome → State → Prop := va_Qi (fun v (_ : Unit) => v = r) (fun _ t => XW G o B τ t.heap) (xa o B)
def xQq (G : gG) (o B : Nat) (r : Option Nat) (τ : XS) : Array Value → State → Outcome → State → Prop := va_Qq (fun v (_ : Unit) => v = r) (fun _ t => XW G o B τ t.heap) (xa o B)
def xQv (G : gG) (o B : Nat) (r : Int32) (τ : XS) : Array Value → State → Outcome → State → Prop := va_Qv (fun (_ : Unit) => True) (fun _ t => XW G o B τ t.heap) (xa o B)
/-- the class's texts, and the static that String's methods read -/
def TW (A : Nat → Prop) (U : State) : Prop := ∃ adK adV : Nat → Nat, vk_S 2 [5, 5] [[110, 97, 118, 102, 120], [119, 104, 107, 109, 112]] adK adV A U U.heap ∧ vk_R "AshCity$Rules" 132 "navfx" (adK 0) U ∧ vk_R "AshCity$Rules" 79 "whkmp" (adK 1) U ∧ va_Z "java/lang/String" "COMPACT_STRINGS" "Z" (.int 1) A U U.heap
theorem TW.go {A : Nat → Prop} {s U : State} (hW : s.WarmedH U.vm) (hq : ∀ a : Nat, a < s.heap.size → ¬ A a → U.heap[a]? = s.heap[a]?) (h : TW A s) : TW A U := by
  obtain ⟨adK, adV, h1, h2, h3, h4⟩ := h
  exact ⟨adK, adV, (h1.kept hq).moved hW.alike, h2.warm hW, h3.warm hW, (h4.kept hq).moved hW.alike⟩
theorem TW.same {A : Nat → Prop} {u U : State} (hv : U.vm = u.vm) (hh : U.heap = u.heap) (h : TW A u) : TW A U := by
  obtain ⟨adK, adV, h1, h2, h3, h4⟩ := h
  have ha : u.vm.Alike U.vm := by rw [hv]; exact Vm.Alike.refl _
  exact ⟨adK, adV, by rw [hh]; exact h1.moved ha, h2.same hv, h3.same hv, by rw [hh]; exact h4.moved ha⟩
def xPc (G : gG) (o B : Nat) (τ : XS) (as : List Value) : Array Value → State → Prop := va_Pc as (fun U => gK G U ∧ NW U ∧ XW G o B τ U.heap ∧ TW (xa o B) U)
def MetX (l : Launch) (G : gG) (o B : Nat) (y : MethodName) (cc : ByteArray) (nL : Nat) (ret : Option FieldType) (d : Nat) (as : List Value) (τ : XS) (Qc : Array Value → State → Outcome → State → Prop) (mc ms : Nat) : Prop := Met l y (ws_ y cc nL ret) (rmX d mc ms) (xPc G o B τ as) Qc mc ms (xa o B)
def XC (γ : jG) (cc : ByteArray) (nL : Nat) (own mn : String) (G : gG) (o B d : Nat) (ret : Option FieldType) (Qc : Array Value → State → Outcome → State → Prop) (c0 s0 : Nat) : Prop :=
  JC γ cc nL own ∧ gK G (js γ) ∧ NW (js γ) ∧ jA γ = xa o B ∧ jR γ = rmX d c0 s0 ∧ (jt γ).sig.returnType = ret ∧ jQ γ = MQ (jb γ) Qc (ja γ) (js γ) c0 s0 (xa o B) ∧ (jt γ).name = mn ∧ TW (xa o B) (js γ)
theorem xPc_blind (G : gG) (o B : Nat) (τ : XS) (as : List Value) : FrameBlind (xPc G o B τ as) := fun a U g mk q => ⟨q.1, gK.moved (Vm.Alike.refl U.vm) q.2.1, NW.same (u := U) (U := U.calling g mk a) rfl q.2.2.1, q.2.2.2.1, TW.same (u := U) (U := U.calling g mk a) rfl rfl q.2.2.2.2⟩
theorem metX_of {l : Launch} {G : gG} {o B : Nat} {y : MethodName} {cc : ByteArray} {nL d : Nat} {ret : Option FieldType} {as : List Value} {τ : XS} {Qc : Array Value → State → Outcome → State → Prop} {mc ms : Nat} {own mn : String} (hpl : plainName y.cls = true) (hcls : y.cls = own) (hmn : y.name = mn) (hlen : Nat.ble (lg_sl as).length nL = true)
    (body : ∀ γ : jG, jl γ = l → XC γ cc nL own mn G o B d ret Qc mc ms → J γ (XW G o B τ) 0 0 0 (lv_args 0 as) []) : MetX l G o B y cc nL ret d as τ Qc mc ms := by
  refine Met.ofW (cc := cc) (maxL := nL) (ret := ret) hpl rfl ?_
  intro p e s m args below meth c s₁ B0 hml hv
  obtain ⟨rfl, hK, hN, hP, hT⟩ := hv
  have hts := atoms_spec (ws := ws_ y cc nL ret) B0.pre
  have hts : ∀ w ∈ lw_all, w.before _ s = true := fun w h => hts w (List.mem_cons_of_mem _ h)
  have hown : s.vm.findClass own = some m.cls := by rw [← hcls]; exact findClass_of_methodNamed B0.named
  have hl := lv_entry as (n := nL) (Nat.le_of_ble_eq_true hlen)
  rw [lg_entry_eq]
  refine body ((p, l, e, _, s), (m, _, below, meth, c), xa o B, _) rfl ⟨⟨B0.exec, B0.bytes, hml, hown, hts, B0.notSynchronized⟩, hK, hN, rfl, rfl, B0.returns, rfl, by rw [← hmn]; exact (name_of_methodNamed B0.named B0.method).1, hT⟩ s.heap [] _ hP va_S.rf ?_
  show lv_has _ c.maxLocals _
  rw [hml]
  exact hl
/-! facts of fields, arrays, calls -/
def xCl (c : Nat) (C : String) (T : u_T) (N : Nat) (ty : Nat → FieldType) : Prop := vwCl[c]? = some (C, T, N) ∧ (∀ w ∈ u_ws C T N, w ∈ lw_all) ∧ (∀ k, k < N → parseFieldDescriptor (T k).2.2.1 = some (ty k)) ∧ (∀ a, a < N → ∀ b, b < N → a ≠ b → (T a).2.1 ≠ (T b).2.1)
def xFl (own : String) (idx : Nat) (cs : List Nat) (k : Nat) (fty : FieldType) (fin : Bool) : Prop :=
  ∃ ref name desc : String, (Cond.fieldLink own idx ref name desc ∈ lw_all ∨ Cond.fieldLinkNest own idx ref name desc "AshCity" ∈ nwF) ∧ ∀ c ∈ cs, ∃ (C : String) (T : u_T) (N : Nat) (ty : Nat → FieldType), xCl c C T N ty ∧ k < N ∧ T k = (ref, name, desc, fin) ∧ ty k = fty
def xFs (idx fk : Nat) : Prop := Cond.fieldLink RX0 idx (TX0 fk).1 (TX0 fk).2.1 (TX0 fk).2.2.1 ∈ lw_all ∧ Nat.blt fk 46 = true ∧ xAr fk = none ∧ (¬ fk = 11) ∧ (TX0 fk).2.2.2 = false ∧ tyX0 fk = .int
def xFa (idx fk j : Nat) : Prop := Cond.fieldLink RX0 idx (TX0 fk).1 (TX0 fk).2.1 (TX0 fk).2.2.1 ∈ lw_all ∧ Nat.blt fk 46 = true ∧ xAr fk = some j
def xAf (j t m : Nat) : Prop := Nat.blt j 35 = true ∧ xTy j = t ∧ xLen j = m
theorem xAf_pairs {i : Int32} (h : okI i 8 = true) : xAf (11 + i.toNatClampNeg) 0 60 := by
  unfold okI at h
  rw [Bool.and_eq_true] at h
  have h2 := of_decide_eq_true h.2
  generalize i.toNatClampNeg = j at h2 ⊢
  have hh : ∀ j : Nat, j < 8 → Nat.blt (11 + j) 35 = true ∧ xTy (11 + j) = 0 ∧ xLen (11 + j) = 60 := by decide
  exact hh j h2
/-- which classes' objects an array of references of type t takes -/
def xEl (t : Nat) (cs : List Nat) : Prop := ∃ E : String, (∀ G : gG, (gTys G)[t]? = some (G.2.2 t, .object E)) ∧ ∀ c ∈ cs, ∃ (C : String) (T : u_T) (N : Nat) (ty : Nat → FieldType), xCl c C T N ty ∧ (C = E ∨ Cond.castable C E ∈ nwC)
section JX
variable {γ : jG} {k n pc nL : Nat} {L : List (Nat × Value)} {st : List Value} {cc : ByteArray} {own mn : String} {G : gG} {o B d c0 s0 : Nat} {ret : Option FieldType} {Qc : Array Value → State → Outcome → State → Prop} {τ τ1 : XS}
theorem jx_getS (M : XC γ cc nL RX0 mn G o B d ret Qc c0 s0) {idx fk : Nat} (F : xFs idx fk) (hd : decode cc pc = .ok (.getfield idx, 3)) (kk : J γ (XW G o B τ) k n (pc + 3) L (.int (τ.1.1 fk) :: st)) : J γ (XW G o B τ) k n pc L (.ref o :: st) := by
  have hv : xV o τ fk = .int (τ.1.1 fk) := by unfold xV; rw [F.2.2.1]; exact if_neg F.2.2.2.1
  rw [← hv] at kk
  exact j_getf (ci := 0) M.1 M.2.1 in_X0 rfl fk F.2.1 F.1 (fun H h => h.1 o _ xH_o) hd kk
theorem jx_getA (M : XC γ cc nL RX0 mn G o B d ret Qc c0 s0) {idx fk j : Nat} (F : xFa idx fk j) (hd : decode cc pc = .ok (.getfield idx, 3)) (kk : J γ (XW G o B τ) k n (pc + 3) L (.ref (o + 1 + j) :: st)) : J γ (XW G o B τ) k n pc L (.ref o :: st) := by
  have hv : xV o τ fk = .ref (o + 1 + j) := by unfold xV; rw [F.2.2]
  rw [← hv] at kk
  exact j_getf (ci := 0) M.1 M.2.1 in_X0 rfl fk F.2.1 F.1 (fun H h => h.1 o _ xH_o) hd kk
theorem jx_getD (M : XC γ cc nL RX0 mn G o B d ret Qc c0 s0) {idx : Nat} (F : Cond.fieldLink RX0 idx (TX0 11).1 (TX0 11).2.1 (TX0 11).2.2.1 ∈ lw_all) (hd : decode cc pc = .ok (.getfield idx, 3)) (kk : J γ (XW G o B τ) k n (pc + 3) L (va_rf τ.2.2.1 :: st)) : J γ (XW G o B τ) k n pc L (.ref o :: st) :=
  j_getf (ci := 0) (V := xV o τ) M.1 M.2.1 in_X0 rfl 11 rfl F (fun H h => h.1 o _ xH_o) hd kk
theorem jx_putS (M : XC γ cc nL RX0 mn G o B d ret Qc c0 s0) {idx fk : Nat} {v : Int32} (F : xFs idx fk) (hd : decode cc pc = .ok (.putfield idx, 3)) (e : τ1 = xS τ fk v) (kk : J γ (XW G o B τ1) k n (pc + 3) L st) : J γ (XW G o B τ) k n pc L (.int v :: .ref o :: st) := by
  subst e
  exact j_putf (ci := 0) M.1 M.2.1 in_X0 tyX0 tyX0_ok nmX0 rfl fk F.2.1 F.1 F.2.2.2.2.1 (by rw [F.2.2.2.2.2]; rfl) (by rw [F.2.2.2.2.2]; rfl) (fun H h => h.1 o _ xH_o) (by rw [M.2.2.2.1]; exact Or.inl ⟨Nat.le_refl _, by omega⟩) (fun H H' h hz oq he => XW.putS F.2.2.1 F.2.2.2.1 h hz oq he) hd kk
theorem jx_putD (M : XC γ cc nL RX0 mn G o B d ret Qc c0 s0) {idx : Nat} {r : Option Nat} (F : Cond.fieldLink RX0 idx (TX0 11).1 (TX0 11).2.1 (TX0 11).2.2.1 ∈ lw_all) (hd : decode cc pc = .ok (.putfield idx, 3)) (e : τ1 = xF τ r) (kk : J γ (XW G o B τ1) k n (pc + 3) L st) : J γ (XW G o B τ) k n pc L (va_rf r :: .ref o :: st) := by
  subst e
  exact j_putf (ci := 0) (V := xV o τ) M.1 M.2.1 in_X0 tyX0 tyX0_ok nmX0 rfl 11 rfl F rfl (by cases r <;> rfl) (by cases r <;> rfl) (fun H h => h.1 o _ xH_o) (by rw [M.2.2.2.1]; exact Or.inl ⟨Nat.le_refl _, by omega⟩) (fun H H' h hz oq he => XW.putD h hz oq he) hd kk
theorem xAt {j t m : Nat} {H : Heap} (A : xAf j t m) (ht : t < 3) (h : XW G o B τ H) : hAt G (o + 1 + j) (.inl (G.2.2 t, m, .inl (τ.1.2 j))) H := by
  obtain ⟨hj, rfl, rfl⟩ := A
  have h1 := h.1 _ _ (xH_a (Nat.le_of_ble_eq_true hj))
  unfold xCt at h1
  rw [if_pos ht] at h1
  exact h1
theorem xBt {j t m : Nat} {H : Heap} (A : xAf j t m) (ht : ¬ t < 3) (h10 : ¬ j = 10) (h : XW G o B τ H) : hAt G (o + 1 + j) (.inl (G.2.2 t, m, .inr (.inr (.inr (.inr (τ.2.1 j)))))) H := by
  obtain ⟨hj, rfl, rfl⟩ := A
  have h1 := h.1 _ _ (xH_a (Nat.le_of_ble_eq_true hj))
  unfold xCt at h1
  rw [if_neg ht, if_neg h10] at h1
  exact h1
theorem xa_in {j : Nat} (hj : Nat.blt j 35 = true) : xa o B (o + 1 + j) := by
  have h := Nat.le_of_ble_eq_true hj
  exact Or.inl ⟨by omega, by omega⟩
theorem jx_iald (M : XC γ cc nL own mn G o B d ret Qc c0 s0) {j m : Nat} {i : Int32} (A : xAf j 0 m) (hi : okI i m = true) (hd : decode cc pc = .ok (.iaload, 1)) (kk : J γ (XW G o B τ) k n (pc + 1) L (.int (τ.1.2 j i.toNatClampNeg) :: st)) : J γ (XW G o B τ) k n pc L (.int i :: .ref (o + 1 + j) :: st) :=
  j_iald (t0 := 0) (cA := G.2.2 0) M.1 M.2.1 rfl (fun H h => xAt A (by decide) h) (okI_in hi) hd kk
theorem jx_bald (M : XC γ cc nL own mn G o B d ret Qc c0 s0) {j m : Nat} {i : Int32} (A : xAf j 1 m) (hi : okI i m = true) (hd : decode cc pc = .ok (.baload, 1)) (kk : J γ (XW G o B τ) k n (pc + 1) L (.int (τ.1.2 j i.toNatClampNeg) :: st)) : J γ (XW G o B τ) k n pc L (.int i :: .ref (o + 1 + j) :: st) :=
  j_bald (t0 := 1) (cA := G.2.2 1) M.1 M.2.1 rfl (fun H h => xAt A (by decide) h) (okI_in hi) hd kk
theorem jx_iast (M : XC γ cc nL own mn G o B d ret Qc c0 s0) {j m : Nat} {i x : Int32} (A : xAf j 0 m) (hi : okI i m = true) (hd : decode cc pc = .ok (.iastore, 1)) (e : τ1 = xA τ j i.toNatClampNeg x) (kk : J γ (XW G o B τ1) k n (pc + 1) L st) : J γ (XW G o B τ) k n pc L (.int x :: .int i :: .ref (o + 1 + j) :: st) := by
  subst e
  refine j_iast (t0 := 0) (cA := G.2.2 0) M.1 M.2.1 rfl (fun H h => xAt A (by decide) h) (okI_in hi) (by rw [M.2.2.2.1]; exact xa_in A.1) (fun H H' h hz oq he => ?_) hd kk
  obtain ⟨hj, ht, rfl⟩ := A
  exact XW.ast (Nat.le_of_ble_eq_true hj) (by rw [ht]; decide) h hz oq (by rw [ht]; exact he)
theorem jx_bast (M : XC γ cc nL own mn G o B d ret Qc c0 s0) {j m : Nat} {i x : Int32} (A : xAf j 1 m) (hi : okI i m = true) (hd : decode cc pc = .ok (.bastore, 1)) (e : τ1 = xA τ j i.toNatClampNeg (vp_nar .byte x)) (kk : J γ (XW G o B τ1) k n (pc + 1) L st) : J γ (XW G o B τ) k n pc L (.int x :: .int i :: .ref (o + 1 + j) :: st) := by
  subst e
  refine j_bast (t0 := 1) (cA := G.2.2 1) M.1 M.2.1 rfl (fun H h => xAt A (by decide) h) (okI_in hi) (by rw [M.2.2.2.1]; exact xa_in A.1) (fun H H' h hz oq he => ?_) hd kk
  obtain ⟨hj, ht, rfl⟩ := A
  exact XW.ast (Nat.le_of_ble_eq_true hj) (by rw [ht]; decide) h hz oq (by rw [ht]; exact he)
theorem j_aald {P : Heap → Prop} {a m t0 : Nat} {f : Nat → Option Nat} {i : Int32} {ty : FieldType} (C0 : JC γ cc nL own) (hK : gK G (js γ)) {cA : ClassId} (ht : (gTys G)[t0]? = some (cA, ty)) (hty : ty.isReference = true) (hP : ∀ H, P H → hAt G a (.inl (cA, m, .inr (.inr (.inr (.inr f))))) H) (hin : vp_in i m) (hd : decode cc pc = .ok (.aaload, 1))
    (kk : J γ P k n (pc + 1) L (va_rf (f i.toNatClampNeg) :: st)) : J γ P k n pc L (.int i :: .ref a :: st) := by
  intro H locs ls hp hS hl
  have hlt : i.toNatClampNeg < m := Nat.not_le.mp fun q => hin (Or.inr q)
  exact W.aald (v := va_rf (f i.toNatClampNeg)) (ty := ty) C0.1 C0.2.1 (hP H hp) ((hK.2 t0 _ ht).1 m (fun j => va_rf (f j))) hty (fun q => by cases q) (by show ¬ (i < 0 ∨ (arrV _ _ _).slots.size ≤ _); rw [arrV_size]; exact hin) (by show (arrV _ _ _).slots[_]? = _; rw [arrV_read _ _ hlt]) rfl rfl hd (kk H locs ls hp hS hl)
def xRt (t : Nat) : Prop := (¬ t < 3) ∧ ∃ ty : FieldType, ty.isReference = true ∧ ∀ G : gG, (gTys G)[t]? = some (G.2.2 t, ty)
theorem jx_aald (M : XC γ cc nL own mn G o B d ret Qc c0 s0) {j t m a : Nat} {i : Int32} (A : xAf j t m) (h10 : ¬ j = 10) (hT : xRt t) (hi : okI i m = true) (hv : τ.2.1 j i.toNatClampNeg = some a) (hd : decode cc pc = .ok (.aaload, 1)) (kk : J γ (XW G o B τ) k n (pc + 1) L (.ref a :: st)) : J γ (XW G o B τ) k n pc L (.int i :: .ref (o + 1 + j) :: st) := by
  obtain ⟨ht, ty, hr, hg⟩ := hT
  refine j_aald (t0 := t) M.1 M.2.1 (hg G) hr (fun H h => xBt A ht h10 h) (okI_in hi) hd ?_
  rw [hv]
  exact kk
theorem jx_pairs (M : XC γ cc nL own mn G o B d ret Qc c0 s0) {i : Int32} (hi : okI i 8 = true) (hd : decode cc pc = .ok (.aaload, 1)) (kk : J γ (XW G o B τ) k n (pc + 1) L (.ref (o + 1 + (11 + i.toNatClampNeg)) :: st)) : J γ (XW G o B τ) k n pc L (.int i :: .ref (o + 1 + 10) :: st) := by
  refine j_aald (t0 := 9) (cA := G.2.2 9) (f := fun i => some (o + 12 + i)) (m := 8) M.1 M.2.1 rfl rfl (fun H h => h.1 _ _ (xH_a (j := 10) (by decide))) (okI_in hi) hd ?_
  show J γ (XW G o B τ) k n (pc + 1) L (.ref (o + 12 + i.toNatClampNeg) :: st)
  rw [show o + 12 + i.toNatClampNeg = o + 1 + (11 + i.toNatClampNeg) by omega]
  exact kk
theorem j_aast {P P' : Heap → Prop} {a m t0 v : Nat} {f : Nat → Option Nat} {i : Int32} {cs : List Nat} {c : Nat} {V : Nat → Value} (C0 : JC γ cc nL own) (hK : gK G (js γ)) (hN : NW (js γ)) (hE : xEl t0 cs) (hc : c ∈ cs) (hP : ∀ H, P H → hAt G a (.inl (G.2.2 t0, m, .inr (.inr (.inr (.inr f))))) H) (hv : ∀ H, P H → hAt G v (.inr (c, V)) H) (hin : vp_in i m) (hA : jA γ a) (hP' : ∀ H H' : Heap, P H → H'.size = H.size → (∀ q : Nat, q ≠ a → H'[q]? = H[q]?) → hAt G a (.inl (G.2.2 t0, m, .inr (.inr (.inr (.inr (va_up f i.toNatClampNeg (some v))))))) H' → P' H') (hd : decode cc pc = .ok (.aastore, 1))
    (kk : J γ P' k n (pc + 1) L st) : J γ P k n pc L (.ref v :: .int i :: .ref a :: st) := by
  intro H locs ls hp hS hl
  have hlt : i.toNatClampNeg < m := Nat.not_le.mp fun q => hin (Or.inr q)
  have h0 : ¬ i < 0 := fun q => hin (Or.inl q)
  obtain ⟨E, hg, hcs⟩ := hE
  obtain ⟨C, T, N, ty, hcl, hCE⟩ := hcs c hc
  obtain ⟨r', hr', cellV, g1, g2, g3, -⟩ := hv H hp
  have hcls := (hK.1 c _ hcl.1).2
  obtain ⟨kA, comp, k1, k2, k3, -⟩ := (hK.2 t0 _ (hg G)).2
  obtain ⟨kC, hkC, hkind⟩ := hcls.2
  have hasg : (js γ).vm.assignable cellV.cls comp = true ∧ ∃ kc, (js γ).vm.classes[comp]? = some kc := by
    rcases hCE with e | e
    · have hcomp : comp = G.1 c := Option.some.inj (k3.symm.trans (by rw [← e]; exact hcls.1))
      subst hcomp
      exact ⟨by rw [g2]; exact va_assign hcls, kC, hkC⟩
    · obtain ⟨c1, t1, f1, f2, f3⟩ := Cond.castable_spec (hN.2.2.2.1 _ e)
      have e1 : c1 = G.1 c := Option.some.inj (f1.symm.trans hcls.1)
      have e2 : t1 = comp := Option.some.inj (f2.symm.trans k3)
      subst e1; subst e2
      refine ⟨by rw [g2]; exact f3, ?_⟩
      obtain ⟨kx, hkx, -⟩ := Vm.findClass_spec k3
      exact ⟨kx, hkx⟩
  obtain ⟨hinst, kc, hkc⟩ := hasg
  refine W.aast C0.1 C0.2.1 (hP H hp) (fun q h => by cases h) (fun h => by cases h) k1 k2 rfl hkc ⟨h0, by show _ < (arrV _ _ _).slots.size; rw [arrV_size]; exact hlt⟩ g1 (fun q h => by rw [g3] at h; cases h) (by rw [g2]; exact hkC) hinst rfl rfl hd fun H1 e z oq => ?_
  refine kk H1 _ ls (hP' H H1 hp z oq ?_) (hS.put z oq hA) hl
  show H1[a]? = some (vp_cell _ _)
  rw [e]
  rw [vp_cell_q, vp_cell_q, arrV_store]
  congr 2
  funext q
  by_cases hq : q = i.toNatClampNeg
  · subst hq
    simp [updV, va_up, va_rf]
  · simp [updV, va_up, hq]
theorem jx_aast (M : XC γ cc nL own mn G o B d ret Qc c0 s0) {j t m v : Nat} {i : Int32} {cs : List Nat} (A : xAf j t m) (ht : ¬ t < 3) (h10 : ¬ j = 10) (hE : xEl t cs) (hc : isC τ v cs = true) (hi : okI i m = true) (hd : decode cc pc = .ok (.aastore, 1)) (e : τ1 = xR τ j i.toNatClampNeg (some v)) (kk : J γ (XW G o B τ1) k n (pc + 1) L st) : J γ (XW G o B τ) k n pc L (.ref v :: .int i :: .ref (o + 1 + j) :: st) := by
  subst e
  obtain ⟨c, V, h1, h2⟩ := isC_spec hc
  refine j_aast (t0 := t) (cs := cs) M.1 M.2.1 M.2.2.1 hE h2 (fun H h => xBt A ht h10 h) (fun H h => h.at h1) (okI_in hi) (by rw [M.2.2.2.1]; exact xa_in A.1) (fun H H' h hz oq he => ?_) hd kk
  obtain ⟨hj, rfl, rfl⟩ := A
  exact XW.qst (Nat.le_of_ble_eq_true hj) ht h10 h hz oq he
theorem jx_getV (M : XC γ cc nL own mn G o B d ret Qc c0 s0) {idx fk a : Nat} {cs : List Nat} {fty : FieldType} {fin : Bool} {v : Value} (F : xFl own idx cs fk fty fin) (hv : gF τ a cs fk = some v) (hd : decode cc pc = .ok (.getfield idx, 3)) (kk : J γ (XW G o B τ) k n (pc + 3) L (v :: st)) : J γ (XW G o B τ) k n pc L (.ref a :: st) := by
  intro H locs ls hp hS hl
  obtain ⟨c, V, h1, h2, h3⟩ := gF_spec hv
  obtain ⟨ref, name, desc, hlink, hcs⟩ := F
  obtain ⟨C, T, N, ty, hcl, hk, hT, hty⟩ := hcs c h2
  obtain ⟨r, hr1, cell, q1, q2, q3, q4⟩ := hp.at h1
  have hr : r = (C, T, N) := Option.some.inj (hr1.symm.trans hcl.1)
  subst hr
  obtain ⟨hS0, hfc, kC, hkC, hkind⟩ := M.2.1.1 c _ hcl.1
  obtain ⟨cf, kf, fi, f, hi, hsl⟩ := hS0 fk hk
  have hst := (u_facts hfc hkC (u_lays M.1.2.2.2.2.1 hcl.2.1 hk) hi).1
  have hi : (js γ).fieldFound? (T fk).1 (T fk).2.1 (T fk).2.2.1 = some (cf, kf, fi, f) := hi
  rw [hT] at hi
  have hsv : cell.slots[f.slot]? = some v := by rw [hsl, ← h3]; exact q4 fk hk
  rcases hlink with hlink | hlink
  · exact W.getf M.1.1 M.1.2.1 M.1.2.2.2.1 (M.1.2.2.2.2.1 _ hlink) hi hst q1 (by rw [q3]; exact fun h => by cases h) hsv rfl rfl hd (kk H locs ls hp hS hl)
  · exact va_Wgetf M.1.1 M.1.2.1 M.1.2.2.2.1 (va_Nw.use rfl (M.2.2.1.1 _ hlink)) hi hst q1 (by rw [q3]; exact fun h => by cases h) hsv rfl rfl hd (kk H locs ls hp hS hl)
theorem jx_getI (M : XC γ cc nL own mn G o B d ret Qc c0 s0) {idx fk a : Nat} {cs : List Nat} {fty : FieldType} {fin : Bool} {v : Int32} (F : xFl own idx cs fk fty fin) (hv : gI τ a cs fk = some v) (hd : decode cc pc = .ok (.getfield idx, 3)) (kk : J γ (XW G o B τ) k n (pc + 3) L (.int v :: st)) : J γ (XW G o B τ) k n pc L (.ref a :: st) := jx_getV M F (gI_spec hv) hd kk
theorem jx_getQ (M : XC γ cc nL own mn G o B d ret Qc c0 s0) {idx fk a : Nat} {cs : List Nat} {fty : FieldType} {fin : Bool} {v : Option Nat} (F : xFl own idx cs fk fty fin) (hv : gQ τ a cs fk = some v) (hd : decode cc pc = .ok (.getfield idx, 3)) (kk : J γ (XW G o B τ) k n (pc + 3) L (va_rf v :: st)) : J γ (XW G o B τ) k n pc L (.ref a :: st) := jx_getV M F (gQ_spec hv) hd kk
theorem jx_getN (M : XC γ cc nL own mn G o B d ret Qc c0 s0) {idx fk a : Nat} {cs : List Nat} {fty : FieldType} {fin : Bool} {v : Nat} (F : xFl own idx cs fk fty fin) (hv : gN τ a cs fk = some v) (hd : decode cc pc = .ok (.getfield idx, 3)) (kk : J γ (XW G o B τ) k n (pc + 3) L (.ref v :: st)) : J γ (XW G o B τ) k n pc L (.ref a :: st) := jx_getV M F (gN_spec hv) hd kk
theorem jx_putV (M : XC γ cc nL own mn G o B d ret Qc c0 s0) {idx fk a : Nat} {cs : List Nat} {fty : FieldType} {v : Value} (F : xFl own idx cs fk fty false) (hn : narrow fty v = v) (hfit : fits fty v = true) (hv : pF τ a cs fk v = some τ1) (hd : decode cc pc = .ok (.putfield idx, 3)) (kk : J γ (XW G o B τ1) k n (pc + 3) L st) : J γ (XW G o B τ) k n pc L (v :: .ref a :: st) := by
  intro H locs ls hp hS hl
  obtain ⟨c, V, h1, h2, h3⟩ := pF_spec hv
  subst h3
  obtain ⟨ref, name, desc, hlink, hcs⟩ := F
  obtain ⟨C, T, N, ty, hcl, hk, hT, hty⟩ := hcs c h2
  have hap := va_apart (own := own) M.1.2.2.2.2.1 hcl.2.1 ty hcl.2.2.1 hcl.2.2.2 M.2.1 hcl.1
  obtain ⟨r, hr1, cell, q1, q2, q3, q4⟩ := hp.at h1
  have hr : r = (C, T, N) := Option.some.inj (hr1.symm.trans hcl.1)
  subst hr
  obtain ⟨hS0, hfc, kC, hkC, hkind⟩ := M.2.1.1 c _ hcl.1
  obtain ⟨cf, kf, fi, f, hi, hsl⟩ := hS0 fk hk
  have hlay := M.1.2.2.2.2.1 _ (hcl.2.1 _ (u_in_lay hk))
  unfold u_lay at hlay
  rw [if_neg (by rw [hT]; exact Bool.false_ne_true)] at hlay
  have hst := (u_facts hfc hkC (u_lays M.1.2.2.2.2.1 hcl.2.1 hk) hi).1
  have h6 := u_store hfc hkC hkind hlay hi (hcl.2.2.1 fk hk) (by rw [hty]; exact hn) (by rw [hty]; exact hfit)
  have hi : (js γ).fieldFound? (T fk).1 (T fk).2.1 (T fk).2.2.1 = some (cf, kf, fi, f) := hi
  rw [hT] at hi
  have hA : jA γ a := by rw [M.2.2.2.1]; exact Or.inr (hp.2.2.2.2 a _ h1)
  rcases hlink with hlink | hlink
  · refine W.putK M.1.1 M.1.2.1 (f := f) ⟨M.1.2.2.2.1, M.1.2.2.2.2.1 _ hlink, ⟨_, _, _, hi⟩, hst⟩ (by rw [q2]; exact h6) q1 q3 (by rw [hsl]; exact k2_hasslot (q4 fk hk)) rfl rfl hd fun H' e1 e2 e3 => ?_
    rw [hsl] at e1 ⊢
    exact kk H' _ ls (hp.pool h1 e2 e3 ⟨_, hcl.1, _, e1, q2, q3, t_set q4 hap hk v⟩) (hS.put e2 e3 hA) hl
  · refine va_WputK M.1.1 M.1.2.1 (f := f) M.1.2.2.2.1 (va_Nw.use rfl (M.2.2.1.1 _ hlink)) hi hst (by rw [q2]; exact h6) q1 q3 (by rw [hsl]; exact k2_hasslot (q4 fk hk)) rfl rfl hd fun H' e1 e2 e3 => ?_
    rw [hsl] at e1 ⊢
    exact kk H' _ ls (hp.pool h1 e2 e3 ⟨_, hcl.1, _, e1, q2, q3, t_set q4 hap hk v⟩) (hS.put e2 e3 hA) hl
/-- a final field, in its own class's constructor -/
theorem jx_putW (M : XC γ cc nL own "<init>" G o B d ret Qc c0 s0) {idx fk a : Nat} {cs : List Nat} {fty : FieldType} {v : Value} {name desc : String} (hlink : Cond.fieldLink own idx own name desc ∈ lw_all) (F : ∀ c ∈ cs, ∃ (C : String) (T : u_T) (N : Nat) (ty : Nat → FieldType), xCl c C T N ty ∧ fk < N ∧ T fk = (own, name, desc, true) ∧ ty fk = fty) (hn : narrow fty v = v) (hfit : fits fty v = true) (hv : pF τ a cs fk v = some τ1) (hd : decode cc pc = .ok (.putfield idx, 3)) (kk : J γ (XW G o B τ1) k n (pc + 3) L st) : J γ (XW G o B τ) k n pc L (v :: .ref a :: st) := by
  intro H locs ls hp hS hl
  obtain ⟨c, V, h1, h2, h3⟩ := pF_spec hv
  subst h3
  obtain ⟨C, T, N, ty, hcl, hk, hT, hty⟩ := F c h2
  have hap := va_apart (own := own) M.1.2.2.2.2.1 hcl.2.1 ty hcl.2.2.1 hcl.2.2.2 M.2.1 hcl.1
  obtain ⟨r, hr1, cell, q1, q2, q3, q4⟩ := hp.at h1
  have hr : r = (C, T, N) := Option.some.inj (hr1.symm.trans hcl.1)
  subst hr
  obtain ⟨hS0, hfc, kC, hkC, hkind⟩ := M.2.1.1 c _ hcl.1
  obtain ⟨cf, kf, fi, f, hi, hsl⟩ := hS0 fk hk
  have hlay := M.1.2.2.2.2.1 _ (hcl.2.1 _ (u_in_lay hk))
  unfold u_lay at hlay
  rw [if_pos (by rw [hT])] at hlay
  have hst := (u_facts hfc hkC (u_lays M.1.2.2.2.2.1 hcl.2.1 hk) hi).1
  have hcf : (jm γ).cls = cf := by
    obtain ⟨_, _, c', _, _, _, -, -, hf', -, -, -, hown2, -⟩ := Cond.laysFinal_spec hlay
    have e1 : c' = cf := by have := hi.symm.trans hf'; simp at this; exact this.1.symm
    rw [hT] at hown2
    rw [← e1]; exact Option.some.inj (M.1.2.2.2.1.symm.trans hown2)
  have h6 := u_fits hfc hkC hkind (Or.inr hlay) hi (hcl.2.2.1 fk hk) (by rw [hty]; exact hn) (by rw [hty]; exact hfit)
  have hi : (js γ).fieldFound? (T fk).1 (T fk).2.1 (T fk).2.2.1 = some (cf, kf, fi, f) := hi
  rw [hT] at hi
  have hA : jA γ a := by rw [M.2.2.2.1]; exact Or.inr (hp.2.2.2.2 a _ h1)
  refine W.putFinK M.1.1 M.1.2.1 M.1.2.2.2.1 (M.1.2.2.2.2.1 _ hlink) hi hst hcf M.2.2.2.2.2.2.2.1 (by rw [q2]; exact h6) q1 q3 (by rw [hsl]; exact k2_hasslot (q4 fk hk)) rfl rfl hd fun H' e1 e2 e3 => ?_
  rw [hsl] at e1 ⊢
  exact kk H' _ ls (hp.pool h1 e2 e3 ⟨_, hcl.1, _, e1, q2, q3, t_set q4 hap hk v⟩) (hS.put e2 e3 hA) hl
end JX
