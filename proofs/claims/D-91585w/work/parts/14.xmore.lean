set_option maxRecDepth 100000
theorem q144 : (Jvm.Cond.arrayOver (Jvm.ClassFile.FieldType.object "AshCity$Place")) ∈ lw_tbl := lw_at lw_m1 43 rfl
theorem q146 : (Jvm.Cond.arrayOver (Jvm.ClassFile.FieldType.object "AshCity$Dig")) ∈ lw_tbl := lw_at lw_m1 45 rfl
theorem q148 : (Jvm.Cond.arrayOver (Jvm.ClassFile.FieldType.object "AshCity$Meaning")) ∈ lw_tbl := lw_at lw_m1 47 rfl
theorem q150 : (Jvm.Cond.arrayOver (Jvm.ClassFile.FieldType.object "AshCity$Rules")) ∈ lw_tbl := lw_at lw_m1 49 rfl
theorem q152 : (Jvm.Cond.arrayOver (Jvm.ClassFile.FieldType.object "AshCity$Find")) ∈ lw_tbl := lw_at lw_m1 51 rfl
theorem q154 : (Jvm.Cond.arrayOver (Jvm.ClassFile.FieldType.object "AshCity$Thing")) ∈ lw_tbl := lw_at lw_m1 53 rfl
theorem q156 : (Jvm.Cond.arrayOver (Jvm.ClassFile.FieldType.array Jvm.ClassFile.FieldType.int)) ∈ lw_tbl := lw_at lw_m1 55 rfl
theorem q158 : (Jvm.Cond.arrayOver (Jvm.ClassFile.FieldType.object "AshCity$Wall")) ∈ lw_tbl := lw_at lw_m1 57 rfl
theorem q160 : (Jvm.Cond.arrayOver (Jvm.ClassFile.FieldType.object "AshCity$Drawing")) ∈ lw_tbl := lw_at lw_m1 59 rfl
theorem q162 : (Jvm.Cond.arrayOver (Jvm.ClassFile.FieldType.object "AshCity$Sign")) ∈ lw_tbl := lw_at lw_m1 61 rfl
theorem q164 : (Jvm.Cond.arrayOver (Jvm.ClassFile.FieldType.object "AshCity$Work")) ∈ lw_tbl := lw_at lw_m1 63 rfl
theorem q304 : (Jvm.Cond.arrayClass Jvm.ClassFile.FieldType.int) ∈ lw_all := lw_g (lw_at lw_m1 203 rfl) rfl
theorem q305 : (Jvm.Cond.arrayClass Jvm.ClassFile.FieldType.byte) ∈ lw_all := lw_g (lw_at lw_m1 204 rfl) rfl
theorem q588 : (Jvm.Cond.arrayOver (Jvm.ClassFile.FieldType.object "AshCity$Clause")) ∈ lw_tbl := lw_at lw_m3 7 rfl
theorem q623 : (Jvm.Cond.arrayClass Jvm.ClassFile.FieldType.boolean) ∈ lw_all := lw_g (lw_at lw_m3 42 rfl) rfl
theorem ra_int (U : State) (cA : ClassId) (h : va_RA U cA .int) : U.vm.findClass ("[" ++ FieldType.toString .int) = some cA := h
theorem ra_byte (U : State) (cA : ClassId) (h : va_RA U cA .byte) : U.vm.findClass ("[" ++ FieldType.toString .byte) = some cA := h
theorem ra_boolean (U : State) (cA : ClassId) (h : va_RA U cA .boolean) : U.vm.findClass ("[" ++ FieldType.toString .boolean) = some cA := h
/-! AshCity: costs, nulls, virtual calls, texts -/
theorem kn_step {k n c s c0 s0 a b c1 s1 : Nat} (h : k + c ≤ c0 ∧ n + s ≤ s0) (hc : c = a + c1) (hs : s = b + s1) : k + a + c1 ≤ c0 ∧ n + b + s1 ≤ s0 := by omega
theorem kn_le {k n c0 s0 a b c1 s1 : Nat} (h : k + a + c1 ≤ c0 ∧ n + b + s1 ≤ s0) : k + a ≤ c0 ∧ n + b ≤ s0 := by omega
theorem kn_le0 {k n c0 s0 c1 s1 : Nat} (h : k + c1 ≤ c0 ∧ n + s1 ≤ s0) : k ≤ c0 ∧ n ≤ s0 := by omega
theorem nar_rf (C : String) (q : Option Nat) : narrow (.object C) (va_rf q) = va_rf q := by cases q <;> rfl
theorem fit_rf (C : String) (q : Option Nat) : fits (.object C) (va_rf q) = true := by cases q <;> rfl
theorem okB_fit {v : Int32} (h : okB v = true) : fits .boolean (.int v) = true := by
  unfold okB at h
  rw [Bool.or_eq_true] at h
  rcases h with h | h
  · rw [of_decide_eq_true h]; rfl
  · rw [of_decide_eq_true h]; rfl
theorem cat_rf (q : Option Nat) : (va_rf q).category = 1 := by cases q <;> rfl
theorem kl_0 : Int64.ofNat ((0 : Fin 2) : Nat) = 0 := by decide
theorem kl_1 : Int64.ofNat ((1 : Fin 2) : Nat) = 1 := by decide
section XMORE
variable {γ : jG} {P : Heap → Prop} {k n pc nL : Nat} {L : List (Nat × Value)} {st : List Value} {cc : ByteArray} {own mn : String} {G : gG} {o B d c0 s0 c s : Nat} {ret : Option FieldType} {Qc : Array Value → State → Outcome → State → Prop} {τ τ1 τr : XS}
theorem XC.room (M : XC γ cc nL own mn G o B d ret Qc c0 s0) (h : 1 ≤ d) : 1 ≤ (jR γ).frames ∧ 40 ≤ (jR γ).locals := by
  rw [M.2.2.2.2.1]
  exact ⟨h, by show 40 ≤ 60 * d; omega⟩
theorem j_st {st' : List Value} (e : st = st') (kk : J γ P k n pc L st') : J γ P k n pc L st := by subst e; exact kk
theorem j_topl {x v : Int64} (e : v = x) (kk : J γ P k n pc L (.long v :: st)) : J γ P k n pc L (.long x :: st) := e ▸ kk
theorem jx_iretF {w v : Int32} (M : XC γ cc nL own mn G o B d (some .int) (xQi G o B v τr) c0 s0) (hd : decode cc pc = .ok (.ireturn, 1)) (hf : some (w, τ, 0, 0) = some (v, τr, c, s)) (hkn : k + c ≤ c0 ∧ n + s ≤ s0) : J γ (XW G o B τ) k n pc L [.int w] := by
  cases hf
  exact jx_iret M hd rfl rfl (kn_le0 hkn)
theorem jx_zretF {w v : Int32} (M : XC γ cc nL own mn G o B d (some .boolean) (xQi G o B v τr) c0 s0) (hd : decode cc pc = .ok (.ireturn, 1)) (hb : okB w = true) (hf : some (w, τ, 0, 0) = some (v, τr, c, s)) (hkn : k + c ≤ c0 ∧ n + s ≤ s0) : J γ (XW G o B τ) k n pc L [.int w] := by
  cases hf
  exact jx_zret M hd hb rfl rfl (kn_le0 hkn)
theorem jx_vretF {w v : Int32} (M : XC γ cc nL own mn G o B d none (xQv G o B v τr) c0 s0) (hd : decode cc pc = .ok (.return_, 1)) (hf : some (w, τ, 0, 0) = some (v, τr, c, s)) (hkn : k + c ≤ c0 ∧ n + s ≤ s0) : J γ (XW G o B τ) k n pc L [] := by
  cases hf
  exact jx_vret M hd rfl (kn_le0 hkn)
theorem jx_aretF {w v : Option Nat} {C : String} (M : XC γ cc nL own mn G o B d (some (.object C)) (xQq G o B v τr) c0 s0) (hd : decode cc pc = .ok (.areturn, 1)) (hf : some (w, τ, 0, 0) = some (v, τr, c, s)) (hkn : k + c ≤ c0 ∧ n + s ≤ s0) : J γ (XW G o B τ) k n pc L [va_rf w] := by
  cases hf
  exact jx_aret M hd rfl rfl (kn_le0 hkn)
theorem x_runW {idx ci b mL na d' mc ms : Nat} {C : String} {y : MethodName} {cb : ByteArray} {rt : Option FieldType} {As rest : List Value} {Qy : Array Value → State → Outcome → State → Prop} (M : XC γ cc nL own mn G o B d ret Qc c0 s0) (cw : xCw own idx ci C y cb mL rt na) (hM : MetX (jl γ) G o B y cb mL rt d' (.ref b :: As) τ Qy mc ms) (hb : isC τ b [ci] = true) (hdd : d' < d) (hst : st = As.reverse ++ .ref b :: rest) (hna : As.length = na) (hrm : Nat.ble ((rest.map fun v => v.category).sum) 8 = true) (hd : decode cc pc = .ok (.invokevirtual idx, 3)) (hkn : k + mc ≤ c0 ∧ n + ms ≤ s0) : XRun γ (XW G o B τ) k n mc ms pc L st rest (Qy (Value.ref b :: As).toArray) (xa o B) := by
  obtain ⟨c, V, h1, h2⟩ := isC_spec hb
  cases List.mem_singleton.mp h2
  exact x_runV (V := V) M cw hM (fun H h => h.at h1) hdd hst hna hrm hd hkn
/-- a virtual call's ways: the receiver's classes, the method that runs -/
def MetV (l : Launch) (G : gG) (o B d : Nat) (rt : Option FieldType) (alts : List (List Nat × MethodName × ByteArray × Nat)) (b : Nat) (As : List Value) (τ : XS) (r : Int32 × XS × Nat × Nat) : Prop :=
  ∃ (i : Nat) (x : List Nat × MethodName × ByteArray × Nat), alts[i]? = some x ∧ isC τ b x.1 = true ∧ MetX l G o B x.2.1 x.2.2.1 x.2.2.2 rt d (.ref b :: As) τ (xQi G o B r.1 r.2.1) r.2.2.1 r.2.2.2
def xCV (own : String) (idx : Nat) (owner : String) (x : MethodName) (rt : Option FieldType) (na : Nat) (alts : List (List Nat × MethodName × ByteArray × Nat)) : Prop := ∀ z ∈ alts, xCU own idx z.1 owner x z.2.1 z.2.2.1 z.2.2.2 rt na
theorem x_runD {idx b na d' : Nat} {owner : String} {x : MethodName} {rt : Option FieldType} {alts : List (List Nat × MethodName × ByteArray × Nat)} {As rest : List Value} {r : Int32 × XS × Nat × Nat} (M : XC γ cc nL own mn G o B d ret Qc c0 s0) (cw : xCV own idx owner x rt na alts) (hM : MetV (jl γ) G o B d' rt alts b As τ r) (hdd : d' < d) (hst : st = As.reverse ++ .ref b :: rest) (hna : As.length = na) (hrm : Nat.ble ((rest.map fun v => v.category).sum) 8 = true) (hd : decode cc pc = .ok (.invokevirtual idx, 3)) (hkn : k + r.2.2.1 ≤ c0 ∧ n + r.2.2.2 ≤ s0) : XRun γ (XW G o B τ) k n r.2.2.1 r.2.2.2 pc L st rest (xQi G o B r.1 r.2.1 (Value.ref b :: As).toArray) (xa o B) := by
  obtain ⟨i, z, h1, h2, h3⟩ := hM
  exact x_runU M (cw z (List.mem_of_getElem? h1)) h3 h2 hdd hst hna hrm hd hkn
end XMORE
section XCUF
variable {R : Room} {s : State} {args : Array Value} {own C owner : String} {idx mL na mc ms : Nat} {x y : MethodName} {cb : ByteArray} {rt : Option FieldType} {rm : Room}
theorem xcu_ws (w1 : Cond.methodLink own idx x ∈ lw_all) (w2 : Cond.sameMethod x.cls owner x.name x.desc ∈ lw_all) (w3 : Cond.selects C x y ∈ lw_all) (w4 : Cond.instanceMethod y ∈ lw_all) (w5 : Cond.initialized y.cls ∈ lw_all) (w6 : Cond.code y cb mL rt ∈ lw_all) : GoodIn lw_all (va_wsU own idx C owner x y (ws_ y cb mL rt)) := by
  unfold va_wsU
  refine lw_app ?_ (lw_meth w6)
  intro w hw
  simp only [List.mem_cons, List.not_mem_nil, or_false] at hw
  rcases hw with rfl | rfl | rfl | rfl | rfl
  · exact w1
  · exact w2
  · exact w3
  · exact w4
  · exact w5
theorem xcu_inh (hyx : y = ⟨owner, x.name, x.desc⟩) (w1 : Cond.methodLink own idx x ∈ lw_all) (w2 : Cond.sameMethod x.cls owner x.name x.desc ∈ lw_all) (w3 : Cond.selects C x y ∈ lw_all) (w4 : Cond.instanceMethod y ∈ lw_all) (w5 : Cond.initialized y.cls ∈ lw_all) (w6 : Cond.code y cb mL rt ∈ lw_all) (n1 : owner ≠ "java/lang/invoke/MethodHandle") (n2 : owner ≠ "java/lang/invoke/VarHandle") (n3 : (parseMethodDescriptor x.desc).map (fun d => d.parameters.length) = some na) (hw : ∀ w ∈ lw_all, w.before args s = true) (_hN : NW s) (h1 : rm.cells = mc) (h2 : rm.slots = ms) (h3 : rm.frames + 1 ≤ R.frames ∧ 8 + (mL + 11) + rm.locals ≤ R.locals) : va_CU R s args own C owner idx x y cb mL rt (ws_ y cb mL rt) rm mc ms na :=
  va_cwU na hw (xcu_ws w1 w2 w3 w4 w5 w6) rfl h1 h2 hyx ⟨n1, n2, n3⟩ h3
theorem xcu_gen (hdc : va_Decl s ⟨owner, x.name, x.desc⟩) (w1 : Cond.methodLink own idx x ∈ lw_all) (w2 : Cond.sameMethod x.cls owner x.name x.desc ∈ lw_all) (w3 : Cond.selects C x y ∈ lw_all) (w4 : Cond.instanceMethod y ∈ lw_all) (w5 : Cond.initialized y.cls ∈ lw_all) (w6 : Cond.code y cb mL rt ∈ lw_all) (n1 : owner ≠ "java/lang/invoke/MethodHandle") (n2 : owner ≠ "java/lang/invoke/VarHandle") (n3 : (parseMethodDescriptor x.desc).map (fun d => d.parameters.length) = some na) (hw : ∀ w ∈ lw_all, w.before args s = true) (h1 : rm.cells = mc) (h2 : rm.slots = ms) (h3 : rm.frames + 1 ≤ R.frames ∧ 8 + (mL + 11) + rm.locals ≤ R.locals) : va_CU R s args own C owner idx x y cb mL rt (ws_ y cb mL rt) rm mc ms na := by
  have hT := xcu_ws w1 w2 w3 w4 w5 w6
  have hG : GoodIn lw_all (ws_ y cb mL rt) := lw_meth w6
  have hc : Cond.code y cb mL rt ∈ ws_ y cb mL rt := List.mem_cons_self
  refine ⟨⟨h1, h2, h3.1, h3.2, pay_in hw hG, hc⟩, hw _ w6, hw _ w5, ⟨n1, n2⟩, fun sig h => ?_, hw _ w1, hw _ w2, hdc, hw _ w3, hw _ w4⟩
  rw [h] at n3
  exact (Option.some.inj n3).symm
theorem xcu_abs (hz : Cond.declares ⟨owner, x.name, x.desc⟩ ∈ nwD) (w1 : Cond.methodLink own idx x ∈ lw_all) (w2 : Cond.sameMethod x.cls owner x.name x.desc ∈ lw_all) (w3 : Cond.selects C x y ∈ lw_all) (w4 : Cond.instanceMethod y ∈ lw_all) (w5 : Cond.initialized y.cls ∈ lw_all) (w6 : Cond.code y cb mL rt ∈ lw_all) (n1 : owner ≠ "java/lang/invoke/MethodHandle") (n2 : owner ≠ "java/lang/invoke/VarHandle") (n3 : (parseMethodDescriptor x.desc).map (fun d => d.parameters.length) = some na) (hw : ∀ w ∈ lw_all, w.before args s = true) (hN : NW s) (h1 : rm.cells = mc) (h2 : rm.slots = ms) (h3 : rm.frames + 1 ≤ R.frames ∧ 8 + (mL + 11) + rm.locals ≤ R.locals) : va_CU R s args own C owner idx x y cb mL rt (ws_ y cb mL rt) rm mc ms na :=
  xcu_gen (va_Decl.abs (hN.2.2.1 _ hz)) w1 w2 w3 w4 w5 w6 n1 n2 n3 hw h1 h2 h3
theorem xcu_ovr {b0 : ByteArray} {m0 : Nat} {r0 : Option FieldType} (h0 : Cond.code ⟨owner, x.name, x.desc⟩ b0 m0 r0 ∈ lw_all) (hi : Cond.instanceMethod ⟨owner, x.name, x.desc⟩ ∈ lw_all) (w1 : Cond.methodLink own idx x ∈ lw_all) (w2 : Cond.sameMethod x.cls owner x.name x.desc ∈ lw_all) (w3 : Cond.selects C x y ∈ lw_all) (w4 : Cond.instanceMethod y ∈ lw_all) (w5 : Cond.initialized y.cls ∈ lw_all) (w6 : Cond.code y cb mL rt ∈ lw_all) (n1 : owner ≠ "java/lang/invoke/MethodHandle") (n2 : owner ≠ "java/lang/invoke/VarHandle") (n3 : (parseMethodDescriptor x.desc).map (fun d => d.parameters.length) = some na) (hw : ∀ w ∈ lw_all, w.before args s = true) (_hN : NW s) (h1 : rm.cells = mc) (h2 : rm.slots = ms) (h3 : rm.frames + 1 ≤ R.frames ∧ 8 + (mL + 11) + rm.locals ≤ R.locals) : va_CU R s args own C owner idx x y cb mL rt (ws_ y cb mL rt) rm mc ms na :=
  xcu_gen (va_Decl.of (hw _ hi) (hw _ h0)) w1 w2 w3 w4 w5 w6 n1 n2 n3 hw h1 h2 h3
end XCUF
/-! texts: the class's two String constants -/
def tby : List (List Int32) := [[110, 97, 118, 102, 120], [119, 104, 107, 109, 112]]
def tb (i j : Nat) : Int32 := (tby.getD i []).getD j 0
/-- String.indexOf at a constant -/
def tIdx (i : Nat) (c : Int32) : Int32 := if c < 0 then -1 else if 255 < c then -1 else if tb i 0 = c.toInt8.toInt32 then 0 else if tb i 1 = c.toInt8.toInt32 then 1 else if tb i 2 = c.toInt8.toInt32 then 2 else if tb i 3 = c.toInt8.toInt32 then 3 else if tb i 4 = c.toInt8.toInt32 then 4 else -1
def TS (A : Nat → Prop) (i a : Nat) (U : State) : Prop := i < 2 ∧ ∃ adK adV : Nat → Nat, vk_S 2 [5, 5] tby adK adV A U U.heap ∧ va_Z "java/lang/String" "COMPACT_STRINGS" "Z" (.int 1) A U U.heap ∧ adK i = a
section XTX
variable {γ : jG} {P : Heap → Prop} {k n pc nL : Nat} {L : List (Nat × Value)} {st : List Value} {cc : ByteArray} {mn : String} {G : gG} {o B d c0 s0 : Nat} {ret : Option FieldType} {Qc : Array Value → State → Outcome → State → Prop}
theorem jx_ldcT0 (M : XC γ cc nL RX9 mn G o B d ret Qc c0 s0) (hd : decode cc pc = .ok (.ldc 132, 2)) (kk : ∀ q, TS (xa o B) 0 q (js γ) → J γ P k n (pc + 2) L (.ref q :: st)) : J γ P k n pc L st := by
  obtain ⟨adK, adV, h1, h2, h3, h4⟩ := M.2.2.2.2.2.2.2.2
  intro H locs ls hP hS hl
  exact va_ldcS M.1.1 M.1.2.1 M.1.2.2.2.1 h2 hd (kk _ ⟨by decide, adK, adV, h1, h4, rfl⟩ H locs ls hP hS hl)
theorem jx_ldcT1 (M : XC γ cc nL RX9 mn G o B d ret Qc c0 s0) (hd : decode cc pc = .ok (.ldc 79, 2)) (kk : ∀ q, TS (xa o B) 1 q (js γ) → J γ P k n (pc + 2) L (.ref q :: st)) : J γ P k n pc L st := by
  obtain ⟨adK, adV, h1, h2, h3, h4⟩ := M.2.2.2.2.2.2.2.2
  intro H locs ls hP hS hl
  exact va_ldcS M.1.1 M.1.2.1 M.1.2.2.2.1 h3 hd (kk _ ⟨by decide, adK, adV, h1, h4, rfl⟩ H locs ls hP hS hl)
end XTX
/-! Math.max, Math.min -/
theorem q671m : Cond.code Lib.Math.max.name Lib.Math.max.code 2 (some .int) ∈ lw_all := q671
theorem q674m : Cond.code Lib.Math.min.name Lib.Math.min.code 2 (some .int) ∈ lw_all := q674
section XMM
variable {γ : jG} {P : Heap → Prop} {k n pc nL : Nat} {L : List (Nat × Value)} {st : List Value} {cc : ByteArray} {own : String}
theorem j_max (C : JC γ cc nL own) {idx : Nat} {x y : Int32} (hq : Cond.methodLink own idx Lib.Math.max.name ∈ lw_all) (hR : 1 ≤ (jR γ).frames ∧ 40 ≤ (jR γ).locals) (hkn : k ≤ (jR γ).cells ∧ n ≤ (jR γ).slots) (hrm : Nat.ble ((st.map fun v => v.category).sum) 8 = true) (hd : decode cc pc = .ok (.invokestatic idx, 3)) (kk : J γ P k n (pc + 3) L (.int (if x < y then y else x) :: st)) : J γ P k n pc L (.int y :: .int x :: st) := fun H locs ls hP hS hl =>
  va_mmax C.1 C.2.1 hl.1.symm C.2.2.2.1 (C.2.2.2.2.1 _ hq) (C.2.2.2.2.1 _ q670) (C.2.2.2.2.1 _ q114) (C.2.2.2.2.1 _ q671m) hR.1 (by have h := Nat.le_of_ble_eq_true hrm; have h2 := hR.2; omega) hkn.1 hkn.2 hd (kk H locs ls hP hS hl)
theorem j_min (C : JC γ cc nL own) {idx : Nat} {x y : Int32} (hq : Cond.methodLink own idx Lib.Math.min.name ∈ lw_all) (hR : 1 ≤ (jR γ).frames ∧ 40 ≤ (jR γ).locals) (hkn : k ≤ (jR γ).cells ∧ n ≤ (jR γ).slots) (hrm : Nat.ble ((st.map fun v => v.category).sum) 8 = true) (hd : decode cc pc = .ok (.invokestatic idx, 3)) (kk : J γ P k n (pc + 3) L (.int (if y < x then y else x) :: st)) : J γ P k n pc L (.int y :: .int x :: st) := fun H locs ls hP hS hl =>
  va_mmin C.1 C.2.1 hl.1.symm C.2.2.2.1 (C.2.2.2.2.1 _ hq) (C.2.2.2.2.1 _ q673) (C.2.2.2.2.1 _ q114) (C.2.2.2.2.1 _ q674m) hR.1 (by have h := Nat.le_of_ble_eq_true hrm; have h2 := hR.2; omega) hkn.1 hkn.2 hd (kk H locs ls hP hS hl)
end XMM
