set_option maxRecDepth 100000
/-! JDK: String.indexOf at the class's two constants -/
def MetT (l : Launch) (y : MethodName) (cc : ByteArray) (nL : Nat) (ret : Option FieldType) (d : Nat) (as : List Value) (T : State → Prop) (r : Int32) : Prop := Met l y (ws_ y cc nL ret) (rmM d) (va_Pc as T) (vp_Si (fun v => v = r)) 0 0 (fun _ => False)
theorem metT_of {l : Launch} {y : MethodName} {cc : ByteArray} {nL d : Nat} {ret : Option FieldType} {as : List Value} {T : State → Prop} {r : Int32} {own : String} (hpl : plainName y.cls = true) (hcls : y.cls = own) (hlen : Nat.ble (lg_sl as).length nL = true)
    (body : ∀ γ : jG, jl γ = l → SC γ cc nL own d ret r → T (js γ) → J γ (sP γ) 0 0 0 (lv_args 0 as) []) : MetT l y cc nL ret d as T r := by
  refine Met.ofW (cc := cc) (maxL := nL) (ret := ret) hpl rfl ?_
  intro p e s m args below meth c s₁ B hml hv
  obtain ⟨rfl, hT⟩ := hv
  have hts := atoms_spec (ws := ws_ y cc nL ret) B.pre
  have hts : ∀ w ∈ lw_all, w.before _ s = true := fun w h => hts w (List.mem_cons_of_mem _ h)
  have hown : s.vm.findClass own = some m.cls := by rw [← hcls]; exact findClass_of_methodNamed B.named
  have hl := lv_entry as (n := nL) (Nat.le_of_ble_eq_true hlen)
  rw [lg_entry_eq]
  refine body ((p, l, e, _, s), (m, _, below, meth, c), (fun _ => False), _) rfl ⟨⟨B.exec, B.bytes, hml, hown, hts, B.notSynchronized⟩, rfl, B.returns, rfl, rfl⟩ hT s.heap [] _ rfl va_S.rf ?_
  show lv_has _ c.maxLocals _
  rw [hml]
  exact hl
def Tgo (T : State → Prop) : Prop := (∀ s U : State, s.WarmedH U.vm → U.heap = s.heap → T s → T U) ∧ ∀ s U : State, U.vm = s.vm → U.heap = s.heap → T s → T U
def TB (A : Nat → Prop) (i b : Nat) (U : State) : Prop := va_T .byte b 5 (fun j => .int (tb i j)) A U U.heap
theorem TB_go {A : Nat → Prop} {i b : Nat} : Tgo (TB A i b) := by
  refine ⟨fun s U hW hh h => ?_, fun s U hv hh h => ?_⟩
  · unfold TB at h ⊢
    rw [hh]
    exact h.moved hW.alike
  · unfold TB at h ⊢
    rw [hh]
    exact h.moved (by rw [hv]; exact Vm.Alike.refl _)
theorem TS.kept {A : Nat → Prop} {i a : Nat} {s U : State} (hW : s.WarmedH U.vm) (hq : ∀ a : Nat, a < s.heap.size → ¬ A a → U.heap[a]? = s.heap[a]?) (h : TS A i a s) : TS A i a U := by
  obtain ⟨hi, adK, adV, h1, h2, h3⟩ := h
  exact ⟨hi, adK, adV, (h1.kept hq).moved hW.alike, (h2.kept hq).moved hW.alike, h3⟩
theorem TS_go {A : Nat → Prop} {i a : Nat} : Tgo (TS A i a) := by
  refine ⟨fun s U hW hh h => h.kept hW (fun q _ _ => by rw [hh]), fun s U hv hh h => ?_⟩
  obtain ⟨hi, adK, adV, h1, h2, h3⟩ := h
  have ha : s.vm.Alike U.vm := by rw [hv]; exact Vm.Alike.refl _
  exact ⟨hi, adK, adV, by rw [hh]; exact h1.moved ha, by rw [hh]; exact h2.moved ha, h3⟩
theorem tby_len {i : Nat} (hi : i < 2) : ([5, 5] : List Nat).getD i 0 = 5 := by
  match i, hi with
  | 0, _ => rfl
  | 1, _ => rfl
section XJDK
variable {γ : jG} {pc nL : Nat} {L : List (Nat × Value)} {st : List Value} {cc : ByteArray} {own : String} {d : Nat} {ret : Option FieldType} {r : Int32} {A : Nat → Prop} {i a : Nat}
theorem jt_S (M : SC γ cc nL own d ret r) {H : Heap} {locs : List Loc} (hS : va_S (jA γ) (js γ).heap H locs) : va_S (fun _ => False) (js γ).heap H locs := by rw [← M.2.2.2.2]; exact hS
theorem jt_gets (M : SC γ cc nL RJ0 d ret r) (hT : TS A i a (js γ)) (hd : decode cc pc = .ok (.getstatic 38, 3)) (kk : J γ (sP γ) 0 0 (pc + 3) L (.int 1 :: st)) : J γ (sP γ) 0 0 pc L st := by
  intro H locs ls hp hS hl
  obtain ⟨hi, adK, adV, h1, h2, h3⟩ := hT
  exact va_gets M.1.1 M.1.2.1 (h2.narrow (fun q (h : False) => h.elim)) (jt_S M hS) M.1.2.2.2.1 (M.1.2.2.2.2.1 _ q653) (fun x h => h) hd (kk H locs ls hp hS hl)
theorem jt_coder (M : SC γ cc nL RJ0 d ret r) (hT : TS A i a (js γ)) (hd : decode cc pc = .ok (.getfield 15, 3)) (kk : J γ (sP γ) 0 0 (pc + 3) L (.int 0 :: st)) : J γ (sP γ) 0 0 pc L (.ref a :: st) := by
  intro H locs ls hp hS hl
  obtain ⟨hi, adK, adV, h1, h2, rfl⟩ := hT
  exact vk_getf M.1.1 M.1.2.1 ((h1.1 i hi).2.1.narrow (fun q (h : False) => h.elim)) (jt_S M hS) M.1.2.2.2.1 (M.1.2.2.2.2.1 _ q2119) (fun x h => h) hd (kk H locs ls hp hS hl)
theorem jt_value (M : SC γ cc nL RJ0 d ret r) (hT : TS A i a (js γ)) (hd : decode cc pc = .ok (.getfield 9, 3)) (kk : ∀ b : Nat, TB A i b (js γ) → J γ (sP γ) 0 0 (pc + 3) L (.ref b :: st)) : J γ (sP γ) 0 0 pc L (.ref a :: st) := by
  intro H locs ls hp hS hl
  obtain ⟨hi, adK, adV, h1, h2, rfl⟩ := hT
  refine vk_getf M.1.1 M.1.2.1 ((h1.1 i hi).2.2.1.narrow (fun q (h : False) => h.elim)) (jt_S M hS) M.1.2.2.2.1 (M.1.2.2.2.2.1 _ q2120) (fun x h => h) hd (kk (adV i) ?_ H locs ls hp hS hl)
  have h5 := (h1.1 i hi).2.2.2
  rw [tby_len hi] at h5
  exact h5
theorem jt_len (M : SC γ cc nL own d ret r) {b : Nat} (hT : TB A i b (js γ)) (hd : decode cc pc = .ok (.arraylength, 1)) (kk : J γ (sP γ) 0 0 (pc + 1) L (.int 5 :: st)) : J γ (sP γ) 0 0 pc L (.ref b :: st) := by
  intro H locs ls hp hS hl
  have h5 : va_T .byte b 5 (fun j => .int (tb i j)) (fun _ => False) (js γ) (js γ).heap := va_T.narrow hT (fun q (h : False) => h.elim)
  exact va_tlen M.1.1 M.1.2.1 h5 (jt_S M hS) rfl hd (kk H locs ls hp hS hl)
theorem jt_bald (M : SC γ cc nL own d ret r) {b : Nat} {x : Int32} (hT : TB A i b (js γ)) (hin : vp_in x 5) (hd : decode cc pc = .ok (.baload, 1)) (kk : J γ (sP γ) 0 0 (pc + 1) L (.int (tb i x.toNatClampNeg) :: st)) : J γ (sP γ) 0 0 pc L (.int x :: .ref b :: st) := by
  intro H locs ls hp hS hl
  have h5 : va_T .byte b 5 (fun j => .int (tb i j)) (fun _ => False) (js γ) (js γ).heap := va_T.narrow hT (fun q (h : False) => h.elim)
  exact va_tb M.1.1 M.1.2.1 h5 (jt_S M hS) hin rfl hd (kk H locs ls hp hS hl)
theorem TS.recv {U : State} (hT : TS A i a U) : ∃ cell : Cell, U.heap[a]? = some cell ∧ cell.vm.isStatics = false ∧ U.vm.findClass RJ0 = some cell.cls := by
  obtain ⟨hi, adK, adV, h1, h2, rfl⟩ := hT
  obtain ⟨cell, q1, q2, q3, -⟩ := (h1.1 i hi).1
  exact ⟨cell, q1, q2, q3⟩
theorem jt_callV {idx mL na d' b : Nat} {y : MethodName} {cb : ByteArray} {rt : Option FieldType} {As rest : List Value} {T : State → Prop} {w : Int32} (M : SC γ cc nL own d ret r) (hT : T (js γ)) (hg : Tgo T) (hrc : ∃ cell : Cell, (js γ).heap[b]? = some cell ∧ cell.vm.isStatics = false ∧ (js γ).vm.findClass RJ0 = some cell.cls) (cw : GoodIn lw_all (wsV own idx RJ0 y (ws_ y cb mL rt))) (cw2 : y.cls = RJ0 ∧ y.cls ≠ "java/lang/invoke/MethodHandle" ∧ y.cls ≠ "java/lang/invoke/VarHandle" ∧ (parseMethodDescriptor y.desc).map (fun d => d.parameters.length) = some na) (hmL : mL ≤ 41) (hM : MetT (jl γ) y cb mL rt d' (.ref b :: As) T w) (hdd : d' < d) (hst : st = As.reverse ++ .ref b :: rest) (hna : As.length = na) (hrm : Nat.ble ((rest.map fun v => v.category).sum) 8 = true) (hd : decode cc pc = .ok (.invokevirtual idx, 3)) (kk : J γ (sP γ) 0 0 (pc + 3) L (.int w :: rest)) : J γ (sP γ) 0 0 pc L st := by
  intro H locs ls hp hS hl
  obtain ⟨hC, hR, hr, hQ, hA⟩ := M
  have hp' : H = (js γ).heap := hp
  refine vp_callSi (va_Run.run (va_runV (As := As) (rest := rest) ⟨hC.1, hC.2.1, hC.2.2.1, hC.2.2.2.1, hC.2.2.2.2.1⟩ hM (cwV na hC.2.2.2.2.1 cw rfl rfl rfl cw2 ⟨by rw [hR]; exact hdd, by rw [hR]; show 8 + (mL + 11) + 60 * d' ≤ 60 * d; omega⟩) ⟨fun a U g mk q => ⟨q.1, hg.2 U _ rfl rfl q.2⟩, by rw [hp']; exact hrc, fun U hU hW => ⟨rfl, hg.1 _ _ hW (hU.trans hp') hT⟩⟩ rfl hna (by rw [← hC.2.2.1]; exact hl.1) hst (lv_room (Nat.le_of_ble_eq_true hrm)) hd ⟨Nat.zero_le _, Nat.zero_le _⟩)) (fun r1 hr1 => ?_)
  subst hr1
  exact kk H locs ls hp hS hl
theorem jt_callS {idx mL na d' : Nat} {y : MethodName} {cb : ByteArray} {rt : Option FieldType} {As rest : List Value} {T : State → Prop} {w : Int32} (M : SC γ cc nL own d ret r) (hT : T (js γ)) (hg : Tgo T) (cw : sCw own idx y cb mL rt na) (hM : MetT (jl γ) y cb mL rt d' As T w) (hdd : d' < d) (hst : st = As.reverse ++ rest) (hna : As.length = na) (hrm : Nat.ble ((rest.map fun v => v.category).sum) 8 = true) (hd : decode cc pc = .ok (.invokestatic idx, 3)) (kk : J γ (sP γ) 0 0 (pc + 3) L (.int w :: rest)) : J γ (sP γ) 0 0 pc L st := by
  intro H locs ls hp hS hl
  obtain ⟨hC, hR, hr, hQ, hA⟩ := M
  obtain ⟨cw1, cw2, cw3⟩ := cw
  have hp' : H = (js γ).heap := hp
  refine vp_callSi (va_Run.run (va_runS (As := As) (rest := rest) ⟨hC.1, hC.2.1, hC.2.2.1, hC.2.2.2.1, hC.2.2.2.2.1⟩ hM (va_cwS na hC.2.2.2.2.1 cw1 rfl rfl rfl cw2 ⟨by rw [hR]; exact hdd, by rw [hR]; show 8 + (mL + 11) + 60 * d' ≤ 60 * d; omega⟩) ⟨fun a U g mk q => ⟨q.1, hg.2 U _ rfl rfl q.2⟩, fun U hU hW => ⟨rfl, hg.1 _ _ hW (hU.trans hp') hT⟩⟩ rfl hna (by rw [← hC.2.2.1]; exact hl.1) hst (lv_room (Nat.le_of_ble_eq_true hrm)) hd ⟨Nat.zero_le _, Nat.zero_le _⟩)) (fun r1 hr1 => ?_)
  subst hr1
  exact kk H locs ls hp hS hl
end XJDK
theorem dJ0_indexOf_0 : decode cJ0_indexOf 0 = .ok (.aload_n 0, 1) := by decide +kernel
theorem dJ0_indexOf_1 : decode cJ0_indexOf 1 = .ok (.iload_n 1, 1) := by decide +kernel
theorem dJ0_indexOf_2 : decode cJ0_indexOf 2 = .ok (.iconst 0, 1) := by decide +kernel
theorem dJ0_indexOf_3 : decode cJ0_indexOf 3 = .ok (.invokevirtual 633, 3) := by decide +kernel
theorem dJ0_indexOf_6 : decode cJ0_indexOf 6 = .ok (.ireturn, 1) := by decide +kernel
theorem dJ0_indexOf_2_0 : decode cJ0_indexOf_2 0 = .ok (.aload_n 0, 1) := by decide +kernel
theorem dJ0_indexOf_2_1 : decode cJ0_indexOf_2 1 = .ok (.invokevirtual 492, 3) := by decide +kernel
theorem dJ0_indexOf_2_4 : decode cJ0_indexOf_2 4 = .ok (.ifCond .eq 19, 3) := by decide +kernel
theorem dJ0_indexOf_2_7 : decode cJ0_indexOf_2 7 = .ok (.aload_n 0, 1) := by decide +kernel
theorem dJ0_indexOf_2_8 : decode cJ0_indexOf_2 8 = .ok (.getfield 9, 3) := by decide +kernel
theorem dJ0_indexOf_2_11 : decode cJ0_indexOf_2 11 = .ok (.iload_n 1, 1) := by decide +kernel
theorem dJ0_indexOf_2_12 : decode cJ0_indexOf_2 12 = .ok (.iload_n 2, 1) := by decide +kernel
theorem dJ0_indexOf_2_13 : decode cJ0_indexOf_2 13 = .ok (.aload_n 0, 1) := by decide +kernel
theorem dJ0_indexOf_2_14 : decode cJ0_indexOf_2 14 = .ok (.invokevirtual 505, 3) := by decide +kernel
theorem dJ0_indexOf_2_17 : decode cJ0_indexOf_2 17 = .ok (.invokestatic 637, 3) := by decide +kernel
theorem dJ0_indexOf_2_20 : decode cJ0_indexOf_2 20 = .ok (.goto 16, 3) := by decide +kernel
theorem dJ0_indexOf_2_23 : decode cJ0_indexOf_2 23 = .ok (.aload_n 0, 1) := by decide +kernel
theorem dJ0_indexOf_2_24 : decode cJ0_indexOf_2 24 = .ok (.getfield 9, 3) := by decide +kernel
theorem dJ0_indexOf_2_27 : decode cJ0_indexOf_2 27 = .ok (.iload_n 1, 1) := by decide +kernel
theorem dJ0_indexOf_2_28 : decode cJ0_indexOf_2 28 = .ok (.iload_n 2, 1) := by decide +kernel
theorem dJ0_indexOf_2_29 : decode cJ0_indexOf_2 29 = .ok (.aload_n 0, 1) := by decide +kernel
theorem dJ0_indexOf_2_30 : decode cJ0_indexOf_2 30 = .ok (.invokevirtual 505, 3) := by decide +kernel
theorem dJ0_indexOf_2_33 : decode cJ0_indexOf_2 33 = .ok (.invokestatic 640, 3) := by decide +kernel
theorem dJ0_indexOf_2_36 : decode cJ0_indexOf_2 36 = .ok (.ireturn, 1) := by decide +kernel
theorem dJ0_isLatin1_0 : decode cJ0_isLatin1 0 = .ok (.getstatic 38, 3) := by decide +kernel
theorem dJ0_isLatin1_3 : decode cJ0_isLatin1 3 = .ok (.ifCond .eq 14, 3) := by decide +kernel
theorem dJ0_isLatin1_6 : decode cJ0_isLatin1 6 = .ok (.aload_n 0, 1) := by decide +kernel
theorem dJ0_isLatin1_7 : decode cJ0_isLatin1 7 = .ok (.getfield 15, 3) := by decide +kernel
theorem dJ0_isLatin1_10 : decode cJ0_isLatin1 10 = .ok (.ifCond .ne 7, 3) := by decide +kernel
theorem dJ0_isLatin1_13 : decode cJ0_isLatin1 13 = .ok (.iconst 1, 1) := by decide +kernel
theorem dJ0_isLatin1_14 : decode cJ0_isLatin1 14 = .ok (.goto 4, 3) := by decide +kernel
theorem dJ0_isLatin1_17 : decode cJ0_isLatin1 17 = .ok (.iconst 0, 1) := by decide +kernel
theorem dJ0_isLatin1_18 : decode cJ0_isLatin1 18 = .ok (.ireturn, 1) := by decide +kernel
theorem dJ0_length_0 : decode cJ0_length 0 = .ok (.aload_n 0, 1) := by decide +kernel
theorem dJ0_length_1 : decode cJ0_length 1 = .ok (.getfield 9, 3) := by decide +kernel
theorem dJ0_length_4 : decode cJ0_length 4 = .ok (.arraylength, 1) := by decide +kernel
theorem dJ0_length_5 : decode cJ0_length 5 = .ok (.aload_n 0, 1) := by decide +kernel
theorem dJ0_length_6 : decode cJ0_length 6 = .ok (.invokevirtual 335, 3) := by decide +kernel
theorem dJ0_length_9 : decode cJ0_length 9 = .ok (.ishr, 1) := by decide +kernel
theorem dJ0_length_10 : decode cJ0_length 10 = .ok (.ireturn, 1) := by decide +kernel
theorem dJ0_coder_0 : decode cJ0_coder 0 = .ok (.getstatic 38, 3) := by decide +kernel
theorem dJ0_coder_3 : decode cJ0_coder 3 = .ok (.ifCond .eq 10, 3) := by decide +kernel
theorem dJ0_coder_6 : decode cJ0_coder 6 = .ok (.aload_n 0, 1) := by decide +kernel
theorem dJ0_coder_7 : decode cJ0_coder 7 = .ok (.getfield 15, 3) := by decide +kernel
theorem dJ0_coder_10 : decode cJ0_coder 10 = .ok (.goto 4, 3) := by decide +kernel
theorem dJ0_coder_13 : decode cJ0_coder 13 = .ok (.iconst 1, 1) := by decide +kernel
theorem dJ0_coder_14 : decode cJ0_coder 14 = .ok (.ireturn, 1) := by decide +kernel
theorem dJ1_indexOf_0 : decode cJ1_indexOf 0 = .ok (.iload_n 1, 1) := by decide +kernel
theorem dJ1_indexOf_1 : decode cJ1_indexOf 1 = .ok (.invokestatic 88, 3) := by decide +kernel
theorem dJ1_indexOf_4 : decode cJ1_indexOf 4 = .ok (.ifCond .ne 5, 3) := by decide +kernel
theorem dJ1_indexOf_7 : decode cJ1_indexOf 7 = .ok (.iconst (-1), 1) := by decide +kernel
theorem dJ1_indexOf_8 : decode cJ1_indexOf 8 = .ok (.ireturn, 1) := by decide +kernel
theorem dJ1_indexOf_9 : decode cJ1_indexOf 9 = .ok (.iload_n 2, 1) := by decide +kernel
theorem dJ1_indexOf_10 : decode cJ1_indexOf 10 = .ok (.iconst 0, 1) := by decide +kernel
theorem dJ1_indexOf_11 : decode cJ1_indexOf 11 = .ok (.invokestatic 92, 3) := by decide +kernel
theorem dJ1_indexOf_14 : decode cJ1_indexOf 14 = .ok (.istore_n 2, 1) := by decide +kernel
theorem dJ1_indexOf_15 : decode cJ1_indexOf 15 = .ok (.iload_n 3, 1) := by decide +kernel
theorem dJ1_indexOf_16 : decode cJ1_indexOf 16 = .ok (.aload_n 0, 1) := by decide +kernel
theorem dJ1_indexOf_17 : decode cJ1_indexOf 17 = .ok (.arraylength, 1) := by decide +kernel
theorem dJ1_indexOf_18 : decode cJ1_indexOf 18 = .ok (.invokestatic 38, 3) := by decide +kernel
theorem dJ1_indexOf_21 : decode cJ1_indexOf 21 = .ok (.istore_n 3, 1) := by decide +kernel
theorem dJ1_indexOf_22 : decode cJ1_indexOf 22 = .ok (.iload_n 2, 1) := by decide +kernel
theorem dJ1_indexOf_23 : decode cJ1_indexOf 23 = .ok (.iload_n 3, 1) := by decide +kernel
theorem dJ1_indexOf_24 : decode cJ1_indexOf 24 = .ok (.if_icmp .lt 5, 3) := by decide +kernel
theorem dJ1_indexOf_27 : decode cJ1_indexOf 27 = .ok (.iconst (-1), 1) := by decide +kernel
theorem dJ1_indexOf_28 : decode cJ1_indexOf 28 = .ok (.ireturn, 1) := by decide +kernel
theorem dJ1_indexOf_29 : decode cJ1_indexOf 29 = .ok (.aload_n 0, 1) := by decide +kernel
theorem dJ1_indexOf_30 : decode cJ1_indexOf 30 = .ok (.iload_n 1, 1) := by decide +kernel
theorem dJ1_indexOf_31 : decode cJ1_indexOf 31 = .ok (.iload_n 2, 1) := by decide +kernel
theorem dJ1_indexOf_32 : decode cJ1_indexOf 32 = .ok (.iload_n 3, 1) := by decide +kernel
theorem dJ1_indexOf_33 : decode cJ1_indexOf 33 = .ok (.invokestatic 95, 3) := by decide +kernel
theorem dJ1_indexOf_36 : decode cJ1_indexOf 36 = .ok (.ireturn, 1) := by decide +kernel
theorem dJ1_indexOfChar_0 : decode cJ1_indexOfChar 0 = .ok (.iload_n 1, 1) := by decide +kernel
theorem dJ1_indexOfChar_1 : decode cJ1_indexOfChar 1 = .ok (.i2b, 1) := by decide +kernel
theorem dJ1_indexOfChar_2 : decode cJ1_indexOfChar 2 = .ok (.istore 4, 2) := by decide +kernel
theorem dJ1_indexOfChar_4 : decode cJ1_indexOfChar 4 = .ok (.iload_n 2, 1) := by decide +kernel
theorem dJ1_indexOfChar_5 : decode cJ1_indexOfChar 5 = .ok (.istore 5, 2) := by decide +kernel
theorem dJ1_indexOfChar_7 : decode cJ1_indexOfChar 7 = .ok (.iload 5, 2) := by decide +kernel
theorem dJ1_indexOfChar_9 : decode cJ1_indexOfChar 9 = .ok (.iload_n 3, 1) := by decide +kernel
theorem dJ1_indexOfChar_10 : decode cJ1_indexOfChar 10 = .ok (.if_icmp .ge 21, 3) := by decide +kernel
theorem dJ1_indexOfChar_13 : decode cJ1_indexOfChar 13 = .ok (.aload_n 0, 1) := by decide +kernel
theorem dJ1_indexOfChar_14 : decode cJ1_indexOfChar 14 = .ok (.iload 5, 2) := by decide +kernel
theorem dJ1_indexOfChar_16 : decode cJ1_indexOfChar 16 = .ok (.baload, 1) := by decide +kernel
theorem dJ1_indexOfChar_17 : decode cJ1_indexOfChar 17 = .ok (.iload 4, 2) := by decide +kernel
theorem dJ1_indexOfChar_19 : decode cJ1_indexOfChar 19 = .ok (.if_icmp .ne 6, 3) := by decide +kernel
theorem dJ1_indexOfChar_22 : decode cJ1_indexOfChar 22 = .ok (.iload 5, 2) := by decide +kernel
theorem dJ1_indexOfChar_24 : decode cJ1_indexOfChar 24 = .ok (.ireturn, 1) := by decide +kernel
theorem dJ1_indexOfChar_25 : decode cJ1_indexOfChar 25 = .ok (.iinc 5 1, 3) := by decide +kernel
theorem dJ1_indexOfChar_28 : decode cJ1_indexOfChar 28 = .ok (.goto (-21), 3) := by decide +kernel
theorem dJ1_indexOfChar_31 : decode cJ1_indexOfChar 31 = .ok (.iconst (-1), 1) := by decide +kernel
theorem dJ1_indexOfChar_32 : decode cJ1_indexOfChar 32 = .ok (.ireturn, 1) := by decide +kernel
theorem met_isLatin1 {l : Launch} {A : Nat → Prop} {i a : Nat} : MetT l yJ0_isLatin1 cJ0_isLatin1 1 (some .boolean) 1 [.ref a] (TS A i a) 1 := by
  refine metT_of (own := RJ0) (by decide) rfl rfl (fun γ hγ M hT => ?_)
  subst hγ
  show J γ (sP γ) 0 0 0 [(0, .ref a)] []
  refine jt_gets (pc := 0) M hT dJ0_isLatin1_0 ?_
  refine j_if_eq (pc := 3) M.1 17 dJ0_isLatin1_3 rfl (fun b => absurd b (by decide)) (fun b => ?_)
  refine j_aload_n (pc := 6) M.1 dJ0_isLatin1_6 0 rfl ?_
  refine jt_coder (pc := 7) M hT dJ0_isLatin1_7 ?_
  refine j_if_ne (pc := 10) M.1 17 dJ0_isLatin1_10 rfl (fun b => absurd rfl b) (fun b => ?_)
  refine j_iconst (pc := 13) M.1 dJ0_isLatin1_13 kc_iconst_1 ?_
  refine j_goto (pc := 14) M.1 18 dJ0_isLatin1_14 rfl ?_
  exact js_zret (pc := 18) M dJ0_isLatin1_18 rfl rfl
theorem js_bret {γ : jG} {pc nL : Nat} {L : List (Nat × Value)} {cc : ByteArray} {own : String} {d : Nat} {v r : Int32} (M : SC γ cc nL own d (some .byte) r) (hd : decode cc pc = .ok (.ireturn, 1)) (hb : narrow .byte (.int v) = .int v) (hf : some v = some r) : J γ (sP γ) 0 0 pc L [.int v] := by
  intro H locs ls hp hS hl
  obtain ⟨hC, hR, hr, hQ, hA⟩ := M
  cases hf
  rw [hQ]
  rw [hA] at hS
  exact W.zret hC.1 hC.2.1 hr hb (fun t ht hW => ⟨v, rfl, rfl, by rw [ht]; exact hp⟩) hS.2.2 hd (hlocks := hC.2.2.2.2.2)
theorem met_coder {l : Launch} {A : Nat → Prop} {i a : Nat} : MetT l yJ0_coder cJ0_coder 1 (some .byte) 1 [.ref a] (TS A i a) 0 := by
  refine metT_of (own := RJ0) (by decide) rfl rfl (fun γ hγ M hT => ?_)
  subst hγ
  show J γ (sP γ) 0 0 0 [(0, .ref a)] []
  refine jt_gets (pc := 0) M hT dJ0_coder_0 ?_
  refine j_if_eq (pc := 3) M.1 13 dJ0_coder_3 rfl (fun b => absurd b (by decide)) (fun b => ?_)
  refine j_aload_n (pc := 6) M.1 dJ0_coder_6 0 rfl ?_
  refine jt_coder (pc := 7) M hT dJ0_coder_7 ?_
  refine j_goto (pc := 10) M.1 14 dJ0_coder_10 rfl ?_
  exact js_bret (pc := 14) M dJ0_coder_14 rfl rfl
theorem met_length {l : Launch} {A : Nat → Prop} {i a : Nat} : MetT l yJ0_length cJ0_length 1 (some .int) 2 [.ref a] (TS A i a) 5 := by
  refine metT_of (own := RJ0) (by decide) rfl rfl (fun γ hγ M hT => ?_)
  subst hγ
  show J γ (sP γ) 0 0 0 [(0, .ref a)] []
  refine j_aload_n (pc := 0) M.1 dJ0_length_0 0 rfl ?_
  refine jt_value (pc := 1) M hT dJ0_length_1 (fun b hb => ?_)
  refine jt_len (pc := 4) M hb dJ0_length_4 ?_
  refine j_aload_n (pc := 5) M.1 dJ0_length_5 0 rfl ?_
  refine jt_callV (pc := 6) (As := []) (rest := [.int 5]) M hT TS_go hT.recv (lw_V q659 q660 q661 q112 q662) (by decide +kernel) (by decide) met_coder (by decide) rfl rfl rfl dJ0_length_6 ?_
  refine j_ishr (pc := 9) M.1 dJ0_length_9 ?_
  exact js_iret (pc := 10) M dJ0_length_10 (by decide)
def tC (i : Nat) (x : Int32) : Int32 := if tb i 0 = x then 0 else if tb i 1 = x then 1 else if tb i 2 = x then 2 else if tb i 3 = x then 3 else if tb i 4 = x then 4 else -1
theorem ic_step {γ : jG} {d : Nat} {r : Int32} {A : Nat → Prop} {i b : Nat} {c x jv jn : Int32} {j : Nat} (M : SC γ cJ1_indexOfChar 6 RJ1 d (some .int) r) (hT : TB A i b (js γ)) (hin : vp_in jv 5) (hj : jv.toNatClampNeg = j) (hlt : ¬ (5 : Int32) ≤ jv) (hadd : jv + 1 = jn) (h1 : tb i j = x → jv = r) (h2 : ¬ tb i j = x → J γ (sP γ) 0 0 7 [(0, .ref b), (1, .int c), (2, .int 0), (3, .int 5), (4, .int x), (5, .int jn)] []) : J γ (sP γ) 0 0 7 [(0, .ref b), (1, .int c), (2, .int 0), (3, .int 5), (4, .int x), (5, .int jv)] [] := by
  refine j_iload (pc := 7) M.1 dJ1_indexOfChar_7 5 rfl ?_
  refine j_iload_n (pc := 9) M.1 dJ1_indexOfChar_9 3 rfl ?_
  refine j_icmp_ge (pc := 10) M.1 31 dJ1_indexOfChar_10 rfl (fun q => absurd q hlt) (fun _ => ?_)
  refine j_aload_n (pc := 13) M.1 dJ1_indexOfChar_13 0 rfl ?_
  refine j_iload (pc := 14) M.1 dJ1_indexOfChar_14 5 rfl ?_
  refine jt_bald (pc := 16) M hT hin dJ1_indexOfChar_16 ?_
  refine j_iload (pc := 17) M.1 dJ1_indexOfChar_17 4 rfl ?_
  refine j_icmp_ne (pc := 19) M.1 25 dJ1_indexOfChar_19 rfl (fun q => ?_) (fun q => ?_)
  · rw [hj] at q
    refine j_iinc (pc := 25) M.1 [(5, .int jn), (0, .ref b), (1, .int c), (2, .int 0), (3, .int 5), (4, .int x)] dJ1_indexOfChar_25 5 rfl (by rw [← hadd]; exact congrArg _ kc_iconst_1) rfl rfl ?_
    refine j_goto (pc := 28) M.1 7 dJ1_indexOfChar_28 rfl ?_
    refine j_sub [1, 2, 3, 4, 5, 0] (show lv_pick _ _ = [(0, .ref b), (1, .int c), (2, .int 0), (3, .int 5), (4, .int x), (5, .int jn)] from rfl) ?_
    exact h2 q
  · rw [hj] at q
    refine j_iload (pc := 22) M.1 dJ1_indexOfChar_22 5 rfl ?_
    exact js_iret (pc := 24) M dJ1_indexOfChar_24 (by rw [h1 q])
theorem met_indexOfChar {l : Launch} {A : Nat → Prop} {i b : Nat} {c : Int32} : MetT l yJ1_indexOfChar cJ1_indexOfChar 6 (some .int) 1 [.ref b, .int c, .int 0, .int 5] (TB A i b) (tC i c.toInt8.toInt32) := by
  refine metT_of (own := RJ1) (by decide) rfl rfl (fun γ hγ M hT => ?_)
  subst hγ
  show J γ (sP γ) 0 0 0 [(0, .ref b), (1, .int c), (2, .int 0), (3, .int 5)] []
  refine j_iload_n (pc := 0) M.1 dJ1_indexOfChar_0 1 rfl ?_
  refine j_i2b (pc := 1) M.1 dJ1_indexOfChar_1 ?_
  generalize hx : c.toInt8.toInt32 = x at M ⊢
  refine j_istore (pc := 2) M.1 [(4, .int x), (0, .ref b), (1, .int c), (2, .int 0), (3, .int 5)] dJ1_indexOfChar_2 rfl rfl ?_
  refine j_iload_n (pc := 4) M.1 dJ1_indexOfChar_4 3 rfl ?_
  refine j_istore (pc := 5) M.1 [(5, .int 0), (4, .int x), (0, .ref b), (1, .int c), (2, .int 0), (3, .int 5)] dJ1_indexOfChar_5 rfl rfl ?_
  refine j_sub [2, 3, 4, 5, 1, 0] (show lv_pick _ _ = [(0, .ref b), (1, .int c), (2, .int 0), (3, .int 5), (4, .int x), (5, .int 0)] from rfl) ?_
  refine ic_step (j := 0) (jn := 1) M hT (okI_in (by decide)) (by decide) (by decide) (by decide) (fun h => by rw [tC, if_pos h]) (fun n0 => ?_)
  refine ic_step (j := 1) (jn := 2) M hT (okI_in (by decide)) (by decide) (by decide) (by decide) (fun h => by rw [tC, if_neg n0, if_pos h]) (fun n1 => ?_)
  refine ic_step (j := 2) (jn := 3) M hT (okI_in (by decide)) (by decide) (by decide) (by decide) (fun h => by rw [tC, if_neg n0, if_neg n1, if_pos h]) (fun n2 => ?_)
  refine ic_step (j := 3) (jn := 4) M hT (okI_in (by decide)) (by decide) (by decide) (by decide) (fun h => by rw [tC, if_neg n0, if_neg n1, if_neg n2, if_pos h]) (fun n3 => ?_)
  refine ic_step (j := 4) (jn := 5) M hT (okI_in (by decide)) (by decide) (by decide) (by decide) (fun h => by rw [tC, if_neg n0, if_neg n1, if_neg n2, if_neg n3, if_pos h]) (fun n4 => ?_)
  refine j_iload (pc := 7) M.1 dJ1_indexOfChar_7 5 rfl ?_
  refine j_iload_n (pc := 9) M.1 dJ1_indexOfChar_9 3 rfl ?_
  refine j_icmp_ge (pc := 10) M.1 31 dJ1_indexOfChar_10 rfl (fun _ => ?_) (fun q => absurd (by decide) q)
  refine j_iconst (pc := 31) M.1 dJ1_indexOfChar_31 kc_iconst_m1 ?_
  exact js_iret (pc := 32) M dJ1_indexOfChar_32 (by rw [tC, if_neg n0, if_neg n1, if_neg n2, if_neg n3, if_neg n4])
theorem tcs_88 : sCw RJ1 88 yJ1_canEncode cJ1_canEncode 1 (some .boolean) 1 := ⟨lw_S q666 q667 q113 q668, by decide +kernel, by decide⟩
theorem tcs_95 : sCw RJ1 95 yJ1_indexOfChar cJ1_indexOfChar 6 (some .int) 4 := ⟨lw_S q675 q676 q113 q677, by decide +kernel, by decide⟩
theorem tcs_637 : sCw RJ0 637 yJ1_indexOf cJ1_indexOf 4 (some .int) 4 := ⟨lw_S q663 q664 q113 q665, by decide +kernel, by decide⟩
theorem tIdx_eq {i : Nat} {c : Int32} (h1 : ¬ c < 0) (h2 : ¬ 255 < c) : tIdx i c = tC i c.toInt8.toInt32 := by rw [tIdx, if_neg h1, if_neg h2, tC]
theorem met_indexOfL {l : Launch} {A : Nat → Prop} {i b : Nat} {c : Int32} : MetT l yJ1_indexOf cJ1_indexOf 4 (some .int) 2 [.ref b, .int c, .int 0, .int 5] (TB A i b) (tIdx i c) := by
  refine metT_of (own := RJ1) (by decide) rfl rfl (fun γ hγ M hT => ?_)
  subst hγ
  show J γ (sP γ) 0 0 0 [(0, .ref b), (1, .int c), (2, .int 0), (3, .int 5)] []
  refine j_iload_n (pc := 0) M.1 dJ1_indexOf_0 1 rfl ?_
  by_cases hc : c < 0 ∨ 255 < c
  · have hv : tIdx i c = -1 := by
      rw [tIdx]
      by_cases h1 : c < 0
      · rw [if_pos h1]
      · rw [if_neg h1]
        rcases hc with h | h
        · exact absurd h h1
        · rw [if_pos h]
    have he : j1_canEncode 0 c = some 0 := by
      rw [j1_canEncode]
      by_cases h1 : c < 0
      · rw [if_pos h1]
      · rw [if_neg h1]
        rcases hc with h | h
        · exact absurd h h1
        · rw [if_pos h]
    refine js_calls (pc := 1) (As := [.int c]) (rest := []) M tcs_88 (met_j1_canEncode he) rfl rfl rfl rfl dJ1_indexOf_1 ?_
    refine j_if_ne (pc := 4) M.1 9 dJ1_indexOf_4 rfl (fun q => absurd rfl q) (fun _ => ?_)
    refine j_iconst (pc := 7) M.1 dJ1_indexOf_7 kc_iconst_m1 ?_
    exact js_iret (pc := 8) M dJ1_indexOf_8 (by rw [hv])
  · have h1 : ¬ c < 0 := fun h => hc (Or.inl h)
    have h2 : ¬ 255 < c := fun h => hc (Or.inr h)
    have he : j1_canEncode 0 c = some 1 := by rw [j1_canEncode, if_neg h1, if_neg h2]
    have hR : 1 ≤ (jR γ).frames ∧ 40 ≤ (jR γ).locals := by rw [M.2.1]; exact ⟨by decide, by decide⟩
    refine js_calls (pc := 1) (As := [.int c]) (rest := []) M tcs_88 (met_j1_canEncode he) rfl rfl rfl rfl dJ1_indexOf_1 ?_
    refine j_if_ne (pc := 4) M.1 9 dJ1_indexOf_4 rfl (fun _ => ?_) (fun q => absurd q (by decide))
    refine j_iload_n (pc := 9) M.1 dJ1_indexOf_9 2 rfl ?_
    refine j_iconst (pc := 10) M.1 dJ1_indexOf_10 kc_iconst_0 ?_
    refine j_max (pc := 11) M.1 q669 hR ⟨Nat.zero_le _, Nat.zero_le _⟩ rfl dJ1_indexOf_11 ?_
    refine j_st (show _ = [.int 0] from rfl) ?_
    refine j_istore_n (pc := 14) M.1 [(2, .int 0), (0, .ref b), (1, .int c), (3, .int 5)] dJ1_indexOf_14 rfl rfl ?_
    refine j_iload_n (pc := 15) M.1 dJ1_indexOf_15 3 rfl ?_
    refine j_aload_n (pc := 16) M.1 dJ1_indexOf_16 1 rfl ?_
    refine jt_len (pc := 17) M hT dJ1_indexOf_17 ?_
    refine j_min (pc := 18) M.1 q672 hR ⟨Nat.zero_le _, Nat.zero_le _⟩ rfl dJ1_indexOf_18 ?_
    refine j_st (show _ = [.int 5] from rfl) ?_
    refine j_istore_n (pc := 21) M.1 [(3, .int 5), (2, .int 0), (0, .ref b), (1, .int c)] dJ1_indexOf_21 rfl rfl ?_
    refine j_iload_n (pc := 22) M.1 dJ1_indexOf_22 1 rfl ?_
    refine j_iload_n (pc := 23) M.1 dJ1_indexOf_23 0 rfl ?_
    refine j_icmp_lt (pc := 24) M.1 29 dJ1_indexOf_24 rfl (fun _ => ?_) (fun q => absurd (by decide) q)
    refine j_aload_n (pc := 29) M.1 dJ1_indexOf_29 2 rfl ?_
    refine j_iload_n (pc := 30) M.1 dJ1_indexOf_30 3 rfl ?_
    refine j_iload_n (pc := 31) M.1 dJ1_indexOf_31 1 rfl ?_
    refine j_iload_n (pc := 32) M.1 dJ1_indexOf_32 0 rfl ?_
    refine jt_callS (pc := 33) (As := [.ref b, .int c, .int 0, .int 5]) (rest := []) M hT TB_go tcs_95 met_indexOfChar (by decide) rfl rfl rfl dJ1_indexOf_33 ?_
    exact js_iret (pc := 36) M dJ1_indexOf_36 (by rw [tIdx_eq h1 h2])
theorem met_indexOf2 {l : Launch} {A : Nat → Prop} {i a : Nat} {c : Int32} : MetT l yJ0_indexOf_2 cJ0_indexOf_2 3 (some .int) 3 [.ref a, .int c, .int 0] (TS A i a) (tIdx i c) := by
  refine metT_of (own := RJ0) (by decide) rfl rfl (fun γ hγ M hT => ?_)
  subst hγ
  show J γ (sP γ) 0 0 0 [(0, .ref a), (1, .int c), (2, .int 0)] []
  refine j_aload_n (pc := 0) M.1 dJ0_indexOf_2_0 0 rfl ?_
  refine jt_callV (pc := 1) (As := []) (rest := []) M hT TS_go hT.recv (lw_V q649 q650 q651 q112 q652) (by decide +kernel) (by decide) met_isLatin1 (by decide) rfl rfl rfl dJ0_indexOf_2_1 ?_
  refine j_if_eq (pc := 4) M.1 23 dJ0_indexOf_2_4 rfl (fun b => absurd b (by decide)) (fun _ => ?_)
  refine j_aload_n (pc := 7) M.1 dJ0_indexOf_2_7 0 rfl ?_
  refine jt_value (pc := 8) M hT dJ0_indexOf_2_8 (fun b hb => ?_)
  refine j_iload_n (pc := 11) M.1 dJ0_indexOf_2_11 1 rfl ?_
  refine j_iload_n (pc := 12) M.1 dJ0_indexOf_2_12 2 rfl ?_
  refine j_aload_n (pc := 13) M.1 dJ0_indexOf_2_13 0 rfl ?_
  refine jt_callV (pc := 14) (As := []) (rest := [.int 0, .int c, .ref b]) M hT TS_go hT.recv (lw_V q655 q656 q657 q112 q658) (by decide +kernel) (by decide) met_length (by decide) rfl rfl rfl dJ0_indexOf_2_14 ?_
  refine jt_callS (pc := 17) (As := [.ref b, .int c, .int 0, .int 5]) (rest := []) M hb TB_go tcs_637 met_indexOfL (by decide) rfl rfl rfl dJ0_indexOf_2_17 ?_
  refine j_goto (pc := 20) M.1 36 dJ0_indexOf_2_20 rfl ?_
  exact js_iret (pc := 36) M dJ0_indexOf_2_36 rfl
theorem met_indexOf {l : Launch} {A : Nat → Prop} {i a : Nat} {c : Int32} : MetT l yJ0_indexOf cJ0_indexOf 2 (some .int) 4 [.ref a, .int c] (TS A i a) (tIdx i c) := by
  refine metT_of (own := RJ0) (by decide) rfl rfl (fun γ hγ M hT => ?_)
  subst hγ
  show J γ (sP γ) 0 0 0 [(0, .ref a), (1, .int c)] []
  refine j_aload_n (pc := 0) M.1 dJ0_indexOf_0 0 rfl ?_
  refine j_iload_n (pc := 1) M.1 dJ0_indexOf_1 1 rfl ?_
  refine j_iconst (pc := 2) M.1 dJ0_indexOf_2 kc_iconst_0 ?_
  refine jt_callV (na := 2) (pc := 3) (As := [.int c, .int 0]) (rest := []) M hT TS_go hT.recv (lw_V q645 q646 q647 q112 q648) (by decide +kernel) (by decide) met_indexOf2 (by decide) rfl rfl rfl dJ0_indexOf_3 ?_
  exact js_iret (pc := 6) M dJ0_indexOf_6 rfl
theorem jx_idx {γ : jG} {P : Heap → Prop} {k n pc nL : Nat} {L : List (Nat × Value)} {cc : ByteArray} {mn : String} {G : gG} {o B d c0 s0 : Nat} {ret : Option FieldType} {Qc : Array Value → State → Outcome → State → Prop} {i a : Nat} {c : Int32} (M : XC γ cc nL RX9 mn G o B d ret Qc c0 s0) (hT : TS (xa o B) i a (js γ)) (hdd : 6 < d) (hd : decode cc pc = .ok (.invokevirtual 81, 3)) (hkn : k ≤ c0 ∧ n ≤ s0) (kk : J γ P k n (pc + 3) L [.int (tIdx i c)]) : J γ P k n pc L [.int c, .ref a] := by
  intro H locs ls hp hS hl
  have hR := M.2.2.2.2.1
  have hw := M.1.2.2.2.2.1
  have hq : ∀ q : Nat, q < (js γ).heap.size → ¬ xa o B q → H[q]? = (js γ).heap[q]? := by rw [← M.2.2.2.1]; exact hS.2.1
  refine vp_callSi (va_Run.run (va_runV (As := [.int c]) (rest := []) (b := a) ⟨M.1.1, M.1.2.1, M.1.2.2.1, M.1.2.2.2.1, hw⟩ (met_indexOf (A := xa o B) (i := i) (a := a) (c := c)) (cwV 1 hw (lw_V q641 q642 q643 q112 q644) rfl rfl rfl (by decide +kernel) ⟨by rw [hR]; show 4 + 1 ≤ d; omega, by rw [hR]; show 8 + (2 + 11) + 60 * 4 ≤ 60 * d; omega⟩) ⟨fun a' U g mk q => ⟨q.1, TS_go.2 U _ rfl rfl q.2⟩, ?_, fun U hU hW => ⟨rfl, hT.kept hW (by rw [hU]; exact hq)⟩⟩ rfl rfl (by rw [← M.1.2.2.1]; exact hl.1) rfl (lv_room (by decide)) hd (by rw [hR]; exact hkn))) (fun r1 hr1 => ?_)
  · obtain ⟨hi, adK, adV, h1, h2, rfl⟩ := hT
    obtain ⟨cell, q1, q2, q3, -⟩ := (h1.1 i hi).1.kept hq
    exact ⟨cell, q1, q2, q3⟩
  · subst hr1
    exact kk H locs ls hp hS hl
