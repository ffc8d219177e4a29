/-! THE WALK'S JUDGEMENT. J γ P k n pc L st: from every heap with P, at pc with locals L and stack st, the machine comes to γ's end; k cells and n slots made so far -/
abbrev jG : Type := (Program × Launch × Env × Room × State) × (MethodId × Array Value × List Frame × Method × Code) × (Nat → Prop) × (State → Prop)
abbrev jp (γ : jG) : Program := γ.1.1
abbrev jl (γ : jG) : Launch := γ.1.2.1
abbrev je (γ : jG) : Env := γ.1.2.2.1
abbrev jR (γ : jG) : Room := γ.1.2.2.2.1
abbrev js (γ : jG) : State := γ.1.2.2.2.2
abbrev jm (γ : jG) : MethodId := γ.2.1.1
abbrev ja (γ : jG) : Array Value := γ.2.1.2.1
abbrev jb (γ : jG) : List Frame := γ.2.1.2.2.1
abbrev jt (γ : jG) : Method := γ.2.1.2.2.2.1
abbrev jc (γ : jG) : Code := γ.2.1.2.2.2.2
abbrev jA (γ : jG) : Nat → Prop := γ.2.2.1
abbrev jQ (γ : jG) : State → Prop := γ.2.2.2
def J (γ : jG) (P : Heap → Prop) (k n pc : Nat) (L : List (Nat × Value)) (st : List Value) : Prop :=
  ∀ (H : Heap) (locs : List Loc) (ls : Array Slot), P H → va_S (jA γ) (js γ).heap H locs → lv_has ls (jc γ).maxLocals L →
    W (jp γ) (jl γ) (je γ) (jR γ) (js γ) (jm γ) (ja γ) (jb γ) (jt γ) (jc γ) H locs k n (jQ γ) (F0 (jm γ) pc ls st)
/-- what stays from a method's entry to its end -/
def JC (γ : jG) (cc : ByteArray) (nL : Nat) (own : String) : Prop :=
  (jp γ).tables.exec = Jvm.exec ∧ (jc γ).code = cc ∧ (jc γ).maxLocals = nL ∧ (js γ).vm.findClass own = some (jm γ).cls ∧ (∀ w ∈ lw_all, w.before (ja γ) (js γ) = true) ∧ (jt γ).locks = false
section JROWS
variable {γ : jG} {P : Heap → Prop} {k n pc nL : Nat} {L : List (Nat × Value)} {st : List Value} {cc : ByteArray} {own : String}
theorem j_sub {L' : List (Nat × Value)} (ks : List Nat) (hl : lv_pick L ks = L') (kk : J γ P k n pc L' st) : J γ P k n pc L st := fun H locs ls hP hS h => kk H locs ls hP hS (lv_sub h ks hl)
theorem j_widen {k' n' : Nat} (h1 : k ≤ k') (h2 : n ≤ n') (kk : J γ P k' n' pc L st) : J γ P k n pc L st := fun H locs ls hP hS h => W.widen h1 h2 (kk H locs ls hP hS h)
theorem j_imp {P' : Heap → Prop} (h : ∀ H, P H → P' H) (kk : J γ P' k n pc L st) : J γ P k n pc L st := fun H locs ls hP hS hl => kk H locs ls (h H hP) hS hl
theorem j_iconst (C : JC γ cc nL own) {c : Int} {v : Int32} (hd : decode cc pc = .ok (.iconst c, 1)) (hv : Int32.ofInt c = v) (kk : J γ P k n (pc + 1) L (.int v :: st)) : J γ P k n pc L st := fun H locs ls hP hS hl => lv_iconst C.1 C.2.1 hd hv (kk H locs ls hP hS hl)
theorem j_bipush (C : JC γ cc nL own) {c : Int} {v : Int32} (hd : decode cc pc = .ok (.bipush c, 2)) (hv : (Int8.ofInt c).toInt32 = v) (kk : J γ P k n (pc + 2) L (.int v :: st)) : J γ P k n pc L st := fun H locs ls hP hS hl => lv_bipush C.1 C.2.1 hd hv (kk H locs ls hP hS hl)
theorem j_sipush (C : JC γ cc nL own) {c : Int} {v : Int32} (hd : decode cc pc = .ok (.sipush c, 3)) (hv : (Int16.ofInt c).toInt32 = v) (kk : J γ P k n (pc + 3) L (.int v :: st)) : J γ P k n pc L st := fun H locs ls hP hS hl => lv_sipush C.1 C.2.1 hd hv (kk H locs ls hP hS hl)
theorem j_ldc (C : JC γ cc nL own) {index : Nat} {v : Int32} (hq : Cond.constant own index v ∈ lw_all) (hd : decode cc pc = .ok (.ldc index, 2)) (kk : J γ P k n (pc + 2) L (.int v :: st)) : J γ P k n pc L st := fun H locs ls hP hS hl => lv_ldc C.1 C.2.1 C.2.2.2.1 (C.2.2.2.2.1 _ hq) hd (kk H locs ls hP hS hl)
theorem j_ldcw (C : JC γ cc nL own) {index : Nat} {v : Int32} (hq : Cond.constant own index v ∈ lw_all) (hd : decode cc pc = .ok (.ldc_w index, 3)) (kk : J γ P k n (pc + 3) L (.int v :: st)) : J γ P k n pc L st := fun H locs ls hP hS hl => lv_ldcw C.1 C.2.1 C.2.2.2.1 (C.2.2.2.2.1 _ hq) hd (kk H locs ls hP hS hl)
theorem j_iload_n (C : JC γ cc nL own) {i : Fin 4} {x : Int32} (hd : decode cc pc = .ok (.iload_n i, 1)) (q : Nat) (hq : L[q]? = some ((i : Nat), .int x)) (kk : J γ P k n (pc + 1) L (.int x :: st)) : J γ P k n pc L st := fun H locs ls hP hS hl => lv_iload_n C.1 C.2.1 hd rfl (lv_at hl q hq) (kk H locs ls hP hS hl)
theorem j_iload (C : JC γ cc nL own) {i : Nat} {x : Int32} (hd : decode cc pc = .ok (.iload i, 2)) (q : Nat) (hq : L[q]? = some (i, .int x)) (kk : J γ P k n (pc + 2) L (.int x :: st)) : J γ P k n pc L st := fun H locs ls hP hS hl => lv_iload C.1 C.2.1 hd (lv_at hl q hq) (kk H locs ls hP hS hl)
theorem j_aload_n (C : JC γ cc nL own) {i : Fin 4} {x : Nat} (hd : decode cc pc = .ok (.aload_n i, 1)) (q : Nat) (hq : L[q]? = some ((i : Nat), .ref x)) (kk : J γ P k n (pc + 1) L (.ref x :: st)) : J γ P k n pc L st := fun H locs ls hP hS hl => lv_aload_n C.1 C.2.1 hd rfl (lv_at hl q hq) (kk H locs ls hP hS hl)
theorem j_aload (C : JC γ cc nL own) {i : Nat} {x : Nat} (hd : decode cc pc = .ok (.aload i, 2)) (q : Nat) (hq : L[q]? = some (i, .ref x)) (kk : J γ P k n (pc + 2) L (.ref x :: st)) : J γ P k n pc L st := fun H locs ls hP hS hl => lv_aload C.1 C.2.1 hd (lv_at hl q hq) (kk H locs ls hP hS hl)
theorem j_lload_n (C : JC γ cc nL own) {i : Fin 4} {x : Int64} (hd : decode cc pc = .ok (.lload_n i, 1)) (q : Nat) (hq : L[q]? = some ((i : Nat), .long x)) (kk : J γ P k n (pc + 1) L (.long x :: st)) : J γ P k n pc L st := fun H locs ls hP hS hl => lv_lload_n C.1 C.2.1 hd rfl (lv_at hl q hq) (kk H locs ls hP hS hl)
theorem j_lload (C : JC γ cc nL own) {i : Nat} {x : Int64} (hd : decode cc pc = .ok (.lload i, 2)) (q : Nat) (hq : L[q]? = some (i, .long x)) (kk : J γ P k n (pc + 2) L (.long x :: st)) : J γ P k n pc L st := fun H locs ls hP hS hl => lv_lload C.1 C.2.1 hd (lv_at hl q hq) (kk H locs ls hP hS hl)
theorem j_istore_n (C : JC γ cc nL own) {i : Fin 4} {x : Int32} (L' : List (Nat × Value)) (hd : decode cc pc = .ok (.istore_n i, 1)) (hn : Nat.blt (i : Nat) nL = true) (hL : ((i : Nat), Value.int x) :: L.filter (fun q => !(q.1 == (i : Nat)) && !(q.1 + 1 == (i : Nat) && q.2.category == 2)) = L') (kk : J γ P k n (pc + 1) L' st) : J γ P k n pc L (.int x :: st) := fun H locs ls hP hS hl => lv_istore_n C.1 C.2.1 hd rfl hl (by rw [C.2.2.1]; exact Nat.le_of_ble_eq_true hn) hL (fun ls' hl' => kk H locs ls' hP hS hl')
theorem j_istore (C : JC γ cc nL own) {i : Nat} {x : Int32} (L' : List (Nat × Value)) (hd : decode cc pc = .ok (.istore i, 2)) (hn : Nat.blt i nL = true) (hL : (i, Value.int x) :: L.filter (fun q => !(q.1 == i) && !(q.1 + 1 == i && q.2.category == 2)) = L') (kk : J γ P k n (pc + 2) L' st) : J γ P k n pc L (.int x :: st) := fun H locs ls hP hS hl => lv_istore C.1 C.2.1 hd hl (by rw [C.2.2.1]; exact Nat.le_of_ble_eq_true hn) hL (fun ls' hl' => kk H locs ls' hP hS hl')
theorem j_astore_n (C : JC γ cc nL own) {i : Fin 4} {x : Nat} (L' : List (Nat × Value)) (hd : decode cc pc = .ok (.astore_n i, 1)) (hn : Nat.blt (i : Nat) nL = true) (hL : ((i : Nat), Value.ref x) :: L.filter (fun q => !(q.1 == (i : Nat)) && !(q.1 + 1 == (i : Nat) && q.2.category == 2)) = L') (kk : J γ P k n (pc + 1) L' st) : J γ P k n pc L (.ref x :: st) := fun H locs ls hP hS hl => lv_astore_n C.1 C.2.1 hd rfl hl (by rw [C.2.2.1]; exact Nat.le_of_ble_eq_true hn) hL (fun ls' hl' => kk H locs ls' hP hS hl')
theorem j_astore (C : JC γ cc nL own) {i : Nat} {x : Nat} (L' : List (Nat × Value)) (hd : decode cc pc = .ok (.astore i, 2)) (hn : Nat.blt i nL = true) (hL : (i, Value.ref x) :: L.filter (fun q => !(q.1 == i) && !(q.1 + 1 == i && q.2.category == 2)) = L') (kk : J γ P k n (pc + 2) L' st) : J γ P k n pc L (.ref x :: st) := fun H locs ls hP hS hl => lv_astore C.1 C.2.1 hd hl (by rw [C.2.2.1]; exact Nat.le_of_ble_eq_true hn) hL (fun ls' hl' => kk H locs ls' hP hS hl')
theorem j_iinc (C : JC γ cc nL own) {i : Nat} {c : Int} {x v : Int32} (L' : List (Nat × Value)) (hd : decode cc pc = .ok (.iinc i c, 3)) (q : Nat) (hq : L[q]? = some (i, .int x)) (hv : x + Int32.ofInt c = v) (hn : Nat.blt i nL = true) (hL : (i, Value.int v) :: L.filter (fun q => !(q.1 == i) && !(q.1 + 1 == i && q.2.category == 2)) = L') (kk : J γ P k n (pc + 3) L' st) : J γ P k n pc L st := fun H locs ls hP hS hl => lv_iinc C.1 C.2.1 hd hl hq hv (by rw [C.2.2.1]; exact Nat.le_of_ble_eq_true hn) hL (fun ls' hl' => kk H locs ls' hP hS hl')
theorem j_iadd (C : JC γ cc nL own) {x y : Int32} (hd : decode cc pc = .ok (.iadd, 1)) (kk : J γ P k n (pc + 1) L (.int (x + y) :: st)) : J γ P k n pc L (.int y :: .int x :: st) := fun H locs ls hP hS hl => lv_iadd C.1 C.2.1 hd (kk H locs ls hP hS hl)
theorem j_isub (C : JC γ cc nL own) {x y : Int32} (hd : decode cc pc = .ok (.isub, 1)) (kk : J γ P k n (pc + 1) L (.int (x - y) :: st)) : J γ P k n pc L (.int y :: .int x :: st) := fun H locs ls hP hS hl => lv_isub C.1 C.2.1 hd (kk H locs ls hP hS hl)
theorem j_imul (C : JC γ cc nL own) {x y : Int32} (hd : decode cc pc = .ok (.imul, 1)) (kk : J γ P k n (pc + 1) L (.int (x * y) :: st)) : J γ P k n pc L (.int y :: .int x :: st) := fun H locs ls hP hS hl => lv_imul C.1 C.2.1 hd (kk H locs ls hP hS hl)
theorem j_iand (C : JC γ cc nL own) {x y : Int32} (hd : decode cc pc = .ok (.iand, 1)) (kk : J γ P k n (pc + 1) L (.int (x &&& y) :: st)) : J γ P k n pc L (.int y :: .int x :: st) := fun H locs ls hP hS hl => lv_iand C.1 C.2.1 hd (kk H locs ls hP hS hl)
theorem j_ior (C : JC γ cc nL own) {x y : Int32} (hd : decode cc pc = .ok (.ior, 1)) (kk : J γ P k n (pc + 1) L (.int (x ||| y) :: st)) : J γ P k n pc L (.int y :: .int x :: st) := fun H locs ls hP hS hl => lv_ior C.1 C.2.1 hd (kk H locs ls hP hS hl)
theorem j_ixor (C : JC γ cc nL own) {x y : Int32} (hd : decode cc pc = .ok (.ixor, 1)) (kk : J γ P k n (pc + 1) L (.int (x ^^^ y) :: st)) : J γ P k n pc L (.int y :: .int x :: st) := fun H locs ls hP hS hl => lv_ixor C.1 C.2.1 hd (kk H locs ls hP hS hl)
theorem j_ishl (C : JC γ cc nL own) {x y : Int32} (hd : decode cc pc = .ok (.ishl, 1)) (kk : J γ P k n (pc + 1) L (.int (x <<< (y &&& 31)) :: st)) : J γ P k n pc L (.int y :: .int x :: st) := fun H locs ls hP hS hl => lv_ishl C.1 C.2.1 hd (kk H locs ls hP hS hl)
theorem j_ishr (C : JC γ cc nL own) {x y : Int32} (hd : decode cc pc = .ok (.ishr, 1)) (kk : J γ P k n (pc + 1) L (.int (x >>> (y &&& 31)) :: st)) : J γ P k n pc L (.int y :: .int x :: st) := fun H locs ls hP hS hl => lv_ishr C.1 C.2.1 hd (kk H locs ls hP hS hl)
theorem j_land (C : JC γ cc nL own) {x y : Int64} (hd : decode cc pc = .ok (.land, 1)) (kk : J γ P k n (pc + 1) L (.long (x &&& y) :: st)) : J γ P k n pc L (.long y :: .long x :: st) := fun H locs ls hP hS hl => lv_land C.1 C.2.1 hd (kk H locs ls hP hS hl)
theorem j_lor (C : JC γ cc nL own) {x y : Int64} (hd : decode cc pc = .ok (.lor, 1)) (kk : J γ P k n (pc + 1) L (.long (x ||| y) :: st)) : J γ P k n pc L (.long y :: .long x :: st) := fun H locs ls hP hS hl => lv_lor C.1 C.2.1 hd (kk H locs ls hP hS hl)
/-- Java's remainder -/
def jrem (x y : Int32) : Int32 := x - x / y * y
theorem j_idiv (C : JC γ cc nL own) {x y : Int32} (hd : decode cc pc = .ok (.idiv, 1)) (hne : ¬ y = 0) (kk : J γ P k n (pc + 1) L (.int (x / y) :: st)) : J γ P k n pc L (.int y :: .int x :: st) := fun H locs ls hP hS hl => lv_idiv C.1 C.2.1 hd hne (kk H locs ls hP hS hl)
theorem j_irem (C : JC γ cc nL own) {x y : Int32} (hd : decode cc pc = .ok (.irem, 1)) (hne : ¬ y = 0) (kk : J γ P k n (pc + 1) L (.int (jrem x y) :: st)) : J γ P k n pc L (.int y :: .int x :: st) := fun H locs ls hP hS hl => lv_irem C.1 C.2.1 hd hne (kk H locs ls hP hS hl)
theorem j_i2b (C : JC γ cc nL own) {x : Int32} (hd : decode cc pc = .ok (.i2b, 1)) (kk : J γ P k n (pc + 1) L (.int x.toInt8.toInt32 :: st)) : J γ P k n pc L (.int x :: st) := fun H locs ls hP hS hl => lv_i2b C.1 C.2.1 hd rfl (kk H locs ls hP hS hl)
theorem j_dup (C : JC γ cc nL own) {v : Value} (hd : decode cc pc = .ok (.dup, 1)) (hv : v.category = 1) (kk : J γ P k n (pc + 1) L (v :: v :: st)) : J γ P k n pc L (v :: st) := fun H locs ls hP hS hl => lv_dup C.1 C.2.1 hd hv (kk H locs ls hP hS hl)
theorem j_dup2 (C : JC γ cc nL own) {v w : Value} (hd : decode cc pc = .ok (.dup2, 1)) (hv : v.category = 1) (hw : w.category = 1) (kk : J γ P k n (pc + 1) L (v :: w :: v :: w :: st)) : J γ P k n pc L (v :: w :: st) := fun H locs ls hP hS hl => lv_dup2_11 C.1 C.2.1 hd hv hw (kk H locs ls hP hS hl)
theorem j_goto (C : JC γ cc nL own) {off : Int} (t : Nat) (hd : decode cc pc = .ok (.goto off, 3)) (ht : (pc : Int) + off = (t : Int)) (kk : J γ P k n t L st) : J γ P k n pc L st := fun H locs ls hP hS hl => lv_goto C.1 C.2.1 hd ht (kk H locs ls hP hS hl)
theorem j_if_eq (C : JC γ cc nL own) {x : Int32} {off : Int} (t : Nat) (hd : decode cc pc = .ok (.ifCond .eq off, 3)) (ht : (pc : Int) + off = (t : Int)) (kt : x = 0 → J γ P k n t L st) (kf : ¬ x = 0 → J γ P k n (pc + 3) L st) : J γ P k n pc L (.int x :: st) := fun H locs ls hP hS hl => lv_if_eq C.1 C.2.1 hd ht (fun c => kt c H locs ls hP hS hl) (fun c => kf c H locs ls hP hS hl)
theorem j_icmp_eq (C : JC γ cc nL own) {x y : Int32} {off : Int} (t : Nat) (hd : decode cc pc = .ok (.if_icmp .eq off, 3)) (ht : (pc : Int) + off = (t : Int)) (kt : x = y → J γ P k n t L st) (kf : ¬ x = y → J γ P k n (pc + 3) L st) : J γ P k n pc L (.int y :: .int x :: st) := fun H locs ls hP hS hl => lv_icmp_eq C.1 C.2.1 hd ht (fun c => kt c H locs ls hP hS hl) (fun c => kf c H locs ls hP hS hl)
theorem j_if_ne (C : JC γ cc nL own) {x : Int32} {off : Int} (t : Nat) (hd : decode cc pc = .ok (.ifCond .ne off, 3)) (ht : (pc : Int) + off = (t : Int)) (kt : ¬ x = 0 → J γ P k n t L st) (kf : x = 0 → J γ P k n (pc + 3) L st) : J γ P k n pc L (.int x :: st) := fun H locs ls hP hS hl => lv_if_ne C.1 C.2.1 hd ht (fun c => kt c H locs ls hP hS hl) (fun c => kf c H locs ls hP hS hl)
theorem j_icmp_ne (C : JC γ cc nL own) {x y : Int32} {off : Int} (t : Nat) (hd : decode cc pc = .ok (.if_icmp .ne off, 3)) (ht : (pc : Int) + off = (t : Int)) (kt : ¬ x = y → J γ P k n t L st) (kf : x = y → J γ P k n (pc + 3) L st) : J γ P k n pc L (.int y :: .int x :: st) := fun H locs ls hP hS hl => lv_icmp_ne C.1 C.2.1 hd ht (fun c => kt c H locs ls hP hS hl) (fun c => kf c H locs ls hP hS hl)
theorem j_if_lt (C : JC γ cc nL own) {x : Int32} {off : Int} (t : Nat) (hd : decode cc pc = .ok (.ifCond .lt off, 3)) (ht : (pc : Int) + off = (t : Int)) (kt : x < 0 → J γ P k n t L st) (kf : ¬ x < 0 → J γ P k n (pc + 3) L st) : J γ P k n pc L (.int x :: st) := fun H locs ls hP hS hl => lv_if_lt C.1 C.2.1 hd ht (fun c => kt c H locs ls hP hS hl) (fun c => kf c H locs ls hP hS hl)
theorem j_icmp_lt (C : JC γ cc nL own) {x y : Int32} {off : Int} (t : Nat) (hd : decode cc pc = .ok (.if_icmp .lt off, 3)) (ht : (pc : Int) + off = (t : Int)) (kt : x < y → J γ P k n t L st) (kf : ¬ x < y → J γ P k n (pc + 3) L st) : J γ P k n pc L (.int y :: .int x :: st) := fun H locs ls hP hS hl => lv_icmp_lt C.1 C.2.1 hd ht (fun c => kt c H locs ls hP hS hl) (fun c => kf c H locs ls hP hS hl)
theorem j_if_ge (C : JC γ cc nL own) {x : Int32} {off : Int} (t : Nat) (hd : decode cc pc = .ok (.ifCond .ge off, 3)) (ht : (pc : Int) + off = (t : Int)) (kt : 0 ≤ x → J γ P k n t L st) (kf : ¬ 0 ≤ x → J γ P k n (pc + 3) L st) : J γ P k n pc L (.int x :: st) := fun H locs ls hP hS hl => lv_if_ge C.1 C.2.1 hd ht (fun c => kt c H locs ls hP hS hl) (fun c => kf c H locs ls hP hS hl)
theorem j_icmp_ge (C : JC γ cc nL own) {x y : Int32} {off : Int} (t : Nat) (hd : decode cc pc = .ok (.if_icmp .ge off, 3)) (ht : (pc : Int) + off = (t : Int)) (kt : y ≤ x → J γ P k n t L st) (kf : ¬ y ≤ x → J γ P k n (pc + 3) L st) : J γ P k n pc L (.int y :: .int x :: st) := fun H locs ls hP hS hl => lv_icmp_ge C.1 C.2.1 hd ht (fun c => kt c H locs ls hP hS hl) (fun c => kf c H locs ls hP hS hl)
theorem j_if_gt (C : JC γ cc nL own) {x : Int32} {off : Int} (t : Nat) (hd : decode cc pc = .ok (.ifCond .gt off, 3)) (ht : (pc : Int) + off = (t : Int)) (kt : 0 < x → J γ P k n t L st) (kf : ¬ 0 < x → J γ P k n (pc + 3) L st) : J γ P k n pc L (.int x :: st) := fun H locs ls hP hS hl => lv_if_gt C.1 C.2.1 hd ht (fun c => kt c H locs ls hP hS hl) (fun c => kf c H locs ls hP hS hl)
theorem j_icmp_gt (C : JC γ cc nL own) {x y : Int32} {off : Int} (t : Nat) (hd : decode cc pc = .ok (.if_icmp .gt off, 3)) (ht : (pc : Int) + off = (t : Int)) (kt : y < x → J γ P k n t L st) (kf : ¬ y < x → J γ P k n (pc + 3) L st) : J γ P k n pc L (.int y :: .int x :: st) := fun H locs ls hP hS hl => lv_icmp_gt C.1 C.2.1 hd ht (fun c => kt c H locs ls hP hS hl) (fun c => kf c H locs ls hP hS hl)
theorem j_if_le (C : JC γ cc nL own) {x : Int32} {off : Int} (t : Nat) (hd : decode cc pc = .ok (.ifCond .le off, 3)) (ht : (pc : Int) + off = (t : Int)) (kt : x ≤ 0 → J γ P k n t L st) (kf : ¬ x ≤ 0 → J γ P k n (pc + 3) L st) : J γ P k n pc L (.int x :: st) := fun H locs ls hP hS hl => lv_if_le C.1 C.2.1 hd ht (fun c => kt c H locs ls hP hS hl) (fun c => kf c H locs ls hP hS hl)
theorem j_icmp_le (C : JC γ cc nL own) {x y : Int32} {off : Int} (t : Nat) (hd : decode cc pc = .ok (.if_icmp .le off, 3)) (ht : (pc : Int) + off = (t : Int)) (kt : x ≤ y → J γ P k n t L st) (kf : ¬ x ≤ y → J γ P k n (pc + 3) L st) : J γ P k n pc L (.int y :: .int x :: st) := fun H locs ls hP hS hl => lv_icmp_le C.1 C.2.1 hd ht (fun c => kt c H locs ls hP hS hl) (fun c => kf c H locs ls hP hS hl)
theorem j_tableOut (C : JC γ cc nL own) {dflt lo hi : Int} {offs : Array Int} {len : Nat} {x : Int32} (t : Nat) (hd : decode cc pc = .ok (.tableswitch dflt lo hi offs, len)) (h : x.toInt < lo ∨ hi < x.toInt) (ht : (pc : Int) + dflt = (t : Int)) (kk : J γ P k n t L st) : J γ P k n pc L (.int x :: st) := fun H locs ls hP hS hl => lv_tableOut C.1 C.2.1 hd h ht (kk H locs ls hP hS hl)
theorem j_tableIn (C : JC γ cc nL own) {dflt lo hi : Int} {offs : Array Int} {len : Nat} {x : Int32} {off : Int} (t : Nat) (hd : decode cc pc = .ok (.tableswitch dflt lo hi offs, len)) (h1 : ¬ x.toInt < lo) (h2 : ¬ hi < x.toInt) (ho : offs[(x.toInt - lo).toNat]? = some off) (ht : (pc : Int) + off = (t : Int)) (kk : J γ P k n t L st) : J γ P k n pc L (.int x :: st) := fun H locs ls hP hS hl => lv_tableIn C.1 C.2.1 hd h1 h2 ho ht (kk H locs ls hP hS hl)
theorem j_top {x v : Int32} (e : v = x) (kk : J γ P k n pc L (.int v :: st)) : J γ P k n pc L (.int x :: st) := e ▸ kk
end JROWS
/-! answers of runs: an Option; what a step of a run says -/
theorem o_pos {α : Type} {c : Prop} [Decidable c] {a b : Option α} {r : Option α} (h : c) (e : (if c then a else b) = r) : a = r := by rw [if_pos h] at e; exact e
theorem o_neg {α : Type} {c : Prop} [Decidable c] {a b : Option α} {r : Option α} (h : ¬ c) (e : (if c then a else b) = r) : b = r := by rw [if_neg h] at e; exact e
theorem o_need {α : Type} {c : Prop} [Decidable c] {a : Option α} {r : α} (e : (if c then a else none) = some r) : c ∧ a = some r := by
  by_cases h : c
  · rw [if_pos h] at e; exact ⟨h, e⟩
  · rw [if_neg h] at e; cases e
theorem o_bind {α β : Type} {x : Option α} {f : α → Option β} {r : β} (e : x.bind f = some r) : ∃ a, x = some a ∧ f a = some r := by
  cases x with
  | none => cases e
  | some a => exact ⟨a, rfl, e⟩
/-- a value gets a name -/
def nx {α β : Type} (x : α) (f : α → β) : β := f x
theorem o_nx {α β : Type} {x : α} {f : α → Option β} {r : β} (e : nx x f = some r) : ∃ a, a = x ∧ f a = some r := ⟨x, rfl, e⟩
/-- an index within, as a test -/
def okI (i : Int32) (n : Nat) : Bool := decide (0 ≤ i) && decide (i.toNatClampNeg < n)
theorem okI_in {i : Int32} {n : Nat} (h : okI i n = true) : vp_in i n := by
  unfold okI at h
  rw [Bool.and_eq_true] at h
  have h1 := of_decide_eq_true h.1
  have h2 := of_decide_eq_true h.2
  intro q
  rcases q with q | q
  · rw [Int32.lt_iff_toInt_lt] at q
    rw [Int32.le_iff_toInt_le] at h1
    omega
  · omega
def okB (v : Int32) : Bool := decide (v = 0) || decide (v = 1)
theorem okB_nar {v : Int32} (h : okB v = true) : narrow .boolean (.int v) = .int v := by
  unfold okB at h
  rw [Bool.or_eq_true] at h
  rcases h with h | h
  · rw [of_decide_eq_true h]; rfl
  · rw [of_decide_eq_true h]; rfl
/-- a loop: its body, so many times at most -/
noncomputable def lp {α ρ : Type} (B : (α → Option ρ) → α → Option ρ) (n : Nat) : α → Option ρ := Nat.rec (fun _ => none) (fun _ R => B R) n
theorem lp_s {α ρ : Type} {B : (α → Option ρ) → α → Option ρ} {n : Nat} {a : α} : lp B (n + 1) a = B (lp B n) a := rfl
theorem lp_W {α ρ : Type} {B : (α → Option ρ) → α → Option ρ} {res : ρ} {Wd : α → Prop} (hB : ∀ R, (∀ a, R a = some res → Wd a) → ∀ a, B R a = some res → Wd a) : ∀ (n : Nat) (a : α), lp B n a = some res → Wd a := by
  intro n
  induction n with
  | zero => intro a h; cases h
  | succ n ih => intro a h; exact hB _ ih a h
