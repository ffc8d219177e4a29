/-! pool arrays, new cells, calls, returns -/
section JX2
variable {γ : jG} {k n pc nL : Nat} {L : List (Nat × Value)} {st : List Value} {cc : ByteArray} {own mn : String} {G : gG} {o B d c0 s0 : Nat} {ret : Option FieldType} {Qc : Array Value → State → Outcome → State → Prop} {τ τ1 : XS}
theorem XC.inA (M : XC γ cc nL own mn G o B d ret Qc c0 s0) {a : Nat} {e : pE} {H : Heap} (h : XW G o B τ H) (he : τ.2.2.2.1 a = some e) : jA γ a := by rw [M.2.2.2.1]; exact Or.inr (h.2.2.2.2 a e he)
theorem jx_pald0 (M : XC γ cc nL own mn G o B d ret Qc c0 s0) {a : Nat} {i : Int32} {A : Nat × (Nat → Int32)} (hA : gA τ a 0 = some A) (hi : okI i A.1 = true) (hd : decode cc pc = .ok (.iaload, 1)) (kk : J γ (XW G o B τ) k n (pc + 1) L (.int (A.2 i.toNatClampNeg) :: st)) : J γ (XW G o B τ) k n pc L (.int i :: .ref a :: st) :=
  j_iald (t0 := 0) (cA := G.2.2 0) M.1 M.2.1 rfl (fun H h => h.at (gA_spec hA)) (okI_in hi) hd kk
theorem jx_pald1 (M : XC γ cc nL own mn G o B d ret Qc c0 s0) {a : Nat} {i : Int32} {A : Nat × (Nat → Int32)} (hA : gA τ a 1 = some A) (hi : okI i A.1 = true) (hd : decode cc pc = .ok (.baload, 1)) (kk : J γ (XW G o B τ) k n (pc + 1) L (.int (A.2 i.toNatClampNeg) :: st)) : J γ (XW G o B τ) k n pc L (.int i :: .ref a :: st) :=
  j_bald (t0 := 1) (cA := G.2.2 1) M.1 M.2.1 rfl (fun H h => h.at (gA_spec hA)) (okI_in hi) hd kk
theorem jx_pald2 (M : XC γ cc nL own mn G o B d ret Qc c0 s0) {a : Nat} {i : Int32} {A : Nat × (Nat → Int32)} (hA : gA τ a 2 = some A) (hi : okI i A.1 = true) (hd : decode cc pc = .ok (.baload, 1)) (kk : J γ (XW G o B τ) k n (pc + 1) L (.int (A.2 i.toNatClampNeg) :: st)) : J γ (XW G o B τ) k n pc L (.int i :: .ref a :: st) :=
  j_zald (t0 := 2) (cA := G.2.2 2) M.1 M.2.1 rfl (fun H h => h.at (gA_spec hA)) (okI_in hi) hd kk
theorem j_any_past0 : True := trivial
theorem jx_past0 (M : XC γ cc nL own mn G o B d ret Qc c0 s0) {a : Nat} {i x : Int32} {A : Nat × (Nat → Int32)} (hA : gA τ a 0 = some A) (hi : okI i A.1 = true) (hd : decode cc pc = .ok (.iastore, 1)) (e : τ1 = xP τ a (.inl (0, A.1, .inl (upd A.2 i.toNatClampNeg x)))) (kk : J γ (XW G o B τ1) k n (pc + 1) L st) : J γ (XW G o B τ) k n pc L (.int x :: .int i :: .ref a :: st) := by
  subst e
  intro H locs ls hp hS hl
  exact j_iast (t0 := 0) (cA := G.2.2 0) M.1 M.2.1 rfl (fun H h => h.at (gA_spec hA)) (okI_in hi) (M.inA hp (gA_spec hA)) (fun H H' h hz oq he => h.pool (gA_spec hA) hz oq he) hd kk H locs ls hp hS hl
theorem j_any_past1 : True := trivial
theorem jx_past1 (M : XC γ cc nL own mn G o B d ret Qc c0 s0) {a : Nat} {i x : Int32} {A : Nat × (Nat → Int32)} (hA : gA τ a 1 = some A) (hi : okI i A.1 = true) (hd : decode cc pc = .ok (.bastore, 1)) (e : τ1 = xP τ a (.inl (1, A.1, .inl (upd A.2 i.toNatClampNeg (vp_nar .byte x))))) (kk : J γ (XW G o B τ1) k n (pc + 1) L st) : J γ (XW G o B τ) k n pc L (.int x :: .int i :: .ref a :: st) := by
  subst e
  intro H locs ls hp hS hl
  exact j_bast (t0 := 1) (cA := G.2.2 1) M.1 M.2.1 rfl (fun H h => h.at (gA_spec hA)) (okI_in hi) (M.inA hp (gA_spec hA)) (fun H H' h hz oq he => h.pool (gA_spec hA) hz oq he) hd kk H locs ls hp hS hl
theorem j_any_past2 : True := trivial
theorem jx_past2 (M : XC γ cc nL own mn G o B d ret Qc c0 s0) {a : Nat} {i x : Int32} {A : Nat × (Nat → Int32)} (hA : gA τ a 2 = some A) (hi : okI i A.1 = true) (hd : decode cc pc = .ok (.bastore, 1)) (e : τ1 = xP τ a (.inl (2, A.1, .inl (upd A.2 i.toNatClampNeg (vp_nar .boolean x))))) (kk : J γ (XW G o B τ1) k n (pc + 1) L st) : J γ (XW G o B τ) k n pc L (.int x :: .int i :: .ref a :: st) := by
  subst e
  intro H locs ls hp hS hl
  exact j_zast (t0 := 2) (cA := G.2.2 2) M.1 M.2.1 rfl (fun H h => h.at (gA_spec hA)) (okI_in hi) (M.inA hp (gA_spec hA)) (fun H H' h hz oq he => h.pool (gA_spec hA) hz oq he) hd kk H locs ls hp hS hl
theorem jx_paald (M : XC γ cc nL own mn G o B d ret Qc c0 s0) {a b t : Nat} {i : Int32} {A : Nat × (Nat → Option Nat)} (hT : xRt t) (hA : gB τ a t = some A) (hi : okI i A.1 = true) (hv : A.2 i.toNatClampNeg = some b) (hd : decode cc pc = .ok (.aaload, 1)) (kk : J γ (XW G o B τ) k n (pc + 1) L (.ref b :: st)) : J γ (XW G o B τ) k n pc L (.int i :: .ref a :: st) := by
  obtain ⟨ht, ty, hr, hg⟩ := hT
  refine j_aald (t0 := t) M.1 M.2.1 (hg G) hr (fun H h => h.at (gB_spec hA)) (okI_in hi) hd ?_
  rw [hv]
  exact kk
theorem jx_paast (M : XC γ cc nL own mn G o B d ret Qc c0 s0) {a t v : Nat} {i : Int32} {A : Nat × (Nat → Option Nat)} {cs : List Nat} (hE : xEl t cs) (hA : gB τ a t = some A) (hc : isC τ v cs = true) (hi : okI i A.1 = true) (hd : decode cc pc = .ok (.aastore, 1)) (e : τ1 = xP τ a (.inl (t, A.1, .inr (.inr (.inr (.inr (va_up A.2 i.toNatClampNeg (some v)))))))) (kk : J γ (XW G o B τ1) k n (pc + 1) L st) : J γ (XW G o B τ) k n pc L (.ref v :: .int i :: .ref a :: st) := by
  subst e
  intro H locs ls hp hS hl
  obtain ⟨c, V, h1, h2⟩ := isC_spec hc
  exact j_aast (t0 := t) (cs := cs) M.1 M.2.1 M.2.2.1 hE h2 (fun H h => h.at (gB_spec hA)) (fun H h => h.at h1) (okI_in hi) (M.inA hp (gB_spec hA)) (fun H H' h hz oq he => h.pool (gB_spec hA) hz oq he) hd kk H locs ls hp hS hl
theorem jx_alen (M : XC γ cc nL own mn G o B d ret Qc c0 s0) {a t : Nat} {ty : FieldType} {A : Nat × (Nat → Int32)} (hT : ∀ G : gG, (gTys G)[t]? = some (G.2.2 t, ty)) (hA : gA τ a t = some A) (hd : decode cc pc = .ok (.arraylength, 1)) (kk : J γ (XW G o B τ) k n (pc + 1) L (.int (nI A.1) :: st)) : J γ (XW G o B τ) k n pc L (.ref a :: st) := by
  intro H locs ls hp hS hl
  have h1 := hp.at (gA_spec hA)
  exact W.alen (n := nI A.1) M.1.1 M.1.2.1 h1 ((M.2.1.2 t _ (hT G)).1 A.1 (fun j => .int (A.2 j))) (by show (arrV _ _ _).slots.size.toInt32 = _; rw [arrV_size]; rfl) rfl rfl hd (kk H locs ls hp hS hl)
def xNew (own : String) (idx ci : Nat) (C : String) (T : u_T) (N : Nat) (ty : Nat → FieldType) : Prop := Cond.classLink own idx C ∈ lw_all ∧ Cond.instantiable C N ∈ lw_all ∧ Cond.initialized C ∈ lw_all ∧ xCl ci C T N ty
theorem jx_new (M : XC γ cc nL own mn G o B d ret Qc c0 s0) {idx ci N : Nat} {C : String} {T : u_T} {ty : Nat → FieldType} (F : xNew own idx ci C T N ty) (hd : decode cc pc = .ok (.new idx, 3)) (hkn : k + 1 ≤ c0 ∧ n + N ≤ s0) (e : τ1 = xN τ (.inr (ci, fun q => defaultValue (ty q)))) (kk : J γ (XW G o B τ1) (k + 1) (n + N) (pc + 3) L (.ref τ.2.2.2.2 :: st)) : J γ (XW G o B τ) k n pc L st := by
  subst e
  intro H locs ls hp hS hl
  obtain ⟨f1, f2, f3, f4⟩ := F
  have hKn := M.2.1.1 ci _ f4.1
  refine W.newcK M.1.1 M.1.2.1 M.1.2.2.2.1 (M.1.2.2.2.2.1 _ f1) (M.1.2.2.2.2.1 _ f2) (M.1.2.2.2.2.1 _ f3) rfl hd (by rw [M.2.2.2.2.1]; exact hkn.1) (by rw [M.2.2.2.2.1]; exact hkn.2) hKn.2.1 hp.2.1 fun H1 kC hkC e1 z1 o1 => ?_
  have hsz := hp.2.1
  refine kk H1 locs ls (hp.new (by rw [hsz]; exact z1) (fun q hq => o1 q (by rw [← hsz]; exact hq)) ⟨_, f4.1, ?_⟩) ⟨Nat.le_trans hS.1 (by omega), fun x h1 h2 => (o1 x (by have := hS.1; omega)).trans (hS.2.1 x h1 h2), hS.2.2⟩ hl
  rw [hsz]
  exact u_born ty M.1.2.2.2.2.1 f4.2.1 hKn hkC e1 f4.2.2.1
theorem jx_newa (M : XC γ cc nL own mn G o B d ret Qc c0 s0) {atype : ArrayType} {ty : FieldType} {i : Int32} {t m : Nat} (hq : Cond.arrayClass (newarray.typeOf atype) ∈ lw_all) (hty : newarray.typeOf atype = ty) (hT : ∀ G : gG, (gTys G)[t]? = some (G.2.2 t, ty)) (hra : ∀ (U : State) (cA : ClassId), va_RA U cA ty → U.vm.findClass ("[" ++ ty.toString) = some cA) (hdv : defaultValue ty = .int 0) (hi : ¬ i < 0) (hN : i.toNatClampNeg = m) (hby : m * componentBytes ty ≤ 536870912) (hd : decode cc pc = .ok (.newarray atype, 2)) (hkn : k + 1 ≤ c0 ∧ n + m ≤ s0) (e : τ1 = xN τ (.inl (t, m, .inl (fun _ => 0)))) (kk : J γ (XW G o B τ1) (k + 1) (n + m) (pc + 2) L (.ref τ.2.2.2.2 :: st)) : J γ (XW G o B τ) k n pc L (.int i :: st) := by
  subst e
  subst hty
  intro H locs ls hp hS hl
  have hsz := hp.2.1
  refine va_newaK M.1.1 M.1.2.1 (M.1.2.2.2.2.1 _ hq) rfl hd rfl hi hN hby (by rw [M.2.2.2.2.1]; exact hkn.1) (by rw [M.2.2.2.2.1]; exact hkn.2) hsz fun H1 cA e1 z1 o1 hAr hNm => ?_
  have hcA : cA = G.2.2 t := Option.some.inj (hNm.symm.trans (hra _ _ (M.2.1.2 t _ (hT G)).2))
  refine kk H1 locs ls (hp.new (by rw [hsz]; exact z1) (fun q hq => o1 q (by rw [← hsz]; exact hq)) ?_) ⟨Nat.le_trans hS.1 (by omega), fun x h1 h2 => (o1 x (by have := hS.1; omega)).trans (hS.2.1 x h1 h2), hS.2.2⟩ hl
  show H1[H.size]? = some (vp_cell _ _)
  rw [hsz, e1, vp_cell_i, hcA, hdv]
theorem jx_newq (M : XC γ cc nL own mn G o B d ret Qc c0 s0) {C : String} {i : Int32} {idx t m : Nat} (hq : Cond.classLink own idx C ∈ lw_all) (hC : C ∈ aoL) (hT : ∀ G : gG, (gTys G)[t]? = some (G.2.2 t, .object C)) (hi : ¬ i < 0) (hN : i.toNatClampNeg = m) (hby : m * 4 ≤ 536870912) (hd : decode cc pc = .ok (.anewarray idx, 3)) (hkn : k + 1 ≤ c0 ∧ n + m ≤ s0) (e : τ1 = xN τ (.inl (t, m, .inr (.inr (.inr (.inr (fun _ => none))))))) (kk : J γ (XW G o B τ1) (k + 1) (n + m) (pc + 3) L (.ref τ.2.2.2.2 :: st)) : J γ (XW G o B τ) k n pc L (.int i :: st) := by
  subst e
  subst hN
  intro H locs ls hp hS hl
  have hsz := hp.2.1
  refine W.anew M.1.1 M.1.2.1 M.1.2.2.2.1 (M.1.2.2.2.2.1 _ hq) (va_AO.use (M.2.2.1.2.2.2.2 C hC)) rfl hd rfl hi hby (by rw [M.2.2.2.2.1]; exact hkn.1) (by rw [M.2.2.2.2.1]; exact hkn.2) fun cA kA comp f1 f2 f3 f4 => ?_
  obtain ⟨kA', comp', g1, g2, g3, g4⟩ := (M.2.1.2 t _ (hT G)).2
  have hcA : cA = G.2.2 t := Option.some.inj (f1.symm.trans g4)
  generalize hH1 : H.push ({ cls := cA, slots := Array.replicate i.toNatClampNeg .null, vm := .none } : Cell) = H1
  have z1 : H1.size = H.size + 1 := by rw [← hH1, Array.size_push]
  have e1 : H1[H.size]? = some (arrV cA i.toNatClampNeg (fun _ => .null)) := by rw [← hH1, Array.getElem?_push_size, ← arrV_new]
  have o1 : ∀ q : Nat, q < H.size → H1[q]? = H[q]? := fun q hq => by rw [← hH1, Array.getElem?_push, if_neg (Nat.ne_of_lt hq)]
  have kk2 := kk H1 locs ls (hp.new z1 o1 (by show H1[H.size]? = some (vp_cell _ _); rw [e1, vp_cell_q, hcA]; rfl)) ⟨Nat.le_trans hS.1 (by omega), fun x h1 h2 => (o1 x (by have := hS.1; omega)).trans (hS.2.1 x h1 h2), hS.2.2⟩ hl
  rw [← hsz] at kk2
  exact kk2
/-! calls -/
def XRun (γ : jG) (P : Heap → Prop) (k n mc ms pc : Nat) (L : List (Nat × Value)) (st rest : List Value) (Qa : State → Outcome → State → Prop) (A : Nat → Prop) : Prop :=
  ∀ (H : Heap) (locs : List Loc) (ls : Array Slot), P H → va_S (jA γ) (js γ).heap H locs → lv_has ls (jc γ).maxLocals L → va_Run (jp γ) (jl γ) (je γ) (jR γ) (js γ) (jm γ) (ja γ) (jb γ) (jt γ) (jc γ) H locs k n mc ms (F0 (jm γ) pc ls st) rest Qa A
theorem jx_i {P : Heap → Prop} {mc ms : Nat} {rest : List Value} {a : Array Value} {r : Int32} (M : XC γ cc nL own mn G o B d ret Qc c0 s0) (hr : XRun γ P k n mc ms pc L st rest (xQi G o B r τ1 a) (xa o B)) (kk : J γ (XW G o B τ1) (k + mc) (n + ms) (pc + 3) L (.int r :: rest)) : J γ P k n pc L st := by
  intro H locs ls hp hS hl
  refine va_calli (hr H locs ls hp hS hl) hS (fun q _ h => by rw [M.2.2.2.1]; exact h) (fun q h => by rw [M.2.2.2.1]; exact h) (fun r1 u t H1 locs1 ht hvm hw hB hz hk1 hS1 => ?_)
  subst hw
  rw [ht] at hB
  exact kk H1 locs1 ls hB hS1 hl
theorem jx_q {P : Heap → Prop} {mc ms : Nat} {rest : List Value} {a : Array Value} {r : Option Nat} (M : XC γ cc nL own mn G o B d ret Qc c0 s0) (hr : XRun γ P k n mc ms pc L st rest (xQq G o B r τ1 a) (xa o B)) (kk : J γ (XW G o B τ1) (k + mc) (n + ms) (pc + 3) L (va_rf r :: rest)) : J γ P k n pc L st := by
  intro H locs ls hp hS hl
  refine va_callq (hr H locs ls hp hS hl) hS (fun q _ h => by rw [M.2.2.2.1]; exact h) (fun q h => by rw [M.2.2.2.1]; exact h) (fun r1 u t H1 locs1 ht hvm hw hB hz hk1 hS1 => ?_)
  subst hw
  rw [ht] at hB
  exact kk H1 locs1 ls hB hS1 hl
theorem jx_v {P : Heap → Prop} {mc ms : Nat} {rest : List Value} {a : Array Value} {r : Int32} (M : XC γ cc nL own mn G o B d ret Qc c0 s0) (hr : XRun γ P k n mc ms pc L st rest (xQv G o B r τ1 a) (xa o B)) (kk : J γ (XW G o B τ1) (k + mc) (n + ms) (pc + 3) L rest) : J γ P k n pc L st := by
  intro H locs ls hp hS hl
  refine va_callv (hr H locs ls hp hS hl) hS (fun q _ h => by rw [M.2.2.2.1]; exact h) (fun q h => by rw [M.2.2.2.1]; exact h) (fun u t H1 locs1 ht hvm hw hB hz hk1 hS1 => ?_)
  rw [ht] at hB
  exact kk H1 locs1 ls hB hS1 hl
def xCw (own : String) (idx ci : Nat) (C : String) (y : MethodName) (cb : ByteArray) (mL : Nat) (rt : Option FieldType) (na : Nat) : Prop := (∃ q : vw_C, vwCl[ci]? = some q ∧ q.1 = C) ∧ GoodIn lw_all (wsV own idx C y (ws_ y cb mL rt)) ∧ (y.cls = C ∧ y.cls ≠ "java/lang/invoke/MethodHandle" ∧ y.cls ≠ "java/lang/invoke/VarHandle" ∧ (parseMethodDescriptor y.desc).map (fun d => d.parameters.length) = some na) ∧ mL ≤ 41
theorem x_pre {H : Heap} {locs : List Loc} {as : List Value} (M : XC γ cc nL own mn G o B d ret Qc c0 s0) (h : XW G o B τ H) (hS : va_S (jA γ) (js γ).heap H locs) : PreS (js γ) H (xPc G o B τ as) as := ⟨xPc_blind G o B τ as, fun U hU hW => ⟨rfl, gK.moved hW.alike M.2.1, NW.warm hW M.2.2.1, by rw [hU]; exact h, TW.go hW (by rw [hU, ← M.2.2.2.1]; exact hS.2.1) M.2.2.2.2.2.2.2.2⟩⟩
theorem x_recv {H : Heap} {b ci : Nat} {V : Nat → Value} {q : vw_C} (hK : gK G (js γ)) (hc : vwCl[ci]? = some q) (h : hAt G b (.inr (ci, V)) H) : ∃ cellB : Cell, H[b]? = some cellB ∧ cellB.vm.isStatics = false ∧ (js γ).vm.findClass q.1 = some cellB.cls := by
  obtain ⟨r, h1, cell, q1, q2, q3, q4⟩ := h
  exact ⟨cell, q1, by rw [q3]; rfl, by rw [q2]; exact (hK.1 ci q hc).2.1⟩
theorem x_runV {idx ci b mL na d' mc ms : Nat} {C : String} {y : MethodName} {cb : ByteArray} {rt : Option FieldType} {As rest : List Value} {V : Nat → Value} {Qy : Array Value → State → Outcome → State → Prop} (M : XC γ cc nL own mn G o B d ret Qc c0 s0) (cw : xCw own idx ci C y cb mL rt na) (hM : MetX (jl γ) G o B y cb mL rt d' (.ref b :: As) τ Qy mc ms) (hb : ∀ H, XW G o B τ H → hAt G b (.inr (ci, V)) H) (hdd : d' < d) (hst : st = As.reverse ++ .ref b :: rest) (hna : As.length = na) (hrm : Nat.ble ((rest.map fun v => v.category).sum) 8 = true) (hd : decode cc pc = .ok (.invokevirtual idx, 3)) (hkn : k + mc ≤ c0 ∧ n + ms ≤ s0) : XRun γ (XW G o B τ) k n mc ms pc L st rest (Qy (Value.ref b :: As).toArray) (xa o B) := by
  intro H locs ls hp hS hl
  obtain ⟨⟨q, hq, rfl⟩, cw1, cw2, cw3⟩ := cw
  have hR := M.2.2.2.2.1
  exact va_runV (As := As) (rest := rest) ⟨M.1.1, M.1.2.1, M.1.2.2.1, M.1.2.2.2.1, M.1.2.2.2.2.1⟩ hM (cwV na M.1.2.2.2.2.1 cw1 rfl rfl rfl cw2 ⟨by rw [hR]; exact hdd, by rw [hR]; show 8 + (mL + 11) + 60 * d' ≤ 60 * d; omega⟩) ⟨(x_pre M hp hS).1, x_recv M.2.1 hq (hb H hp), (x_pre M hp hS).2⟩ rfl hna (by rw [← M.1.2.2.1]; exact hl.1) hst (lv_room (Nat.le_of_ble_eq_true hrm)) hd (by rw [hR]; exact hkn)
/-- calls on an object of one of the classes cs, of a method that another class declares -/
def xCU (own : String) (idx : Nat) (cs : List Nat) (owner : String) (x y : MethodName) (cb : ByteArray) (mL : Nat) (rt : Option FieldType) (na : Nat) : Prop := (∀ c ∈ cs, ∃ q : vw_C, vwCl[c]? = some q ∧ ∀ (R : Room) (s : State) (args : Array Value) (rm : Room) (mc ms : Nat), (∀ w ∈ lw_all, w.before args s = true) → NW s → rm.cells = mc → rm.slots = ms → (rm.frames + 1 ≤ R.frames ∧ 8 + (mL + 11) + rm.locals ≤ R.locals) → va_CU R s args own q.1 owner idx x y cb mL rt (ws_ y cb mL rt) rm mc ms na) ∧ mL ≤ 41
theorem x_runU {idx b mL na d' mc ms : Nat} {cs : List Nat} {owner : String} {x y : MethodName} {cb : ByteArray} {rt : Option FieldType} {As rest : List Value} {Qy : Array Value → State → Outcome → State → Prop} (M : XC γ cc nL own mn G o B d ret Qc c0 s0) (cw : xCU own idx cs owner x y cb mL rt na) (hM : MetX (jl γ) G o B y cb mL rt d' (.ref b :: As) τ Qy mc ms) (hc : isC τ b cs = true) (hdd : d' < d) (hst : st = As.reverse ++ .ref b :: rest) (hna : As.length = na) (hrm : Nat.ble ((rest.map fun v => v.category).sum) 8 = true) (hd : decode cc pc = .ok (.invokevirtual idx, 3)) (hkn : k + mc ≤ c0 ∧ n + ms ≤ s0) : XRun γ (XW G o B τ) k n mc ms pc L st rest (Qy (Value.ref b :: As).toArray) (xa o B) := by
  intro H locs ls hp hS hl
  obtain ⟨c, V, h1, h2⟩ := isC_spec hc
  obtain ⟨cw1, cw3⟩ := cw
  obtain ⟨q, hq, cw2⟩ := cw1 c h2
  have hR := M.2.2.2.2.1
  exact va_runU (As := As) (rest := rest) ⟨M.1.1, M.1.2.1, M.1.2.2.1, M.1.2.2.2.1, M.1.2.2.2.2.1⟩ hM (cw2 _ _ _ (rmX d' mc ms) mc ms M.1.2.2.2.2.1 M.2.2.1 rfl rfl ⟨by rw [hR]; exact hdd, by rw [hR]; show 8 + (mL + 11) + 60 * d' ≤ 60 * d; omega⟩) ⟨(x_pre M hp hS).1, x_recv M.2.1 hq (hp.at h1), (x_pre M hp hS).2⟩ rfl hna (by rw [← M.1.2.2.1]; exact hl.1) hst (lv_room (Nat.le_of_ble_eq_true hrm)) hd (by rw [hR]; exact hkn)
theorem x_runS {idx mL na d' mc ms : Nat} {y : MethodName} {cb : ByteArray} {rt : Option FieldType} {As rest : List Value} {Qy : Array Value → State → Outcome → State → Prop} (M : XC γ cc nL own mn G o B d ret Qc c0 s0) (cw : sCw own idx y cb mL rt na) (hM : MetX (jl γ) G o B y cb mL rt d' As τ Qy mc ms) (hdd : d' < d) (hst : st = As.reverse ++ rest) (hna : As.length = na) (hrm : Nat.ble ((rest.map fun v => v.category).sum) 8 = true) (hd : decode cc pc = .ok (.invokestatic idx, 3)) (hkn : k + mc ≤ c0 ∧ n + ms ≤ s0) : XRun γ (XW G o B τ) k n mc ms pc L st rest (Qy As.toArray) (xa o B) := by
  intro H locs ls hp hS hl
  obtain ⟨cw1, cw2, cw3⟩ := cw
  have hR := M.2.2.2.2.1
  exact va_runS (As := As) (rest := rest) ⟨M.1.1, M.1.2.1, M.1.2.2.1, M.1.2.2.2.1, M.1.2.2.2.2.1⟩ hM (va_cwS na M.1.2.2.2.2.1 cw1 rfl rfl rfl cw2 ⟨by rw [hR]; exact hdd, by rw [hR]; show 8 + (mL + 11) + 60 * d' ≤ 60 * d; omega⟩) (x_pre M hp hS) rfl hna (by rw [← M.1.2.2.1]; exact hl.1) hst (lv_room (Nat.le_of_ble_eq_true hrm)) hd (by rw [hR]; exact hkn)
def xCi (own : String) (idx : Nat) (y : MethodName) (cb : ByteArray) (mL na : Nat) : Prop := Cond.code y cb mL none ∈ lw_all ∧ Cond.initialized y.cls ∈ lw_all ∧ Cond.methodLink own idx y ∈ lw_all ∧ Cond.instanceMethod y ∈ lw_all ∧ y.name = "<init>" ∧ (y.cls ≠ "java/lang/invoke/MethodHandle" ∧ y.cls ≠ "java/lang/invoke/VarHandle" ∧ (parseMethodDescriptor y.desc).map (fun d => d.parameters.length) = some na) ∧ mL ≤ 41
theorem x_runI {idx b mL na d' mc ms : Nat} {y : MethodName} {cb : ByteArray} {As rest : List Value} {Qy : Array Value → State → Outcome → State → Prop} (M : XC γ cc nL own mn G o B d ret Qc c0 s0) (cw : xCi own idx y cb mL na) (hM : MetX (jl γ) G o B y cb mL none d' (.ref b :: As) τ Qy mc ms) (hdd : d' < d) (hst : st = As.reverse ++ .ref b :: rest) (hna : As.length = na) (hrm : Nat.ble ((rest.map fun v => v.category).sum) 8 = true) (hd : decode cc pc = .ok (.invokespecial idx, 3)) (hkn : k + mc ≤ c0 ∧ n + ms ≤ s0) : XRun γ (XW G o B τ) k n mc ms pc L st rest (Qy (Value.ref b :: As).toArray) (xa o B) := by
  intro H locs ls hp hS hl
  obtain ⟨c1, c2, c3, c4, c5, c6, c7⟩ := cw
  have hR := M.2.2.2.2.1
  have hw := M.1.2.2.2.2.1
  exact va_runI (As := As) (rest := rest) ⟨M.1.1, M.1.2.1, M.1.2.2.1, M.1.2.2.2.1, M.1.2.2.2.2.1⟩ hM (cwI na hw (lw_meth c1) rfl rfl rfl (hw _ c2) (hw _ c3) (hw _ c4) c5 c6 ⟨by rw [hR]; exact hdd, by rw [hR]; show 8 + (mL + 11) + 60 * d' ≤ 60 * d; omega⟩) (x_pre M hp hS) rfl hna (by rw [← M.1.2.2.1]; exact hl.1) hst (lv_room (Nat.le_of_ble_eq_true hrm)) hd (by rw [hR]; exact hkn)
/-- the same through a nest mate's private constructor -/
def xCj (own : String) (idx : Nat) (y : MethodName) (cb : ByteArray) (mL na : Nat) : Prop := Cond.code y cb mL none ∈ lw_all ∧ Cond.initialized y.cls ∈ lw_all ∧ Cond.methodLinkNest own idx y "AshCity" ∈ nwM ∧ Cond.instanceMethod y ∈ lw_all ∧ y.name = "<init>" ∧ (y.cls ≠ "java/lang/invoke/MethodHandle" ∧ y.cls ≠ "java/lang/invoke/VarHandle" ∧ (parseMethodDescriptor y.desc).map (fun d => d.parameters.length) = some na) ∧ mL ≤ 41
theorem x_runJ {idx b mL na d' mc ms : Nat} {y : MethodName} {cb : ByteArray} {As rest : List Value} {Qy : Array Value → State → Outcome → State → Prop} (M : XC γ cc nL own mn G o B d ret Qc c0 s0) (cw : xCj own idx y cb mL na) (hM : MetX (jl γ) G o B y cb mL none d' (.ref b :: As) τ Qy mc ms) (hdd : d' < d) (hst : st = As.reverse ++ .ref b :: rest) (hna : As.length = na) (hrm : Nat.ble ((rest.map fun v => v.category).sum) 8 = true) (hd : decode cc pc = .ok (.invokespecial idx, 3)) (hkn : k + mc ≤ c0 ∧ n + ms ≤ s0) : XRun γ (XW G o B τ) k n mc ms pc L st rest (Qy (Value.ref b :: As).toArray) (xa o B) := by
  intro H locs ls hp hS hl
  obtain ⟨c1, c2, c3, c4, c5, c6, c7⟩ := cw
  have hR := M.2.2.2.2.1
  have hw := M.1.2.2.2.2.1
  exact va_runIN (As := As) (rest := rest) ⟨M.1.1, M.1.2.1, M.1.2.2.1, M.1.2.2.2.1, M.1.2.2.2.2.1⟩ hM ⟨va_cnB na hw (lw_meth c1) rfl rfl rfl (M.2.2.1.2.1 _ c3) (hw _ c2) c6 ⟨by rw [hR]; exact hdd, by rw [hR]; show 8 + (mL + 11) + 60 * d' ≤ 60 * d; omega⟩, c5, hw _ c4⟩ (x_pre M hp hS) rfl hna (by rw [← M.1.2.2.1]; exact hl.1) hst (lv_room (Nat.le_of_ble_eq_true hrm)) hd (by rw [hR]; exact hkn)
/-- heap-free static methods: of the own class, of a nest mate -/
theorem jx_calls {P : Heap → Prop} {idx mL na d' : Nat} {y : MethodName} {cb : ByteArray} {rt : Option FieldType} {As rest : List Value} {r : Int32} (M : XC γ cc nL own mn G o B d ret Qc c0 s0) (cw : sCw own idx y cb mL rt na) (hM : MetSi (jl γ) y cb mL rt d' As r) (hdd : Nat.blt d' d = true) (hst : st = As.reverse ++ rest) (hna : As.length = na) (hrm : Nat.ble ((rest.map fun v => v.category).sum) 8 = true) (hd : decode cc pc = .ok (.invokestatic idx, 3)) (hkn : k ≤ c0 ∧ n ≤ s0) (kk : J γ P k n (pc + 3) L (.int r :: rest)) : J γ P k n pc L st :=
  j_calls (d := d) M.1 hdd (by rw [M.2.2.2.2.1]; exact ⟨Nat.le_refl _, Nat.le_refl _⟩) cw hM hst hna hrm hd kk (by rw [M.2.2.2.2.1]; exact hkn)
def sCn (own : String) (idx : Nat) (y : MethodName) (cb : ByteArray) (mL : Nat) (rt : Option FieldType) (na : Nat) : Prop := Cond.code y cb mL rt ∈ lw_all ∧ Cond.initialized y.cls ∈ lw_all ∧ Cond.methodLinkNest own idx y "AshCity" ∈ nwM ∧ Cond.static y ∈ lw_all ∧ (y.cls ≠ "java/lang/invoke/MethodHandle" ∧ y.cls ≠ "java/lang/invoke/VarHandle" ∧ (parseMethodDescriptor y.desc).map (fun d => d.parameters.length) = some na) ∧ mL ≤ 41
theorem jx_callsN {P : Heap → Prop} {idx mL na d' : Nat} {y : MethodName} {cb : ByteArray} {rt : Option FieldType} {As rest : List Value} {r : Int32} (M : XC γ cc nL own mn G o B d ret Qc c0 s0) (cw : sCn own idx y cb mL rt na) (hM : MetSi (jl γ) y cb mL rt d' As r) (hdd : Nat.blt d' d = true) (hst : st = As.reverse ++ rest) (hna : As.length = na) (hrm : Nat.ble ((rest.map fun v => v.category).sum) 8 = true) (hd : decode cc pc = .ok (.invokestatic idx, 3)) (hkn : k ≤ c0 ∧ n ≤ s0) (kk : J γ P k n (pc + 3) L (.int r :: rest)) : J γ P k n pc L st := by
  intro H locs ls hp hS hl
  obtain ⟨c1, c2, c3, c4, c5, c6⟩ := cw
  have hR := M.2.2.2.2.1
  have hw := M.1.2.2.2.2.1
  have hdd := Nat.le_of_ble_eq_true hdd
  refine vp_callSi (va_Run.run (va_runSN (As := As) (rest := rest) ⟨M.1.1, M.1.2.1, M.1.2.2.1, M.1.2.2.2.1, M.1.2.2.2.2.1⟩ hM ⟨va_cnB na hw (lw_meth c1) rfl rfl rfl (M.2.2.1.2.1 _ c3) (hw _ c2) c5 ⟨by rw [hR]; exact hdd, by rw [hR]; show 8 + (mL + 11) + 60 * d' ≤ 60 * d; omega⟩, hw _ c4, trivial⟩ ⟨fun _ _ _ _ q => q, fun U hU hW => ⟨rfl, trivial⟩⟩ rfl hna (by rw [← M.1.2.2.1]; exact hl.1) hst (lv_room (Nat.le_of_ble_eq_true hrm)) hd (by rw [hR]; exact hkn))) (fun r1 hr1 => ?_)
  subst hr1
  exact kk H locs ls hp hS hl
/-! returns -/
theorem jx_iret {v r : Int32} {τr : XS} (M : XC γ cc nL own mn G o B d (some .int) (xQi G o B r τr) c0 s0) (hd : decode cc pc = .ok (.ireturn, 1)) (e1 : v = r) (e2 : τ = τr) (hkn : k ≤ c0 ∧ n ≤ s0) : J γ (XW G o B τ) k n pc L [.int v] := by
  intro H locs ls hp hS hl
  subst e1; subst e2
  rw [M.2.2.2.2.2.2.1]
  have hS : va_S (xa o B) (js γ).heap H locs := by rw [← M.2.2.2.1]; exact hS
  refine W.widen hkn.1 hkn.2 ?_
  exact W.iret M.1.1 M.1.2.1 M.2.2.2.2.2.1 (fun t ht hW => ⟨⟨v, (), rfl, rfl, by show XW G o B τ t.heap; rw [ht]; exact hp⟩, hS.F ht⟩) hS.2.2 hd (hlocks := M.1.2.2.2.2.2)
theorem jx_zret {v r : Int32} {τr : XS} (M : XC γ cc nL own mn G o B d (some .boolean) (xQi G o B r τr) c0 s0) (hd : decode cc pc = .ok (.ireturn, 1)) (hb : okB v = true) (e1 : v = r) (e2 : τ = τr) (hkn : k ≤ c0 ∧ n ≤ s0) : J γ (XW G o B τ) k n pc L [.int v] := by
  intro H locs ls hp hS hl
  subst e1; subst e2
  rw [M.2.2.2.2.2.2.1]
  have hS : va_S (xa o B) (js γ).heap H locs := by rw [← M.2.2.2.1]; exact hS
  refine W.widen hkn.1 hkn.2 ?_
  exact W.zret M.1.1 M.1.2.1 M.2.2.2.2.2.1 (okB_nar hb) (fun t ht hW => ⟨⟨v, (), rfl, rfl, by show XW G o B τ t.heap; rw [ht]; exact hp⟩, hS.F ht⟩) hS.2.2 hd (hlocks := M.1.2.2.2.2.2)
theorem jx_vret {r : Int32} {τr : XS} (M : XC γ cc nL own mn G o B d none (xQv G o B r τr) c0 s0) (hd : decode cc pc = .ok (.return_, 1)) (e2 : τ = τr) (hkn : k ≤ c0 ∧ n ≤ s0) : J γ (XW G o B τ) k n pc L [] := by
  intro H locs ls hp hS hl
  subst e2
  rw [M.2.2.2.2.2.2.1]
  have hS : va_S (xa o B) (js γ).heap H locs := by rw [← M.2.2.2.1]; exact hS
  refine W.widen hkn.1 hkn.2 ?_
  exact W.vret M.1.1 M.1.2.1 M.2.2.2.2.2.1 (fun t ht hW => ⟨⟨(), rfl, trivial, by show XW G o B τ t.heap; rw [ht]; exact hp⟩, hS.F ht⟩) hS.2.2 hd (hlocks := M.1.2.2.2.2.2)
theorem jx_aret {v r : Option Nat} {τr : XS} {C : String} (M : XC γ cc nL own mn G o B d (some (.object C)) (xQq G o B r τr) c0 s0) (hd : decode cc pc = .ok (.areturn, 1)) (e1 : v = r) (e2 : τ = τr) (hkn : k ≤ c0 ∧ n ≤ s0) : J γ (XW G o B τ) k n pc L [va_rf v] := by
  intro H locs ls hp hS hl
  subst e1; subst e2
  rw [M.2.2.2.2.2.2.1]
  have hS : va_S (xa o B) (js γ).heap H locs := by rw [← M.2.2.2.1]; exact hS
  refine W.widen hkn.1 hkn.2 ?_
  exact W.aret M.1.1 M.1.2.1 M.2.2.2.2.2.1 (Or.inl ⟨C, rfl⟩) (by cases v with | none => exact Or.inl rfl | some a => exact Or.inr ⟨a, rfl⟩) (fun t ht hW => ⟨⟨v, (), rfl, rfl, by show XW G o B τ t.heap; rw [ht]; exact hp⟩, hS.F ht⟩) hS.2.2 hd (hlocks := M.1.2.2.2.2.2)
end JX2
