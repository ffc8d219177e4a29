/-! THE ABSTRACT HEAP -/
abbrev vwCl : List vw_C := [(RX0, TX0, 46), (RX1, TX1, 111), (RX2, TX2, 4), (RX3, TX3, 3), (RX2, TX2, 4), (RX5, TX5, 9), (RX6, TX6, 9), (RX7, TX7, 9), (RX8, TX8, 5), (RX9, TX9, 10), (RX10, TX10, 4), (RX2, TX2, 4), (RX12, TX12, 3), (RX13, TX13, 1), (RX2, TX2, 4), (RX15, TX15, 3), (RX16, TX16, 1), (RX17, TX17, 1), (RX18, TX18, 3), (RX19, TX19, 6), (RX20, TX20, 9), (RX21, TX21, 4), (RX22, TX22, 2), (RX23, TX23, 6), (RX24, TX24, 4), (RX25, TX25, 3)]
abbrev gG : Type := (Nat → ClassId) × (Nat → Nat → Nat) × (Nat → ClassId)
abbrev gTys (G : gG) : List (ClassId × FieldType) := [(G.2.2 0, .int), (G.2.2 1, .byte), (G.2.2 2, .boolean), (G.2.2 3, .object "AshCity$Place"), (G.2.2 4, .object "AshCity$Dig"), (G.2.2 5, .object "AshCity$Meaning"), (G.2.2 6, .object "AshCity$Rules"), (G.2.2 7, .object "AshCity$Find"), (G.2.2 8, .object "AshCity$Thing"), (G.2.2 9, .array .int), (G.2.2 10, .object "AshCity$Wall"), (G.2.2 11, .object "AshCity$Drawing"), (G.2.2 12, .object "AshCity$Sign"), (G.2.2 13, .object "AshCity$Work"), (G.2.2 14, .object "AshCity$Clause")]
def gK (G : gG) (U : State) : Prop := va_K (G.1, G.2.1) vwCl (gTys G) U
theorem gK.moved {G : gG} {u U : State} (hvm : u.vm.Alike U.vm) (h : gK G u) : gK G U := va_K.moved hvm h
abbrev hE : Type := (ClassId × vp_A) ⊕ (Nat × (Nat → Value))
def hAt (G : gG) (a : Nat) (e : hE) (H : Heap) : Prop := match e with
  | .inl x => H[a]? = some (vp_cell x.1 x.2)
  | .inr o => ∃ r : vw_C, vwCl[o.1]? = some r ∧ t_OB a (G.1 o.1) r.2.2 (G.2.1 o.1) H o.2
def hR (G : gG) (h : Nat → Option hE) (H : Heap) : Prop := ∀ (a : Nat) (e : hE), h a = some e → hAt G a e H
def hup (h : Nat → Option hE) (a : Nat) (e : hE) : Nat → Option hE := fun b => if b = a then some e else h b
theorem hAt.kept {G : gG} {a : Nat} {e : hE} {H H1 : Heap} (h : hAt G a e H) (hq : H1[a]? = H[a]?) : hAt G a e H1 := by
  cases e with
  | inl x => exact hq.trans h
  | inr o =>
    obtain ⟨r, h1, h2⟩ := h
    exact ⟨r, h1, h2.kept hq⟩
theorem hAt.lt {G : gG} {a : Nat} {e : hE} {H : Heap} (h : hAt G a e H) : a < H.size := by
  cases e with
  | inl x => exact (Array.getElem?_eq_some_iff.mp h).1
  | inr o =>
    obtain ⟨r, h1, cell, h2, -⟩ := h
    exact (Array.getElem?_eq_some_iff.mp h2).1
theorem hR.up {G : gG} {h : Nat → Option hE} {a : Nat} {e : hE} {H H1 : Heap} (hh : hR G h H) (he : hAt G a e H1) (oq : ∀ q : Nat, q ≠ a → H1[q]? = H[q]?) : hR G (hup h a e) H1 := by
  intro b e' hb
  unfold hup at hb
  by_cases hba : b = a
  · rw [if_pos hba] at hb
    cases hb
    subst hba
    exact he
  · rw [if_neg hba] at hb
    exact (hh b e' hb).kept (oq b hba)
theorem hR.kept {G : gG} {h : Nat → Option hE} {H H1 : Heap} (hh : hR G h H) (oq : ∀ (q : Nat) (e : hE), h q = some e → H1[q]? = H[q]?) : hR G h H1 := fun a e ha => (hh a e ha).kept (oq a e ha)
section JHEAP
variable {γ : jG} {P P' : Heap → Prop} {k n pc nL : Nat} {L : List (Nat × Value)} {st : List Value} {cc : ByteArray} {own : String} {G : gG}
theorem j_getf {C : String} {T : u_T} {N ci index a : Nat} {V : Nat → Value} (C0 : JC γ cc nL own) (hK : gK G (js γ)) (hin : ∀ w ∈ u_ws C T N, w ∈ lw_all) (hc : vwCl[ci]? = some (C, T, N)) (fk : Nat) (hk : Nat.blt fk N = true) (hlink : Cond.fieldLink own index (T fk).1 (T fk).2.1 (T fk).2.2.1 ∈ lw_all) (hP : ∀ H, P H → hAt G a (.inr (ci, V)) H) (hd : decode cc pc = .ok (.getfield index, 3))
    (kk : J γ P k n (pc + 3) L (V fk :: st)) : J γ P k n pc L (.ref a :: st) := by
  intro H locs ls hp hS hl
  obtain ⟨r, h1, cell, q1, q2, q3, q4⟩ := hP H hp
  have hr : r = (C, T, N) := Option.some.inj (h1.symm.trans hc)
  subst hr
  have hk := Nat.le_of_ble_eq_true hk
  obtain ⟨hS0, hfc, kC, hkC, hkind⟩ := hK.1 ci _ hc
  obtain ⟨cf, kf, fi, f, hi, hsl⟩ := hS0 fk hk
  refine W.getf C0.1 C0.2.1 C0.2.2.2.1 (C0.2.2.2.2.1 _ hlink) hi (u_facts hfc hkC (u_lays C0.2.2.2.2.1 hin hk) hi).1 q1 (by rw [q3]; exact fun h => by cases h) (v := V fk) ?_ rfl rfl hd (kk H locs ls hp hS hl)
  rw [hsl]
  exact q4 fk hk
theorem j_putf {C : String} {T : u_T} {N ci index a : Nat} {V : Nat → Value} (C0 : JC γ cc nL own) (hK : gK G (js γ)) (hin : ∀ w ∈ u_ws C T N, w ∈ lw_all) (ty0 : Nat → FieldType) (hty : ∀ k, k < N → parseFieldDescriptor (T k).2.2.1 = some (ty0 k)) (hnm : ∀ a, a < N → ∀ b, b < N → a ≠ b → (T a).2.1 ≠ (T b).2.1) (hc : vwCl[ci]? = some (C, T, N)) (fk : Nat) (hk : Nat.blt fk N = true) (hlink : Cond.fieldLink own index (T fk).1 (T fk).2.1 (T fk).2.2.1 ∈ lw_all) (hfin : (T fk).2.2.2 = false) {v : Value} (hn : narrow (ty0 fk) v = v) (hfit : fits (ty0 fk) v = true) (hP : ∀ H, P H → hAt G a (.inr (ci, V)) H) (hA : jA γ a)
    (hP' : ∀ H H' : Heap, P H → H'.size = H.size → (∀ q : Nat, q ≠ a → H'[q]? = H[q]?) → hAt G a (.inr (ci, updV V fk v)) H' → P' H') (hd : decode cc pc = .ok (.putfield index, 3))
    (kk : J γ P' k n (pc + 3) L st) : J γ P k n pc L (v :: .ref a :: st) := by
  intro H locs ls hp hS hl
  have hap := va_apart (own := own) C0.2.2.2.2.1 hin ty0 hty hnm hK hc
  obtain ⟨r, h1, cell, q1, q2, q3, q4⟩ := hP H hp
  have hr : r = (C, T, N) := Option.some.inj (h1.symm.trans hc)
  subst hr
  have hk := Nat.le_of_ble_eq_true hk
  obtain ⟨hS0, hfc, kC, hkC, hkind⟩ := hK.1 ci _ hc
  obtain ⟨cf, kf, fi, f, hi, hsl⟩ := hS0 fk hk
  have hlay := C0.2.2.2.2.1 _ (hin _ (u_in_lay hk))
  unfold u_lay at hlay
  rw [if_neg (by rw [hfin]; decide)] at hlay
  have hst := (u_facts hfc hkC (u_lays C0.2.2.2.2.1 hin hk) hi).1
  have h6 := u_store hfc hkC hkind hlay hi (hty fk hk) hn hfit
  refine W.putK C0.1 C0.2.1 (f := f) ⟨C0.2.2.2.1, C0.2.2.2.2.1 _ hlink, ⟨_, _, _, hi⟩, hst⟩ (by rw [q2]; exact h6) q1 q3 (by rw [hsl]; exact k2_hasslot (q4 fk hk)) rfl rfl hd fun H' e1 e2 e3 => ?_
  rw [hsl] at e1 ⊢
  exact kk H' _ ls (hP' H H' hp e2 e3 ⟨_, hc, _, e1, q2, q3, t_set q4 hap hk v⟩) (hS.put e2 e3 hA) hl
theorem j_iald {a N t0 : Nat} {f : Nat → Int32} {i : Int32} (C0 : JC γ cc nL own) (hK : gK G (js γ)) {cA : ClassId} (ht : (gTys G)[t0]? = some (cA, .int)) (hP : ∀ H, P H → hAt G a (.inl (cA, N, .inl f)) H) (hin : vp_in i N) (hd : decode cc pc = .ok (.iaload, 1))
    (kk : J γ P k n (pc + 1) L (.int (f i.toNatClampNeg) :: st)) : J γ P k n pc L (.int i :: .ref a :: st) := by
  intro H locs ls hp hS hl
  have hlt : i.toNatClampNeg < N := Nat.not_le.mp fun q => hin (Or.inr q)
  exact W.iald (v := .int (f i.toNatClampNeg)) C0.1 C0.2.1 (hP H hp) ((hK.2 t0 _ ht).1 N (fun j => .int (f j))) (fun q => by cases q) (by show ¬ (i < 0 ∨ (arrV _ _ _).slots.size ≤ _); rw [arrV_size]; exact hin) (by show (arrV _ _ _).slots[_]? = _; rw [arrV_read _ _ hlt]) rfl rfl hd (kk H locs ls hp hS hl)
theorem j_bald {a N t0 : Nat} {f : Nat → Int32} {i : Int32} (C0 : JC γ cc nL own) (hK : gK G (js γ)) {cA : ClassId} (ht : (gTys G)[t0]? = some (cA, .byte)) (hP : ∀ H, P H → hAt G a (.inl (cA, N, .inl f)) H) (hin : vp_in i N) (hd : decode cc pc = .ok (.baload, 1))
    (kk : J γ P k n (pc + 1) L (.int (f i.toNatClampNeg) :: st)) : J γ P k n pc L (.int i :: .ref a :: st) := by
  intro H locs ls hp hS hl
  have hlt : i.toNatClampNeg < N := Nat.not_le.mp fun q => hin (Or.inr q)
  exact W.bald (v := .int (f i.toNatClampNeg)) C0.1 C0.2.1 (hP H hp) ((hK.2 t0 _ ht).1 N (fun j => .int (f j))) (fun q => by cases q) (by show ¬ (i < 0 ∨ (arrV _ _ _).slots.size ≤ _); rw [arrV_size]; exact hin) (by show (arrV _ _ _).slots[_]? = _; rw [arrV_read _ _ hlt]) rfl rfl hd (kk H locs ls hp hS hl)
theorem j_zald {a N t0 : Nat} {f : Nat → Int32} {i : Int32} (C0 : JC γ cc nL own) (hK : gK G (js γ)) {cA : ClassId} (ht : (gTys G)[t0]? = some (cA, .boolean)) (hP : ∀ H, P H → hAt G a (.inl (cA, N, .inl f)) H) (hin : vp_in i N) (hd : decode cc pc = .ok (.baload, 1))
    (kk : J γ P k n (pc + 1) L (.int (f i.toNatClampNeg) :: st)) : J γ P k n pc L (.int i :: .ref a :: st) := by
  intro H locs ls hp hS hl
  have hlt : i.toNatClampNeg < N := Nat.not_le.mp fun q => hin (Or.inr q)
  exact W.zald (v := .int (f i.toNatClampNeg)) C0.1 C0.2.1 (hP H hp) ((hK.2 t0 _ ht).1 N (fun j => .int (f j))) (fun q => by cases q) (by show ¬ (i < 0 ∨ (arrV _ _ _).slots.size ≤ _); rw [arrV_size]; exact hin) (by show (arrV _ _ _).slots[_]? = _; rw [arrV_read _ _ hlt]) rfl rfl hd (kk H locs ls hp hS hl)
theorem j_iast {a N t0 : Nat} {f : Nat → Int32} {i x : Int32} (C0 : JC γ cc nL own) (hK : gK G (js γ)) {cA : ClassId} (ht : (gTys G)[t0]? = some (cA, .int)) (hP : ∀ H, P H → hAt G a (.inl (cA, N, .inl f)) H) (hin : vp_in i N) (hA : jA γ a) (hP' : ∀ H H' : Heap, P H → H'.size = H.size → (∀ q : Nat, q ≠ a → H'[q]? = H[q]?) → hAt G a (.inl (cA, N, .inl (upd f i.toNatClampNeg x))) H' → P' H') (hd : decode cc pc = .ok (.iastore, 1))
    (kk : J γ P' k n (pc + 1) L st) : J γ P k n pc L (.int x :: .int i :: .ref a :: st) := by
  intro H locs ls hp hS hl
  refine W.iast C0.1 C0.2.1 (hP H hp) ((hK.2 t0 _ ht).1 N (fun j => .int (f j))) (fun q => by cases q) (by show ¬ (i < 0 ∨ (arrV _ _ _).slots.size ≤ _); rw [arrV_size]; exact hin) rfl rfl hd fun H1 e z oq => ?_
  refine kk H1 _ ls (hP' H H1 hp z oq ?_) (hS.put z oq hA) hl
  show H1[a]? = some (vp_cell _ _)
  rw [e]
  rw [vp_cell_i, vp_cell_i, arrV_store]
  congr 2
  funext q
  by_cases hq : q = i.toNatClampNeg
  · subst hq
    simp [updV, upd, vp_nar]
    try rfl
  · simp [updV, upd, hq]
theorem j_bast {a N t0 : Nat} {f : Nat → Int32} {i x : Int32} (C0 : JC γ cc nL own) (hK : gK G (js γ)) {cA : ClassId} (ht : (gTys G)[t0]? = some (cA, .byte)) (hP : ∀ H, P H → hAt G a (.inl (cA, N, .inl f)) H) (hin : vp_in i N) (hA : jA γ a) (hP' : ∀ H H' : Heap, P H → H'.size = H.size → (∀ q : Nat, q ≠ a → H'[q]? = H[q]?) → hAt G a (.inl (cA, N, .inl (upd f i.toNatClampNeg (vp_nar .byte x)))) H' → P' H') (hd : decode cc pc = .ok (.bastore, 1))
    (kk : J γ P' k n (pc + 1) L st) : J γ P k n pc L (.int x :: .int i :: .ref a :: st) := by
  intro H locs ls hp hS hl
  refine W.bast C0.1 C0.2.1 (hP H hp) ((hK.2 t0 _ ht).1 N (fun j => .int (f j))) (fun q => by cases q) (by show ¬ (i < 0 ∨ (arrV _ _ _).slots.size ≤ _); rw [arrV_size]; exact hin) rfl rfl hd fun H1 e z oq => ?_
  refine kk H1 _ ls (hP' H H1 hp z oq ?_) (hS.put z oq hA) hl
  show H1[a]? = some (vp_cell _ _)
  rw [e]
  rw [vp_cell_i, vp_cell_i, arrV_store]
  congr 2
  funext q
  by_cases hq : q = i.toNatClampNeg
  · subst hq
    simp [updV, upd, vp_nar]
    try rfl
  · simp [updV, upd, hq]
theorem j_zast {a N t0 : Nat} {f : Nat → Int32} {i x : Int32} (C0 : JC γ cc nL own) (hK : gK G (js γ)) {cA : ClassId} (ht : (gTys G)[t0]? = some (cA, .boolean)) (hP : ∀ H, P H → hAt G a (.inl (cA, N, .inl f)) H) (hin : vp_in i N) (hA : jA γ a) (hP' : ∀ H H' : Heap, P H → H'.size = H.size → (∀ q : Nat, q ≠ a → H'[q]? = H[q]?) → hAt G a (.inl (cA, N, .inl (upd f i.toNatClampNeg (vp_nar .boolean x)))) H' → P' H') (hd : decode cc pc = .ok (.bastore, 1))
    (kk : J γ P' k n (pc + 1) L st) : J γ P k n pc L (.int x :: .int i :: .ref a :: st) := by
  intro H locs ls hp hS hl
  refine W.zast C0.1 C0.2.1 (hP H hp) ((hK.2 t0 _ ht).1 N (fun j => .int (f j))) (fun q => by cases q) (by show ¬ (i < 0 ∨ (arrV _ _ _).slots.size ≤ _); rw [arrV_size]; exact hin) rfl rfl hd fun H1 e z oq => ?_
  refine kk H1 _ ls (hP' H H1 hp z oq ?_) (hS.put z oq hA) hl
  show H1[a]? = some (vp_cell _ _)
  rw [e]
  rw [vp_cell_i, vp_cell_i, arrV_store]
  congr 2
  funext q
  by_cases hq : q = i.toNatClampNeg
  · subst hq
    simp [updV, upd, vp_nar]
    try rfl
  · simp [updV, upd, hq]
end JHEAP
/-! THE REFERENCE's WORLD: one object, its ints and its arrays of ints -/
abbrev MS : Type := (Nat → Int32) × (Nat → Nat → Int32)
def mAr : Nat → Option Nat := fun k => match k with
  | 5 => some 0
  | 6 => some 1
  | 7 => some 2
  | 8 => some 3
  | 9 => some 4
  | 10 => some 5
  | 11 => some 6
  | 12 => some 7
  | 13 => some 8
  | 14 => some 9
  | 15 => some 10
  | 16 => some 11
  | 17 => some 12
  | 18 => some 13
  | 19 => some 14
  | 22 => some 15
  | 23 => some 16
  | 24 => some 17
  | 25 => some 18
  | 26 => some 19
  | 27 => some 20
  | 37 => some 21
  | 38 => some 22
  | 39 => some 23
  | 40 => some 24
  | 41 => some 25
  | 42 => some 26
  | 43 => some 27
  | 45 => some 28
  | 46 => some 29
  | 47 => some 30
  | 48 => some 31
  | 49 => some 32
  | 50 => some 33
  | 51 => some 34
  | 52 => some 35
  | 53 => some 36
  | 54 => some 37
  | 55 => some 38
  | 56 => some 39
  | 59 => some 40
  | 60 => some 41
  | 61 => some 42
  | 62 => some 43
  | 63 => some 44
  | 64 => some 45
  | 65 => some 46
  | 66 => some 47
  | 67 => some 48
  | 70 => some 49
  | 71 => some 50
  | 72 => some 51
  | 73 => some 52
  | 74 => some 53
  | 75 => some 54
  | 76 => some 55
  | 77 => some 56
  | 78 => some 57
  | 81 => some 58
  | 82 => some 59
  | 83 => some 60
  | 84 => some 61
  | 85 => some 62
  | 86 => some 63
  | 87 => some 64
  | 88 => some 65
  | 91 => some 66
  | 92 => some 67
  | 93 => some 68
  | 94 => some 69
  | 95 => some 70
  | 96 => some 71
  | 97 => some 72
  | 98 => some 73
  | 99 => some 74
  | 102 => some 75
  | 103 => some 76
  | 104 => some 77
  | 105 => some 78
  | 106 => some 79
  | 107 => some 80
  | 108 => some 81
  | 109 => some 82
  | 110 => some 83
  | _ => none
def mLens : List Nat := [100, 100, 30, 30, 30, 100, 100, 100, 100, 100, 100, 100, 100, 100, 100, 200, 200, 200, 200, 200, 400, 180, 180, 10, 10, 10, 10, 10, 3600, 20, 20, 20, 200, 200, 200, 200, 200, 200, 180, 5, 150, 150, 150, 150, 150, 150, 150, 150, 150, 60, 60, 60, 100, 8, 256, 60, 60, 480, 30, 30, 100, 100, 100, 100, 100, 100, 8, 8, 40, 40, 8, 8, 40, 40, 100, 100, 100, 100, 100, 9, 9, 9, 30, 30]
def mTyl : List Nat := [0, 0, 0, 0, 0, 0, 0, 0, 0, 0, 0, 0, 0, 0, 0, 0, 0, 0, 0, 0, 1, 0, 0, 0, 0, 0, 0, 0, 0, 0, 0, 0, 0, 0, 0, 0, 0, 2, 0, 0, 0, 0, 0, 0, 0, 0, 0, 0, 0, 0, 0, 0, 0, 0, 0, 2, 2, 0, 0, 0, 0, 0, 0, 0, 0, 2, 0, 0, 0, 0, 0, 0, 0, 0, 0, 0, 0, 0, 0, 0, 0, 0, 0, 0]
def mLen (j : Nat) : Nat := mLens.getD j 0
def mTy (j : Nat) : Nat := mTyl.getD j 0
def sS (σ : MS) (k : Nat) (v : Int32) : MS := (fun q => if q = k then v else σ.1 q, σ.2)
def sA (σ : MS) (j i : Nat) (v : Int32) : MS := (σ.1, fun q => if q = j then upd (σ.2 j) i v else σ.2 q)
def mV (o : Nat) (σ : MS) (k : Nat) : Value := match mAr k with
  | some j => .ref (o + 1 + j)
  | none => .int (σ.1 k)
def mH (G : gG) (o : Nat) (σ : MS) : Nat → Option hE := fun a => if a = o then some (.inr (1, mV o σ)) else if o < a ∧ a < o + 1 + 84 then some (.inl (G.2.2 (mTy (a - o - 1)), mLen (a - o - 1), .inl (σ.2 (a - o - 1)))) else none
def MW (G : gG) (o : Nat) (σ : MS) (H : Heap) : Prop := hR G (mH G o σ) H
def mA (o : Nat) : Nat → Prop := fun q => o ≤ q ∧ q < o + 1 + 84
theorem mH_o {G : gG} {o : Nat} {σ : MS} : mH G o σ o = some (.inr (1, mV o σ)) := if_pos rfl
theorem mH_a {G : gG} {o : Nat} {σ : MS} {j : Nat} (hj : j < 84) : mH G o σ (o + 1 + j) = some (.inl (G.2.2 (mTy j), mLen j, .inl (σ.2 j))) := by
  unfold mH
  rw [if_neg (by omega), if_pos (by omega), show o + 1 + j - o - 1 = j by omega]
theorem MW.putS {G : gG} {o k : Nat} {σ : MS} {v : Int32} {H H' : Heap} (hk : mAr k = none) (h : MW G o σ H) (oq : ∀ q : Nat, q ≠ o → H'[q]? = H[q]?) (he : hAt G o (.inr (1, updV (mV o σ) k (.int v))) H') : MW G o (sS σ k v) H' := by
  have e : hup (mH G o σ) o (.inr (1, updV (mV o σ) k (.int v))) = mH G o (sS σ k v) := by
    funext a
    unfold hup mH
    by_cases ha : a = o
    · rw [if_pos ha, if_pos ha]
      congr 3
      funext q
      unfold updV mV sS
      by_cases hq : q = k
      · subst hq
        simp [hk]
      · simp [hq]
    · rw [if_neg ha, if_neg ha, if_neg ha]
      rfl
  unfold MW
  rw [← e]
  exact hR.up h he oq
theorem MW.ast {G : gG} {o j i : Nat} {σ : MS} {v : Int32} {H H' : Heap} (hj : j < 84) (h : MW G o σ H) (oq : ∀ q : Nat, q ≠ o + 1 + j → H'[q]? = H[q]?) (he : hAt G (o + 1 + j) (.inl (G.2.2 (mTy j), mLen j, .inl (upd (σ.2 j) i v))) H') : MW G o (sA σ j i v) H' := by
  have e : hup (mH G o σ) (o + 1 + j) (.inl (G.2.2 (mTy j), mLen j, .inl (upd (σ.2 j) i v))) = mH G o (sA σ j i v) := by
    funext a
    unfold hup
    by_cases ha : a = o + 1 + j
    · rw [if_pos ha, ha, mH_a hj]
      simp [sA]
    · rw [if_neg ha]
      unfold mH
      by_cases ho : a = o
      · rw [if_pos ho, if_pos ho]
        rfl
      · rw [if_neg ho, if_neg ho]
        by_cases hr : o < a ∧ a < o + 1 + 84
        · rw [if_pos hr, if_pos hr]
          have hne : ¬ (a - o - 1 = j) := by omega
          simp [sA, hne]
        · rw [if_neg hr, if_neg hr]
  unfold MW
  rw [← e]
  exact hR.up h he oq
def rmM (d : Nat) : Room := { frames := d, cells := 0, slots := 0, locals := 60 * d }
def mQi (G : gG) (o : Nat) (res : Int32 × MS) : Array Value → State → Outcome → State → Prop := va_Qi (fun r (_ : Unit) => r = res.1) (fun _ t => MW G o res.2 t.heap) (mA o)
def mQv (G : gG) (o : Nat) (res : Int32 × MS) : Array Value → State → Outcome → State → Prop := va_Qv (fun (_ : Unit) => True) (fun _ t => MW G o res.2 t.heap) (mA o)
def mPc (G : gG) (o : Nat) (σ : MS) (as : List Value) : Array Value → State → Prop := va_Pc (.ref o :: as) (fun U => gK G U ∧ MW G o σ U.heap)
/-- the contracts of the reference's methods: from σ, called with as, it answers res.1 and leaves res.2 -/
def MetMi (l : Launch) (G : gG) (y : MethodName) (cc : ByteArray) (nL : Nat) (ret : Option FieldType) (d o : Nat) (as : List Value) (σ : MS) (res : Int32 × MS) : Prop := Met l y (ws_ y cc nL ret) (rmM d) (mPc G o σ as) (mQi G o res) 0 0 (mA o)
def MetMv (l : Launch) (G : gG) (y : MethodName) (cc : ByteArray) (nL : Nat) (d o : Nat) (as : List Value) (σ : MS) (res : Int32 × MS) : Prop := Met l y (ws_ y cc nL none) (rmM d) (mPc G o σ as) (mQv G o res) 0 0 (mA o)
/-- a static one: no heap -/
def MetSi (l : Launch) (y : MethodName) (cc : ByteArray) (nL : Nat) (ret : Option FieldType) (d : Nat) (as : List Value) (r : Int32) : Prop := Met l y (ws_ y cc nL ret) (rmM d) (va_Pc as (fun _ => True)) (vp_Si (fun v => v = r)) 0 0 (fun _ => False)
/-- a walk inside a method of the reference -/
def MC (γ : jG) (cc : ByteArray) (nL : Nat) (G : gG) (o d : Nat) (ret : Option FieldType) (Qc : Array Value → State → Outcome → State → Prop) : Prop :=
  JC γ cc nL RX1 ∧ gK G (js γ) ∧ jA γ = mA o ∧ jR γ = rmM d ∧ (jt γ).sig.returnType = ret ∧ jQ γ = MQ (jb γ) Qc (ja γ) (js γ) 0 0 (mA o)
/-- a walk inside a static method -/
def SC (γ : jG) (cc : ByteArray) (nL : Nat) (own : String) (d : Nat) (ret : Option FieldType) (r : Int32) : Prop :=
  JC γ cc nL own ∧ jR γ = rmM d ∧ (jt γ).sig.returnType = ret ∧ jQ γ = MQ (jb γ) (vp_Si (fun v => v = r)) (ja γ) (js γ) 0 0 (fun _ => False) ∧ jA γ = fun _ => False
abbrev sP (γ : jG) : Heap → Prop := fun H => H = (js γ).heap
def mFs (idx fk : Nat) : Prop := Cond.fieldLink RX1 idx (TX1 fk).1 (TX1 fk).2.1 (TX1 fk).2.2.1 ∈ lw_all ∧ Nat.blt fk 111 = true ∧ mAr fk = none ∧ (TX1 fk).2.2.2 = false ∧ tyX1 fk = .int
def mAf (j t N : Nat) : Prop := Nat.blt j 84 = true ∧ mTy j = t ∧ mLen j = N
def mFa (idx fk j : Nat) : Prop := Cond.fieldLink RX1 idx (TX1 fk).1 (TX1 fk).2.1 (TX1 fk).2.2.1 ∈ lw_all ∧ Nat.blt fk 111 = true ∧ mAr fk = some j
section JM
variable {γ : jG} {k n pc nL : Nat} {L : List (Nat × Value)} {st : List Value} {cc : ByteArray} {G : gG} {o d : Nat} {ret : Option FieldType} {Qc : Array Value → State → Outcome → State → Prop} {σ : MS}
theorem jm_getS (M : MC γ cc nL G o d ret Qc) {idx fk : Nat} (F : mFs idx fk) (hd : decode cc pc = .ok (.getfield idx, 3)) (kk : J γ (MW G o σ) k n (pc + 3) L (.int (σ.1 fk) :: st)) : J γ (MW G o σ) k n pc L (.ref o :: st) := by
  have hv : mV o σ fk = .int (σ.1 fk) := by unfold mV; rw [F.2.2.1]
  rw [← hv] at kk
  exact j_getf (ci := 1) M.1 M.2.1 in_X1 rfl fk F.2.1 F.1 (fun H h => h o _ mH_o) hd kk
theorem jm_getA (M : MC γ cc nL G o d ret Qc) {idx fk j : Nat} (F : mFa idx fk j) (hd : decode cc pc = .ok (.getfield idx, 3)) (kk : J γ (MW G o σ) k n (pc + 3) L (.ref (o + 1 + j) :: st)) : J γ (MW G o σ) k n pc L (.ref o :: st) := by
  have hv : mV o σ fk = .ref (o + 1 + j) := by unfold mV; rw [F.2.2]
  rw [← hv] at kk
  exact j_getf (ci := 1) M.1 M.2.1 in_X1 rfl fk F.2.1 F.1 (fun H h => h o _ mH_o) hd kk
theorem jm_put (M : MC γ cc nL G o d ret Qc) {idx fk : Nat} {v : Int32} {σ1 : MS} (F : mFs idx fk) (hd : decode cc pc = .ok (.putfield idx, 3)) (e : σ1 = sS σ fk v) (kk : J γ (MW G o σ1) k n (pc + 3) L st) : J γ (MW G o σ) k n pc L (.int v :: .ref o :: st) := by
  subst e
  exact j_putf (ci := 1) M.1 M.2.1 in_X1 tyX1 tyX1_ok nmX1 rfl fk F.2.1 F.1 F.2.2.2.1 (by rw [F.2.2.2.2]; rfl) (by rw [F.2.2.2.2]; rfl) (fun H h => h o _ mH_o) (by rw [M.2.2.1]; exact ⟨Nat.le_refl _, by omega⟩) (fun H H' h _ oq he => MW.putS F.2.2.1 h oq he) hd kk
theorem jm_iald (M : MC γ cc nL G o d ret Qc) {j N : Nat} {i : Int32} (A : mAf j 0 N) (hi : okI i N = true) (hd : decode cc pc = .ok (.iaload, 1)) (kk : J γ (MW G o σ) k n (pc + 1) L (.int (σ.2 j i.toNatClampNeg) :: st)) : J γ (MW G o σ) k n pc L (.int i :: .ref (o + 1 + j) :: st) := by
  obtain ⟨hj, ht, rfl⟩ := A
  exact j_iald (t0 := 0) (cA := G.2.2 (mTy j)) M.1 M.2.1 (by rw [ht]; rfl) (fun H h => h _ _ (mH_a (Nat.le_of_ble_eq_true hj))) (okI_in hi) hd kk
theorem jm_bald (M : MC γ cc nL G o d ret Qc) {j N : Nat} {i : Int32} (A : mAf j 1 N) (hi : okI i N = true) (hd : decode cc pc = .ok (.baload, 1)) (kk : J γ (MW G o σ) k n (pc + 1) L (.int (σ.2 j i.toNatClampNeg) :: st)) : J γ (MW G o σ) k n pc L (.int i :: .ref (o + 1 + j) :: st) := by
  obtain ⟨hj, ht, rfl⟩ := A
  exact j_bald (t0 := 1) (cA := G.2.2 (mTy j)) M.1 M.2.1 (by rw [ht]; rfl) (fun H h => h _ _ (mH_a (Nat.le_of_ble_eq_true hj))) (okI_in hi) hd kk
theorem jm_zald (M : MC γ cc nL G o d ret Qc) {j N : Nat} {i : Int32} (A : mAf j 2 N) (hi : okI i N = true) (hd : decode cc pc = .ok (.baload, 1)) (kk : J γ (MW G o σ) k n (pc + 1) L (.int (σ.2 j i.toNatClampNeg) :: st)) : J γ (MW G o σ) k n pc L (.int i :: .ref (o + 1 + j) :: st) := by
  obtain ⟨hj, ht, rfl⟩ := A
  exact j_zald (t0 := 2) (cA := G.2.2 (mTy j)) M.1 M.2.1 (by rw [ht]; rfl) (fun H h => h _ _ (mH_a (Nat.le_of_ble_eq_true hj))) (okI_in hi) hd kk
theorem jm_iast (M : MC γ cc nL G o d ret Qc) {j N : Nat} {i x : Int32} {σ1 : MS} (A : mAf j 0 N) (hi : okI i N = true) (hd : decode cc pc = .ok (.iastore, 1)) (e : σ1 = sA σ j i.toNatClampNeg x) (kk : J γ (MW G o σ1) k n (pc + 1) L st) : J γ (MW G o σ) k n pc L (.int x :: .int i :: .ref (o + 1 + j) :: st) := by
  obtain ⟨hj, ht, rfl⟩ := A
  subst e
  exact j_iast (t0 := 0) (cA := G.2.2 (mTy j)) M.1 M.2.1 (by rw [ht]; rfl) (fun H h => h _ _ (mH_a (Nat.le_of_ble_eq_true hj))) (okI_in hi) (by have h := Nat.le_of_ble_eq_true hj; rw [M.2.2.1]; exact ⟨by omega, by omega⟩) (fun H H' h _ oq he => MW.ast (Nat.le_of_ble_eq_true hj) h oq he) hd kk
theorem jm_bast (M : MC γ cc nL G o d ret Qc) {j N : Nat} {i x : Int32} {σ1 : MS} (A : mAf j 1 N) (hi : okI i N = true) (hd : decode cc pc = .ok (.bastore, 1)) (e : σ1 = sA σ j i.toNatClampNeg (vp_nar .byte x)) (kk : J γ (MW G o σ1) k n (pc + 1) L st) : J γ (MW G o σ) k n pc L (.int x :: .int i :: .ref (o + 1 + j) :: st) := by
  obtain ⟨hj, ht, rfl⟩ := A
  subst e
  exact j_bast (t0 := 1) (cA := G.2.2 (mTy j)) M.1 M.2.1 (by rw [ht]; rfl) (fun H h => h _ _ (mH_a (Nat.le_of_ble_eq_true hj))) (okI_in hi) (by have h := Nat.le_of_ble_eq_true hj; rw [M.2.2.1]; exact ⟨by omega, by omega⟩) (fun H H' h _ oq he => MW.ast (Nat.le_of_ble_eq_true hj) h oq he) hd kk
theorem jm_zast (M : MC γ cc nL G o d ret Qc) {j N : Nat} {i x : Int32} {σ1 : MS} (A : mAf j 2 N) (hi : okI i N = true) (hd : decode cc pc = .ok (.bastore, 1)) (e : σ1 = sA σ j i.toNatClampNeg (vp_nar .boolean x)) (kk : J γ (MW G o σ1) k n (pc + 1) L st) : J γ (MW G o σ) k n pc L (.int x :: .int i :: .ref (o + 1 + j) :: st) := by
  obtain ⟨hj, ht, rfl⟩ := A
  subst e
  exact j_zast (t0 := 2) (cA := G.2.2 (mTy j)) M.1 M.2.1 (by rw [ht]; rfl) (fun H h => h _ _ (mH_a (Nat.le_of_ble_eq_true hj))) (okI_in hi) (by have h := Nat.le_of_ble_eq_true hj; rw [M.2.2.1]; exact ⟨by omega, by omega⟩) (fun H H' h _ oq he => MW.ast (Nat.le_of_ble_eq_true hj) h oq he) hd kk
theorem jm_iret {v : Int32} {res : Int32 × MS} (M : MC γ cc nL G o d (some .int) (mQi G o res)) (hd : decode cc pc = .ok (.ireturn, 1)) (hf : some (v, σ) = some res) : J γ (MW G o σ) 0 0 pc L [.int v] := by
  intro H locs ls hp hS hl
  obtain ⟨hC, hK, hA, hR, hr, hQ⟩ := M
  cases hf
  rw [hQ]
  rw [hA] at hS
  exact W.iret hC.1 hC.2.1 hr (fun t ht hW => ⟨⟨v, (), rfl, rfl, by show MW G o σ t.heap; rw [ht]; exact hp⟩, hS.F ht⟩) hS.2.2 hd (hlocks := hC.2.2.2.2.2)
theorem jm_zret {v : Int32} {res : Int32 × MS} (M : MC γ cc nL G o d (some .boolean) (mQi G o res)) (hd : decode cc pc = .ok (.ireturn, 1)) (hb : okB v = true) (hf : some (v, σ) = some res) : J γ (MW G o σ) 0 0 pc L [.int v] := by
  intro H locs ls hp hS hl
  obtain ⟨hC, hK, hA, hR, hr, hQ⟩ := M
  cases hf
  rw [hQ]
  rw [hA] at hS
  exact W.zret hC.1 hC.2.1 hr (okB_nar hb) (fun t ht hW => ⟨⟨v, (), rfl, rfl, by show MW G o σ t.heap; rw [ht]; exact hp⟩, hS.F ht⟩) hS.2.2 hd (hlocks := hC.2.2.2.2.2)
theorem jm_vret {v : Int32} {res : Int32 × MS} (M : MC γ cc nL G o d none (mQv G o res)) (hd : decode cc pc = .ok (.return_, 1)) (hf : some (v, σ) = some res) : J γ (MW G o σ) 0 0 pc L [] := by
  intro H locs ls hp hS hl
  obtain ⟨hC, hK, hA, hR, hr, hQ⟩ := M
  cases hf
  rw [hQ]
  rw [hA] at hS
  exact W.vret hC.1 hC.2.1 hr (fun t ht hW => ⟨⟨(), rfl, trivial, by show MW G o σ t.heap; rw [ht]; exact hp⟩, hS.F ht⟩) hS.2.2 hd (hlocks := hC.2.2.2.2.2)
theorem js_iret {own : String} {v r : Int32} (M : SC γ cc nL own d (some .int) r) (hd : decode cc pc = .ok (.ireturn, 1)) (hf : some v = some r) : J γ (sP γ) 0 0 pc L [.int v] := by
  intro H locs ls hp hS hl
  obtain ⟨hC, hR, hr, hQ, hA⟩ := M
  cases hf
  rw [hQ]
  rw [hA] at hS
  exact W.iret hC.1 hC.2.1 hr (fun t ht hW => ⟨v, rfl, rfl, by rw [ht]; exact hp⟩) hS.2.2 hd (hlocks := hC.2.2.2.2.2)
theorem js_zret {own : String} {v r : Int32} (M : SC γ cc nL own d (some .boolean) r) (hd : decode cc pc = .ok (.ireturn, 1)) (hb : okB v = true) (hf : some v = some r) : J γ (sP γ) 0 0 pc L [.int v] := by
  intro H locs ls hp hS hl
  obtain ⟨hC, hR, hr, hQ, hA⟩ := M
  cases hf
  rw [hQ]
  rw [hA] at hS
  exact W.zret hC.1 hC.2.1 hr (okB_nar hb) (fun t ht hW => ⟨v, rfl, rfl, by rw [ht]; exact hp⟩) hS.2.2 hd (hlocks := hC.2.2.2.2.2)
/-- what a call of the reference's own method asks, but for its contract -/
def mCw (idx : Nat) (y : MethodName) (cb : ByteArray) (mL : Nat) (ret : Option FieldType) (na : Nat) : Prop := GoodIn lw_all (wsV RX1 idx RX1 y (ws_ y cb mL ret)) ∧ (y.cls = RX1 ∧ y.cls ≠ "java/lang/invoke/MethodHandle" ∧ y.cls ≠ "java/lang/invoke/VarHandle" ∧ (parseMethodDescriptor y.desc).map (fun d => d.parameters.length) = some na) ∧ mL ≤ 41
theorem m_blind (G : gG) (o : Nat) (σ : MS) (as : List Value) : FrameBlind (mPc G o σ as) := fun a U g mk q => ⟨q.1, gK.moved (Vm.Alike.refl U.vm) q.2.1, q.2.2⟩
theorem m_preV {H : Heap} {as : List Value} (hK : gK G (js γ)) (h : MW G o σ H) : PreV (js γ) H RX1 o (mPc G o σ as) as := by
  refine ⟨m_blind G o σ as, ?_, fun U hU hW => ⟨rfl, gK.moved hW.alike hK, by rw [hU]; exact h⟩⟩
  obtain ⟨r, h1, cell, q1, q2, q3, q4⟩ := h o _ mH_o
  obtain ⟨-, hfc, -⟩ := hK.1 1 _ (rfl : vwCl[1]? = some (RX1, TX1, 111))
  exact ⟨cell, q1, by rw [q3]; rfl, by rw [q2]; exact hfc⟩
theorem jm_calli {idx mL na d' : Nat} {y : MethodName} {cb : ByteArray} {rt : Option FieldType} {As rest : List Value} {r : Int32 × MS} (M : MC γ cc nL G o d ret Qc) (cw : mCw idx y cb mL rt na) (hM : MetMi (jl γ) G y cb mL rt d' o As σ r) (hdd : Nat.blt d' d = true) (hst : st = As.reverse ++ .ref o :: rest) (hna : As.length = na) (hrm : Nat.ble ((rest.map fun v => v.category).sum) 8 = true) (hd : decode cc pc = .ok (.invokevirtual idx, 3))
    (kk : J γ (MW G o r.2) 0 0 (pc + 3) L (.int r.1 :: rest)) : J γ (MW G o σ) 0 0 pc L st := by
  intro H locs ls hp hS hl
  obtain ⟨hC, hK, hA, hR, hr, hQ⟩ := M
  obtain ⟨cw1, cw2, cw3⟩ := cw
  have hdd := Nat.le_of_ble_eq_true hdd
  refine va_calli (va_runV (As := As) (rest := rest) ⟨hC.1, hC.2.1, hC.2.2.1, hC.2.2.2.1, hC.2.2.2.2.1⟩ hM (cwV na hC.2.2.2.2.1 cw1 rfl rfl rfl cw2 ⟨by rw [hR]; exact hdd, by rw [hR]; show 8 + (mL + 11) + 60 * d' ≤ 60 * d; omega⟩) (m_preV hK hp) rfl hna (by rw [← hC.2.2.1]; exact hl.1) hst (lv_room (Nat.le_of_ble_eq_true hrm)) hd ⟨Nat.zero_le _, Nat.zero_le _⟩) hS (fun q _ h => by rw [hA]; exact h) (fun q h => by rw [hA]; exact h) (fun r1 u t H1 locs1 ht hvm hw hB hz hk1 hS1 => ?_)
  subst hw
  rw [ht] at hB
  exact kk H1 locs1 ls hB hS1 hl
theorem jm_callv {idx mL na d' : Nat} {y : MethodName} {cb : ByteArray} {As rest : List Value} {r : Int32 × MS} (M : MC γ cc nL G o d ret Qc) (cw : mCw idx y cb mL none na) (hM : MetMv (jl γ) G y cb mL d' o As σ r) (hdd : Nat.blt d' d = true) (hst : st = As.reverse ++ .ref o :: rest) (hna : As.length = na) (hrm : Nat.ble ((rest.map fun v => v.category).sum) 8 = true) (hd : decode cc pc = .ok (.invokevirtual idx, 3))
    (kk : J γ (MW G o r.2) 0 0 (pc + 3) L rest) : J γ (MW G o σ) 0 0 pc L st := by
  intro H locs ls hp hS hl
  obtain ⟨hC, hK, hA, hR, hr, hQ⟩ := M
  obtain ⟨cw1, cw2, cw3⟩ := cw
  have hdd := Nat.le_of_ble_eq_true hdd
  refine va_callv (va_runV (As := As) (rest := rest) ⟨hC.1, hC.2.1, hC.2.2.1, hC.2.2.2.1, hC.2.2.2.2.1⟩ hM (cwV na hC.2.2.2.2.1 cw1 rfl rfl rfl cw2 ⟨by rw [hR]; exact hdd, by rw [hR]; show 8 + (mL + 11) + 60 * d' ≤ 60 * d; omega⟩) (m_preV hK hp) rfl hna (by rw [← hC.2.2.1]; exact hl.1) hst (lv_room (Nat.le_of_ble_eq_true hrm)) hd ⟨Nat.zero_le _, Nat.zero_le _⟩) hS (fun q _ h => by rw [hA]; exact h) (fun q h => by rw [hA]; exact h) (fun u t H1 locs1 ht hvm hw hB hz hk1 hS1 => ?_)
  rw [ht] at hB
  exact kk H1 locs1 ls hB hS1 hl
end JM
/-- what a static call asks, but for its contract -/
def sCw (own : String) (idx : Nat) (y : MethodName) (cb : ByteArray) (mL : Nat) (ret : Option FieldType) (na : Nat) : Prop := GoodIn lw_all (va_wsS own idx y (ws_ y cb mL ret)) ∧ (y.cls ≠ "java/lang/invoke/MethodHandle" ∧ y.cls ≠ "java/lang/invoke/VarHandle" ∧ (parseMethodDescriptor y.desc).map (fun d => d.parameters.length) = some na) ∧ mL ≤ 41
theorem j_calls {γ : jG} {P : Heap → Prop} {k n pc nL : Nat} {L : List (Nat × Value)} {st : List Value} {cc : ByteArray} {own : String} {idx mL na d d' : Nat} {y : MethodName} {cb : ByteArray} {rt : Option FieldType} {As rest : List Value} {r : Int32} (C : JC γ cc nL own) (hfr : Nat.ble (d' + 1) d = true) (hR : d ≤ (jR γ).frames ∧ 60 * d ≤ (jR γ).locals) (cw : sCw own idx y cb mL rt na) (hM : MetSi (jl γ) y cb mL rt d' As r) (hst : st = As.reverse ++ rest) (hna : As.length = na) (hrm : Nat.ble ((rest.map fun v => v.category).sum) 8 = true) (hd : decode cc pc = .ok (.invokestatic idx, 3))
    (kk : J γ P k n (pc + 3) L (.int r :: rest)) (hkn : k ≤ (jR γ).cells ∧ n ≤ (jR γ).slots) : J γ P k n pc L st := by
  intro H locs ls hp hS hl
  obtain ⟨cw1, cw2, cw3⟩ := cw
  have hfr := Nat.le_of_ble_eq_true hfr
  refine vp_callSi (W.runS (As := As) (rest := rest) ⟨C.1, C.2.1, C.2.2.1, C.2.2.2.1, C.2.2.2.2.1⟩ hM (va_cwS na C.2.2.2.2.1 cw1 rfl rfl rfl cw2 ⟨Nat.le_trans hfr hR.1, Nat.le_trans (show 8 + (mL + 11) + 60 * d' ≤ 60 * d by omega) hR.2⟩) ⟨fun _ _ _ _ q => q, fun U hU hW => ⟨rfl, trivial⟩⟩ rfl hna (by rw [← C.2.2.1]; exact hl.1) hst (lv_room (Nat.le_of_ble_eq_true hrm)) hd hkn) (fun r1 hr1 => ?_)
  subst hr1
  exact kk H locs ls hp hS hl
theorem jm_calls {γ : jG} {pc nL : Nat} {L : List (Nat × Value)} {st : List Value} {cc : ByteArray} {G : gG} {o d : Nat} {ret : Option FieldType} {Qc : Array Value → State → Outcome → State → Prop} {P : Heap → Prop} {idx mL na d' : Nat} {y : MethodName} {cb : ByteArray} {rt : Option FieldType} {As rest : List Value} {r : Int32} (M : MC γ cc nL G o d ret Qc) (cw : sCw RX1 idx y cb mL rt na) (hM : MetSi (jl γ) y cb mL rt d' As r) (hdd : Nat.blt d' d = true) (hst : st = As.reverse ++ rest) (hna : As.length = na) (hrm : Nat.ble ((rest.map fun v => v.category).sum) 8 = true) (hd : decode cc pc = .ok (.invokestatic idx, 3)) (kk : J γ P 0 0 (pc + 3) L (.int r :: rest)) : J γ P 0 0 pc L st :=
  j_calls (d := d) M.1 hdd (by rw [M.2.2.2.1]; exact ⟨Nat.le_refl _, Nat.le_refl _⟩) cw hM hst hna hrm hd kk ⟨Nat.zero_le _, Nat.zero_le _⟩
theorem js_calls {γ : jG} {pc nL : Nat} {L : List (Nat × Value)} {st : List Value} {cc : ByteArray} {own : String} {d : Nat} {ret : Option FieldType} {r0 : Int32} {P : Heap → Prop} {idx mL na d' : Nat} {y : MethodName} {cb : ByteArray} {rt : Option FieldType} {As rest : List Value} {r : Int32} (M : SC γ cc nL own d ret r0) (cw : sCw own idx y cb mL rt na) (hM : MetSi (jl γ) y cb mL rt d' As r) (hdd : Nat.blt d' d = true) (hst : st = As.reverse ++ rest) (hna : As.length = na) (hrm : Nat.ble ((rest.map fun v => v.category).sum) 8 = true) (hd : decode cc pc = .ok (.invokestatic idx, 3)) (kk : J γ P 0 0 (pc + 3) L (.int r :: rest)) : J γ P 0 0 pc L st :=
  j_calls (d := d) M.1 hdd (by rw [M.2.1]; exact ⟨Nat.le_refl _, Nat.le_refl _⟩) cw hM hst hna hrm hd kk ⟨Nat.zero_le _, Nat.zero_le _⟩
/-- a method's contract out of its walk -/
theorem metMi_of {l : Launch} {G : gG} {y : MethodName} {cc : ByteArray} {nL d o : Nat} {ret : Option FieldType} {as : List Value} {σ : MS} {res : Int32 × MS} (hpl : plainName y.cls = true) (hcls : y.cls = RX1) (hlen : Nat.ble (lg_sl (.ref o :: as)).length nL = true)
    (body : ∀ γ : jG, jl γ = l → MC γ cc nL G o d ret (mQi G o res) → J γ (MW G o σ) 0 0 0 (lv_args 0 (.ref o :: as)) []) : MetMi l G y cc nL ret d o as σ res := by
  refine Met.ofW (cc := cc) (maxL := nL) (ret := ret) hpl rfl ?_
  intro p e s m args below meth c s₁ B hml hv
  obtain ⟨rfl, hK, hP⟩ := hv
  have hts := atoms_spec (ws := ws_ y cc nL ret) B.pre
  have hts : ∀ w ∈ lw_all, w.before _ s = true := fun w h => hts w (List.mem_cons_of_mem _ h)
  have hown : s.vm.findClass RX1 = some m.cls := by rw [← hcls]; exact findClass_of_methodNamed B.named
  have hl := lv_entry (.ref o :: as) (n := nL) (Nat.le_of_ble_eq_true hlen)
  rw [lg_entry_eq]
  refine body ((p, l, e, _, s), (m, _, below, meth, c), mA o, _) rfl ⟨⟨B.exec, B.bytes, hml, hown, hts, B.notSynchronized⟩, hK, rfl, rfl, B.returns, rfl⟩ s.heap [] _ hP va_S.rf ?_
  show lv_has _ c.maxLocals _
  rw [hml]
  exact hl
theorem metMv_of {l : Launch} {G : gG} {y : MethodName} {cc : ByteArray} {nL d o : Nat} {as : List Value} {σ : MS} {res : Int32 × MS} (hpl : plainName y.cls = true) (hcls : y.cls = RX1) (hlen : Nat.ble (lg_sl (.ref o :: as)).length nL = true)
    (body : ∀ γ : jG, jl γ = l → MC γ cc nL G o d none (mQv G o res) → J γ (MW G o σ) 0 0 0 (lv_args 0 (.ref o :: as)) []) : MetMv l G y cc nL d o as σ res := by
  refine Met.ofW (cc := cc) (maxL := nL) (ret := none) hpl rfl ?_
  intro p e s m args below meth c s₁ B hml hv
  obtain ⟨rfl, hK, hP⟩ := hv
  have hts := atoms_spec (ws := ws_ y cc nL none) B.pre
  have hts : ∀ w ∈ lw_all, w.before _ s = true := fun w h => hts w (List.mem_cons_of_mem _ h)
  have hown : s.vm.findClass RX1 = some m.cls := by rw [← hcls]; exact findClass_of_methodNamed B.named
  have hl := lv_entry (.ref o :: as) (n := nL) (Nat.le_of_ble_eq_true hlen)
  rw [lg_entry_eq]
  refine body ((p, l, e, _, s), (m, _, below, meth, c), mA o, _) rfl ⟨⟨B.exec, B.bytes, hml, hown, hts, B.notSynchronized⟩, hK, rfl, rfl, B.returns, rfl⟩ s.heap [] _ hP va_S.rf ?_
  show lv_has _ c.maxLocals _
  rw [hml]
  exact hl
theorem metSi_of {l : Launch} {y : MethodName} {cc : ByteArray} {nL d : Nat} {ret : Option FieldType} {as : List Value} {r : Int32} {own : String} (hpl : plainName y.cls = true) (hcls : y.cls = own) (hlen : Nat.ble (lg_sl as).length nL = true)
    (body : ∀ γ : jG, jl γ = l → SC γ cc nL own d ret r → J γ (sP γ) 0 0 0 (lv_args 0 as) []) : MetSi l y cc nL ret d as r := by
  refine Met.ofW (cc := cc) (maxL := nL) (ret := ret) hpl rfl ?_
  intro p e s m args below meth c s₁ B hml hv
  obtain ⟨rfl, -⟩ := hv
  have hts := atoms_spec (ws := ws_ y cc nL ret) B.pre
  have hts : ∀ w ∈ lw_all, w.before _ s = true := fun w h => hts w (List.mem_cons_of_mem _ h)
  have hown : s.vm.findClass own = some m.cls := by rw [← hcls]; exact findClass_of_methodNamed B.named
  have hl := lv_entry as (n := nL) (Nat.le_of_ble_eq_true hlen)
  rw [lg_entry_eq]
  refine body ((p, l, e, _, s), (m, _, below, meth, c), (fun _ => False), _) rfl ⟨⟨B.exec, B.bytes, hml, hown, hts, B.notSynchronized⟩, rfl, B.returns, rfl, rfl⟩ s.heap [] _ rfl va_S.rf ?_
  show lv_has _ c.maxLocals _
  rw [hml]
  exact hl
