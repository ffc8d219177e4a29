/-! what evaluation leaves as it was, side by side; likeness -/
def Kx (τ τ' : XS) : Prop := τ'.1 = τ.1 ∧ τ'.2.1 = τ.2.1 ∧ PM M0 τ.2.2.2.1 τ'.2.2.2.1 ∧ WFp τ'
def Km (σ σ' : MS) : Prop := σ'.1 = σ.1 ∧ ∀ j, ¬ j = 37 → ¬ j = 38 → ¬ j = 39 → σ'.2 j = σ.2 j
section LIKES
variable {F : Nat} {τ : XS} {σ : MS}
theorem Kx.rf (h : Rh τ σ) : Kx τ τ := ⟨rfl, rfl, PM.rf _, h.wf⟩
theorem Km.rf : Km σ σ := ⟨rfl, fun _ _ _ _ => rfl⟩
theorem Kx.tr {τ1 τ2 : XS} (h1 : Kx τ τ1) (h2 : Kx τ1 τ2) : Kx τ τ2 := ⟨h2.1.trans h1.1, h2.2.1.trans h1.2.1, h1.2.2.1.tr h2.2.2.1, h2.2.2.2⟩
theorem Km.tr {σ1 σ2 : MS} (h1 : Km σ σ1) (h2 : Km σ1 σ2) : Km σ σ2 := ⟨h2.1.trans h1.1, fun j a b c => (h2.2 j a b c).trans (h1.2 j a b c)⟩
theorem Kx.new {τ1 : XS} (h1 : Kx τ τ1) (e : pE) : Kx τ (xN τ1 e) := ⟨h1.1, h1.2.1, h1.2.2.1.tr (PM.new h1.2.2.2), h1.2.2.2.new⟩
theorem R.kk {τ' : XS} {σ' : MS} (h : R τ σ) (kx : Kx τ τ') (km : Km σ σ') : R τ' σ' := by
  obtain ⟨k1, k2, k4, k5⟩ := kx
  obtain ⟨k6, k7⟩ := km
  have ks : RS τ' σ' := by unfold RS; rw [k1, k6]; exact h.s
  have ka : RA τ' σ' := by
    unfold RA
    rw [k1, k7 0 (by decide) (by decide) (by decide), k7 20 (by decide) (by decide) (by decide), k7 53 (by decide) (by decide) (by decide), k7 66 (by decide) (by decide) (by decide), k7 67 (by decide) (by decide) (by decide), k7 68 (by decide) (by decide) (by decide), k7 69 (by decide) (by decide) (by decide), k7 72 (by decide) (by decide) (by decide), k7 73 (by decide) (by decide) (by decide)]
    exact h.a
  refine h.keep ks ka (by rw [k6]; exact h.sc) k2 k4 k5 (fun k _ => by rw [k6]) (fun j hj => k7 j ?_ ?_ ?_)
  · rintro rfl; simp at hj
  · rintro rfl; simp at hj
  · rintro rfl; simp at hj
theorem Rh.kk {τ' : XS} {σ' : MS} (h : Rh τ σ) (kx : Kx τ τ') (km : Km σ σ') : Rh τ' σ' := by
  refine R.kk h kx ⟨?_, km.2⟩
  show (sS σ' 58 (-1)).1 = (sS σ 58 (-1)).1
  unfold sS
  rw [km.1]
theorem Ke.kx {τ' : XS} {σ' : MS} (k : Ke τ σ τ' σ') : Kx τ τ' := ⟨k.2.2.1, k.2.2.2.1, k.2.1, k.1.wf⟩
theorem Ke.km {τ' : XS} {σ' : MS} (k : Ke τ σ τ' σ') : Km σ σ' := ⟨k.2.2.2.2.1, k.2.2.2.2.2⟩
/-- the value of a question is the same in every state that evaluation leaves -/
theorem numO_v (hF : 1000 ≤ F) (h : Rh τ σ) (l w a b c d e : Int32) : ∃ v, (∀ τ', Kx τ τ' → ∃ τ2, x0_numberOf F l τ'.2.2.2.2 w (askX τ' a b c d e) = some (v, τ2, 0, 0) ∧ Kx τ' τ2) ∧ ∀ σ', Km σ σ' → ∃ σ2, m_numberBy F l w (askM σ' a b c d e) = some (v, σ2) ∧ Km σ' σ2 := by
  obtain ⟨v, τ1, σ1, e1, e2, k⟩ := numO_j hF h l w a b c d e
  refine ⟨v, fun τ' kx => ?_, fun σ' km => ?_⟩
  · obtain ⟨v', τ2, σ2, e3, e4, k'⟩ := numO_j hF (h.kk kx Km.rf) l w a b c d e
    rw [e2] at e4
    cases e4
    exact ⟨τ2, e3, k'.kx⟩
  · obtain ⟨v', τ2, σ2, e3, e4, k'⟩ := numO_j hF (h.kk (Kx.rf h) km) l w a b c d e
    rw [e1] at e3
    cases e3
    exact ⟨σ2, e4, k'.km⟩
theorem numS_v (hF : 1000 ≤ F) (h : Rh τ σ) (a b c d e : Int32) : ∃ v, (∀ τ', Kx τ τ' → ∃ τ2, x0_numberings F τ'.2.2.2.2 (askX τ' a b c d e) = some (v, τ2, 0, 0) ∧ Kx τ' τ2) ∧ ∀ σ', Km σ σ' → ∃ σ2, m_numberings F (askM σ' a b c d e) = some (v, σ2) ∧ Km σ' σ2 := by
  obtain ⟨v, τ1, σ1, e1, e2, k⟩ := numS_j hF h a b c d e
  refine ⟨v, fun τ' kx => ?_, fun σ' km => ?_⟩
  · obtain ⟨v', τ2, σ2, e3, e4, k'⟩ := numS_j hF (h.kk kx Km.rf) a b c d e
    rw [e2] at e4
    cases e4
    exact ⟨τ2, e3, k'.kx⟩
  · obtain ⟨v', τ2, σ2, e3, e4, k'⟩ := numS_j hF (h.kk (Kx.rf h) km) a b c d e
    rw [e1] at e3
    cases e3
    exact ⟨σ2, e4, k'.km⟩
theorem xd_kind_e {a : Nat} {V : Nat → Value} {kind : Int32} (h0 : τ.2.2.2.1 a = some (.inr (5 + cN kind, V))) (hk0 : 0 ≤ kind.toInt) (hk2 : kind.toInt ≤ 2) : xd_kind F a τ = some (kind, τ, 0, 0) := by
  have hi : ∀ c : Nat, isC τ a [c] = decide (5 + cN kind = c) := by
    intro c
    unfold isC
    rw [h0]
    simp
  simp only [xd_kind, hi]
  rcases kind_c hk0 hk2 with ⟨e1, e2⟩ | ⟨e1, e2⟩ | ⟨e1, e2⟩ <;> rw [e2, e1] <;> rfl
theorem op_barred (hF : 1000 ≤ F) (h : R τ σ) (x1 : Int32) : Op σ (x0_barred F x1 τ) (m_barred F x1 σ) := by
  obtain ⟨⟨N, hN, hNb⟩, hd, -⟩ := h.dg
  rw [hN, cN_nI (by omega)] at hd
  have e4 : τ.1.1 4 = nI N := h.e4.trans hN
  simp only [x0_barred, m_barred, x0_in_e, m_isDig_e, ob_s, bI_0, ite_not, e4, hN, ni_i (show N < 2147483648 by omega)]
  refine Op.ite (fun c1 => ?_) (fun _ => Op.same h rfl rfl)
  obtain ⟨i, ib, rfl, ii⟩ := nn_of c1.1
  rw [ni_i ib] at c1
  obtain ⟨a, ha, ⟨b, V, g0, g1, g2, g3, g4, g5, g6, g7, g8, g9, g10⟩, hok, hk0, hk2, hf⟩ := hd i (by omega)
  have hc : (5 + cN (σ.2 6 i)) ∈ [5, 6, 7] := by
    rcases kind_c hk0 hk2 with ⟨-, q⟩ | ⟨-, q⟩ | ⟨-, q⟩ <;> rw [q] <;> simp
  have g0' : (xN τ (.inr (19, fun q => defaultValue (tyX19 q)))).2.2.2.1 a = some (.inr (5 + cN (σ.2 6 i), V)) := by
    have := h.wf a _ g0
    exact (if_neg (by omega)).trans g0
  simp only [okI_nI (show i < 100 by omega) (show 100 < 2147483648 by omega), if_true, ni_c ib, ha, ob_s, xd_kind_e g0 hk0 hk2, tk_00]
  refine Op.ite (fun _ => Op.same h rfl rfl) (fun c2 => ?_)
  simp only [gI_of g0 hc g4, gI_of g0' hc g5, gI_of g0' hc g2, xd_kind_e g0' hk0 hk2, ob_s, nx_e, tk_00, ask_x, ask_m _ _ _ _ 0]
  obtain ⟨v, τ', σ', e1, e2, k⟩ := numO_j hF h.h 102 7 (σ.2 11 i) (σ.2 5 i) (σ.2 6 i) 0 (-1)
  rw [e1, e2]
  simp only [ob_s, tk_00]
  have h10 : (askM σ (σ.2 11 i) (σ.2 5 i) (σ.2 6 i) 0 (-1)).2 10 i = σ.2 10 i := rfl
  rw [h10]
  by_cases c3 : σ.2 10 i ≤ v
  · rw [if_pos c3, if_pos c3]
    exact k.op h rfl rfl (Nat.le_of_ble_eq_true rfl) (Nat.le_of_ble_eq_true rfl)
  · rw [if_neg c3, if_neg c3]
    exact k.op h rfl rfl (Nat.le_of_ble_eq_true rfl) (Nat.le_of_ble_eq_true rfl)
/-! agreement of marks -/
theorem xr_n (a b : Nat) : nI a ^^^ nI b = nI (a ^^^ b) := by
  apply Int32.toBitVec_inj.1
  show BitVec.ofNat 32 a ^^^ BitVec.ofNat 32 b = BitVec.ofNat 32 (a ^^^ b)
  apply BitVec.eq_of_getLsbD_eq
  intro i hi
  simp [BitVec.getLsbD_ofNat, hi]
def bcV (x : Int32) : Int32 :=
  let y1 := x - (((x.toUInt32 >>> ((1 : Int32).toUInt32 &&& Int32.toUInt32 31)).toInt32) &&& 1431655765)
  let y2 := (y1 &&& 858993459) + (((y1.toUInt32 >>> ((2 : Int32).toUInt32 &&& Int32.toUInt32 31)).toInt32) &&& 858993459)
  let y3 := (y2 + ((y2.toUInt32 >>> ((4 : Int32).toUInt32 &&& Int32.toUInt32 31)).toInt32)) &&& 252645135
  let y4 := y3 + ((y3.toUInt32 >>> ((8 : Int32).toUInt32 &&& Int32.toUInt32 31)).toInt32)
  let y5 := y4 + ((y4.toUInt32 >>> ((16 : Int32).toUInt32 &&& Int32.toUInt32 31)).toInt32)
  y5 &&& 63
theorem bc_e (x : Int32) : x0_sizeOf F x = some (bcV x) := rfl
def bt1 (x k : Int32) : Int32 := (x >>> (k &&& 31)) &&& 1
def agV (x : Int32) : Int32 := 8 - bt1 x 0 - bt1 x 1 - bt1 x 2 - bt1 x 3 - bt1 x 4 - bt1 x 5 - bt1 x 6 - bt1 x 7
theorem ag_256 : ∀ k : Fin 256, 8 - bcV (nI k.1) = agV (nI k.1) := by decide +kernel
theorem ag_e {x y : Int32} (hx : 0 ≤ x.toInt ∧ x.toInt ≤ 255) (hy : 0 ≤ y.toInt ∧ y.toInt ≤ 255) : 8 - bcV (x ^^^ y) = agV (x ^^^ y) := by
  obtain ⟨a, ab, rfl, ai⟩ := nn_of hx.1
  obtain ⟨b, bb, rfl, bi⟩ := nn_of hy.1
  rw [ni_i ab] at hx
  rw [ni_i bb] at hy
  rw [xr_n]
  exact ag_256 ⟨a ^^^ b, Nat.xor_lt_two_pow (n := 8) (by omega) (by omega)⟩
theorem agreeing_e (hF : 1000 ≤ F) {f t : Nat} (hf : f < 150) (ht : t < 60) : m_agreeing F (nI f) (nI t) σ = some (agV (σ.2 47 f ^^^ σ.2 51 t), σ) := by
  unfold m_agreeing
  have step : ∀ (G : Nat) (v : Int32) (k : Nat), k < 8 → lp (m_agreeing_B6 F (nI f) (nI t)) (G + 1) (v, nI k, σ) = lp (m_agreeing_B6 F (nI f) (nI t)) G (v - bt1 (σ.2 47 f ^^^ σ.2 51 t) (nI k), nI (k + 1), σ) := by
    intro G v k hk
    rw [lp_s]
    unfold m_agreeing_B6
    simp only [Int32.le_iff_toInt_le, li_8, ni_i (show k < 2147483648 by omega)]
    rw [if_neg (by omega)]
    simp only [okI_nI hf (show 150 < 2147483648 by omega), okI_nI ht (show 60 < 2147483648 by omega), if_true, nx_e, ni_c (show f < 2147483648 by omega), ni_c (show t < 2147483648 by omega), nI_succ]
    rfl
  obtain ⟨G, rfl⟩ : ∃ G, F = G + 1 + 8 := ⟨F - 9, by omega⟩
  show lp (m_agreeing_B6 (G + 1 + 8) (nI f) (nI t)) (G + 1 + 7 + 1) (8, nI 0, σ) = _
  rw [step _ _ 0 (by omega), step (G + 1 + 6) _ 1 (by omega), step (G + 1 + 5) _ 2 (by omega), step (G + 1 + 4) _ 3 (by omega), step (G + 1 + 3) _ 4 (by omega), step (G + 1 + 2) _ 5 (by omega), step (G + 1 + 1) _ 6 (by omega), step (G + 1) _ 7 (by omega), lp_s]
  rfl
end LIKES
