/-! THE RELATION between AshCity's state τ and the reference's σ: a predicate a group, over the group's own components -/
/-- a count -/
def cB (x : Int32) (b : Nat) : Prop := ∃ N : Nat, x = nI N ∧ N ≤ b
def cN (x : Int32) : Nat := x.toNatClampNeg
theorem cN_nI {n : Nat} (h : n < 2147483648) : cN (nI n) = n := ni_c h
def RS (τ : XS) (σ : MS) : Prop := τ.1.1 0 = σ.1 0 ∧ τ.1.1 1 = σ.1 1 ∧ τ.1.1 2 = σ.1 2 ∧ τ.1.1 3 = σ.1 3 ∧ τ.1.1 4 = σ.1 4 ∧ τ.1.1 5 = σ.1 28 ∧ τ.1.1 12 = σ.1 21 ∧ τ.1.1 14 = σ.1 44 ∧ τ.1.1 16 = σ.1 57 ∧ τ.1.1 18 = σ.1 68 ∧ τ.1.1 22 = σ.1 69 ∧ τ.1.1 26 = σ.1 79 ∧ τ.1.1 27 = σ.1 80 ∧ τ.1.1 34 = σ.1 89 ∧ τ.1.1 35 = σ.1 90 ∧ τ.1.1 42 = σ.1 100 ∧ τ.1.1 44 = σ.1 101
/-- heights, tape, row, hourFrom, hourTo, upper, lower, hollowCell, hollowLayer -/
def RA (τ : XS) (σ : MS) : Prop := τ.1.2 3 = σ.2 0 ∧ τ.1.2 4 = σ.2 20 ∧ τ.1.2 19 = σ.2 53 ∧ τ.1.2 23 = σ.2 66 ∧ τ.1.2 24 = σ.2 67 ∧ τ.1.2 27 = σ.2 68 ∧ τ.1.2 28 = σ.2 69 ∧ τ.1.2 29 = σ.2 72 ∧ τ.1.2 30 = σ.2 73
/-- width, height, now; taped, joinMany, asHand -/
def gSc (w h now taped jm ah : Int32) : Prop := 4 ≤ w.toInt ∧ w.toInt ≤ 10 ∧ 4 ≤ h.toInt ∧ h.toInt ≤ 10 ∧ 0 ≤ now.toInt ∧ now.toInt ≤ 9999 ∧ cB taped 400 ∧ cB jm 8 ∧ ah = -1
/-- a rectangle's two cells -/
def okR (w h A B : Int32) : Prop := 0 ≤ A.toInt ∧ A.toInt < w.toInt * h.toInt ∧ 0 ≤ B.toInt ∧ B.toInt < w.toInt * h.toInt ∧ A.toInt % w.toInt ≤ B.toInt % w.toInt ∧ A.toInt / w.toInt ≤ B.toInt / w.toInt
/-- a cell in a rectangle -/
def inR (w : Int32) (c : Int) (A B : Int32) : Prop := A.toInt % w.toInt ≤ c % w.toInt ∧ c % w.toInt ≤ B.toInt % w.toInt ∧ A.toInt / w.toInt ≤ c / w.toInt ∧ c / w.toInt ≤ B.toInt / w.toInt
def Rc (P : Pl) (b : Nat) (w A B : Int32) : Prop := Ob P b 2 [(0, jrem A w), (1, A / w), (2, jrem B w), (3, B / w)]
/-- a place's object -/
def Po (P : Pl) (ref : Nat → Option Nat) (w : Int32) (p : Nat) (kind A B : Int32) : Prop := ∃ (a b : Nat) (V : Nat → Value), ref p = some a ∧ P a = some (.inr (3, V)) ∧ V 0 = .int (nI p) ∧ V 1 = .int kind ∧ V 2 = .ref b ∧ Rc P b w A B
def gPl (P : Pl) (ref : Nat → Option Nat) (w h np : Int32) (pat kind A B : Nat → Int32) : Prop := cB np 30 ∧ (∀ p : Nat, p < cN np → Po P ref w p (kind p) (A p) (B p) ∧ okR w h (A p) (B p)) ∧ ∀ c : Nat, (c : Int) < w.toInt * h.toInt → (pat c = -1 ∨ ∃ p, p < cN np ∧ pat c = nI p) ∧ ∀ p, p < cN np → (pat c = nI p ↔ inR w c (A p) (B p))
/-- a dig's object -/
def Do (P : Pl) (a i : Nat) (w hand kind A B top bottom frm to told struck : Int32) : Prop := ∃ (b : Nat) (V : Nat → Value), P a = some (.inr (5 + cN kind, V)) ∧ V 0 = .int (nI i) ∧ V 1 = .int hand ∧ V 2 = .int top ∧ V 3 = .int bottom ∧ V 4 = .int frm ∧ V 5 = .int to ∧ V 6 = .int told ∧ V 7 = .ref b ∧ V 8 = .int struck ∧ Rc P b w A B
def gDg (P : Pl) (ref ord : Nat → Option Nat) (w h nd : Int32) (hand kind A B top bottom frm to told struck : Nat → Int32) : Prop :=
  cB nd 100 ∧ (∀ i : Nat, i < cN nd → ∃ a, ref i = some a ∧ Do P a i w (hand i) (kind i) (A i) (B i) (top i) (bottom i) (frm i) (to i) (told i) (struck i) ∧ okR w h (A i) (B i) ∧ 0 ≤ (kind i).toInt ∧ (kind i).toInt ≤ 2 ∧ 0 ≤ (frm i).toInt) ∧
  ∃ π : Nat → Nat, (∀ k, k < cN nd → π k < cN nd ∧ ord k = ref (π k)) ∧ (∀ i, i < cN nd → ∃ k, k < cN nd ∧ π k = i) ∧ ∀ k l, k < l → l < cN nd → (frm (π k)).toInt < (frm (π l)).toInt ∨ ((frm (π k)).toInt = (frm (π l)).toInt ∧ π k < π l)
def gMe (P : Pl) (ref : Nat → Option Nat) (n : Int32) (a0 a1 a2 a3 a4 : Nat → Int32) : Prop := cB n 200 ∧ OL P ref (cN n) 8 (fun i => [(0, a0 i), (1, a1 i), (2, a2 i), (3, a3 i), (4, a4 i)])
def gFi (P : Pl) (ref : Nat → Option Nat) (now n : Int32) (a0 a1 a2 a3 a4 a5 a6 a7 a8 : Nat → Int32) : Prop := cB n 150 ∧ OL P ref (cN n) 20 (fun i => [(0, a0 i), (1, a1 i), (2, a2 i), (3, a3 i), (4, a4 i), (5, a5 i), (6, a6 i), (7, a7 i), (8, a8 i)]) ∧ ∀ i, i < cN n → 0 ≤ (a1 i).toInt ∧ (a1 i).toInt ≤ (a2 i).toInt ∧ (a2 i).toInt ≤ (a1 i).toInt + 19 ∧ (a2 i).toInt ≤ 9999 ∧ 0 ≤ (a7 i).toInt ∧ (a7 i).toInt ≤ 255 ∧ (a8 i).toInt ≤ now.toInt
def gTh (P : Pl) (ref : Nat → Option Nat) (n : Int32) (a0 a1 a2 a3 : Nat → Int32) : Prop := cB n 60 ∧ OL P ref (cN n) 21 (fun i => [(0, a0 i), (1, a1 i), (2, a2 i), (3, a3 i)]) ∧ (∀ i, i < cN n → 0 ≤ (a2 i).toInt ∧ (a2 i).toInt ≤ 255 ∧ okB (a3 i) = true) ∧ (∀ i, cN n ≤ i → a3 i = 0) ∧ ∀ i j, i < cN n → j < cN n → ref i = ref j → i = j
def gWa (P : Pl) (ref : Nat → Option Nat) (n : Int32) (a0 a1 : Nat → Int32) : Prop := cB n 30 ∧ OL P ref (cN n) 22 (fun i => [(0, a0 i), (1, a1 i)])
def gDr (P : Pl) (ref : Nat → Option Nat) (n : Int32) (a1 a2 a3 a4 a5 : Nat → Int32) : Prop := cB n 100 ∧ OL P ref (cN n) 23 (fun i => [(0, nI i), (1, a1 i), (2, a2 i), (3, a3 i), (4, a4 i), (5, a5 i)])
def gSi (P : Pl) (ref : Nat → Option Nat) (n np : Int32) (a0 a1 a2 a3 : Nat → Int32) : Prop := cB n 100 ∧ OL P ref (cN n) 24 (fun i => [(0, a0 i), (1, a1 i), (2, a2 i), (3, a3 i)]) ∧ ∀ i, i < cN n → 0 ≤ (a0 i).toInt ∧ (a0 i).toInt < 30
def gWo (P : Pl) (ref : Nat → Option Nat) (n : Int32) (a0 a1 a2 : Nat → Int32) : Prop := cB n 9 ∧ OL P ref (cN n) 25 (fun i => [(0, a0 i), (1, a1 i), (2, a2 i)])
def gAs (nc nh w h : Int32) (hf ht cA cB' hc hl : Nat → Int32) : Prop := cB nc 40 ∧ cB nh 40 ∧ (∀ l, l < 8 → 0 ≤ (hf l).toInt ∧ (hf l).toInt ≤ (ht l).toInt ∧ (ht l).toInt ≤ 99) ∧ (∀ k, k < cN nc → 0 ≤ (cA k).toInt ∧ (cA k).toInt < 8 ∧ 0 ≤ (cB' k).toInt ∧ (cB' k).toInt < 8 ∧ ¬ cA k = cB' k) ∧ ∀ k, k < cN nh → 0 ≤ (hc k).toInt ∧ (hc k).toInt < w.toInt * h.toInt ∧ 0 ≤ (hl k).toInt ∧ (hl k).toInt < 8
/-! rules: a clause's condition, told by what both sides answer -/
def sT (σ : MS) (st : Nat → Int32) : MS := (σ.1, fun j => if j = 38 then st else σ.2 j)
/-- the questions' facts -/
def Fa (V : Nat → Value) (f : Nat → Int32) : Prop := V 0 = .int (f 0) ∧ V 1 = .int (f 1) ∧ V 2 = .int (f 2) ∧ V 3 = .int (f 3) ∧ V 4 = .int (f 4)
def CE (P : Pl) (cl : Nat) (codes : Nat → Int32) (cf ct : Int32) (i x : Nat) : Prop :=
  ∀ (F : Nat) (τ : XS) (σ : MS) (q : Nat) (V : Nat → Value), 1000 ≤ F → PM Ma P τ.2.2.2.1 → τ.2.2.2.1 q = some (.inr (19, V)) → Fa V (σ.2 39) → (∀ k, 180 * i ≤ k → k < 180 * i + 180 → σ.2 28 k = codes k) → σ.2 33 x = cf → σ.2 34 x = ct →
    ∃ (b : Int32) (V' : Nat → Value) (st : Nat → Int32), x10_holds F cl q τ = some (b, xP τ q (.inr (19, V')), 0, 0) ∧ (∀ k, k ≠ 5 → V' k = V k) ∧ m_isTrue F (nI x) σ = some (b, sT σ st)
def Cl (P : Pl) (cl : Nat) (codes lo cf ct nO jO : Nat → Int32) (i x : Nat) : Prop := ∃ (V : Nat → Value) (q : Option Nat), P cl = some (.inr (10, V)) ∧ V 0 = .int (lo x) ∧ V 1 = .int (nO x) ∧ V 2 = .int (jO x) ∧ V 3 = va_rf q ∧ (lo x = 120 → 0 ≤ (nO x).toInt ∧ (nO x).toInt ≤ 19 ∧ 0 ≤ (jO x).toInt ∧ (jO x).toInt ≤ 9) ∧ CE P cl codes (cf x) (ct x) i x
def Ru (P : Pl) (a sa : Nat) (codes lo cf ct nO jO : Nat → Int32) (cm rf rt : Int32) (i : Nat) : Prop := ∃ (ca : Nat) (V : Nat → Value) (f : Nat → Int32) (g : Nat → Option Nat), P a = some (.inr (9, V)) ∧ V 0 = .ref ca ∧ V 1 = .ref sa ∧ V 2 = .int cm ∧ V 3 = .int rf ∧ V 4 = .int rt ∧ P sa = some (.inl (2, 10, .inl f)) ∧ P ca = some (.inl (14, 10, .inr (.inr (.inr (.inr g))))) ∧ cB cm 10 ∧ ∀ j, j < cN cm → ∃ cl, g j = some cl ∧ Cl P cl codes lo cf ct nO jO i (10 * i + j)
def gRu (P : Pl) (ref : Nat → Option Nat) (n : Int32) (codes rf rt cm lo cf ct nO jO : Nat → Int32) : Prop := cB n 20 ∧ ∃ SA : Nat → Nat, (∀ i, i < cN n → ∃ a, ref i = some a ∧ Ru P a (SA i) codes lo cf ct nO jO (cm i) (rf i) (rt i) i) ∧ ∀ i j, i < cN n → j < cN n → SA i = SA j → i = j
def R (τ : XS) (σ : MS) : Prop :=
  RS τ σ ∧ RA τ σ ∧ gSc (σ.1 0) (σ.1 1) (σ.1 2) (σ.1 28) (σ.1 69) (σ.1 58) ∧
  gPl τ.2.2.2.1 (τ.2.1 0) (σ.1 0) (σ.1 1) (σ.1 3) (σ.2 1) (σ.2 2) (σ.2 3) (σ.2 4) ∧
  gDg τ.2.2.2.1 (τ.2.1 1) (τ.2.1 2) (σ.1 0) (σ.1 1) (σ.1 4) (σ.2 5) (σ.2 6) (σ.2 7) (σ.2 8) (σ.2 9) (σ.2 10) (σ.2 11) (σ.2 12) (σ.2 13) (σ.2 14) ∧
  gMe τ.2.2.2.1 (τ.2.1 5) (σ.1 21) (σ.2 15) (σ.2 16) (σ.2 17) (σ.2 18) (σ.2 19) ∧
  gRu τ.2.2.2.1 (τ.2.1 6) (σ.1 44) (σ.2 28) (σ.2 29) (σ.2 30) (σ.2 31) (σ.2 32) (σ.2 33) (σ.2 34) (σ.2 35) (σ.2 36) ∧
  gFi τ.2.2.2.1 (τ.2.1 7) (σ.1 2) (σ.1 57) (σ.2 40) (σ.2 41) (σ.2 42) (σ.2 43) (σ.2 44) (σ.2 45) (σ.2 46) (σ.2 47) (σ.2 48) ∧
  gTh τ.2.2.2.1 (τ.2.1 8) (σ.1 68) (σ.2 49) (σ.2 50) (σ.2 51) (σ.2 55) ∧
  gWa τ.2.2.2.1 (τ.2.1 21) (σ.1 79) (σ.2 58) (σ.2 59) ∧
  gDr τ.2.2.2.1 (τ.2.1 22) (σ.1 80) (σ.2 60) (σ.2 61) (σ.2 62) (σ.2 63) (σ.2 65) ∧
  gSi τ.2.2.2.1 (τ.2.1 33) (σ.1 100) (σ.1 3) (σ.2 75) (σ.2 76) (σ.2 77) (σ.2 78) ∧
  gWo τ.2.2.2.1 (τ.2.1 34) (σ.1 101) (σ.2 79) (σ.2 80) (σ.2 81) ∧
  gAs (σ.1 89) (σ.1 90) (σ.1 0) (σ.1 1) (σ.2 66) (σ.2 67) (σ.2 68) (σ.2 69) (σ.2 72) (σ.2 73) ∧ WFp τ
section RACC
variable {τ : XS} {σ : MS}
theorem R.s (h : R τ σ) : RS τ σ := h.1
theorem R.a (h : R τ σ) : RA τ σ := h.2.1
theorem R.sc (h : R τ σ) : gSc (σ.1 0) (σ.1 1) (σ.1 2) (σ.1 28) (σ.1 69) (σ.1 58) := h.2.2.1
theorem R.pl (h : R τ σ) : gPl τ.2.2.2.1 (τ.2.1 0) (σ.1 0) (σ.1 1) (σ.1 3) (σ.2 1) (σ.2 2) (σ.2 3) (σ.2 4) := h.2.2.2.1
theorem R.dg (h : R τ σ) : gDg τ.2.2.2.1 (τ.2.1 1) (τ.2.1 2) (σ.1 0) (σ.1 1) (σ.1 4) (σ.2 5) (σ.2 6) (σ.2 7) (σ.2 8) (σ.2 9) (σ.2 10) (σ.2 11) (σ.2 12) (σ.2 13) (σ.2 14) := h.2.2.2.2.1
theorem R.me (h : R τ σ) : gMe τ.2.2.2.1 (τ.2.1 5) (σ.1 21) (σ.2 15) (σ.2 16) (σ.2 17) (σ.2 18) (σ.2 19) := h.2.2.2.2.2.1
theorem R.ru (h : R τ σ) : gRu τ.2.2.2.1 (τ.2.1 6) (σ.1 44) (σ.2 28) (σ.2 29) (σ.2 30) (σ.2 31) (σ.2 32) (σ.2 33) (σ.2 34) (σ.2 35) (σ.2 36) := h.2.2.2.2.2.2.1
theorem R.fi (h : R τ σ) : gFi τ.2.2.2.1 (τ.2.1 7) (σ.1 2) (σ.1 57) (σ.2 40) (σ.2 41) (σ.2 42) (σ.2 43) (σ.2 44) (σ.2 45) (σ.2 46) (σ.2 47) (σ.2 48) := h.2.2.2.2.2.2.2.1
theorem R.th (h : R τ σ) : gTh τ.2.2.2.1 (τ.2.1 8) (σ.1 68) (σ.2 49) (σ.2 50) (σ.2 51) (σ.2 55) := h.2.2.2.2.2.2.2.2.1
theorem R.wa (h : R τ σ) : gWa τ.2.2.2.1 (τ.2.1 21) (σ.1 79) (σ.2 58) (σ.2 59) := h.2.2.2.2.2.2.2.2.2.1
theorem R.dr (h : R τ σ) : gDr τ.2.2.2.1 (τ.2.1 22) (σ.1 80) (σ.2 60) (σ.2 61) (σ.2 62) (σ.2 63) (σ.2 65) := h.2.2.2.2.2.2.2.2.2.2.1
theorem R.si (h : R τ σ) : gSi τ.2.2.2.1 (τ.2.1 33) (σ.1 100) (σ.1 3) (σ.2 75) (σ.2 76) (σ.2 77) (σ.2 78) := h.2.2.2.2.2.2.2.2.2.2.2.1
theorem R.wo (h : R τ σ) : gWo τ.2.2.2.1 (τ.2.1 34) (σ.1 101) (σ.2 79) (σ.2 80) (σ.2 81) := h.2.2.2.2.2.2.2.2.2.2.2.2.1
theorem R.as (h : R τ σ) : gAs (σ.1 89) (σ.1 90) (σ.1 0) (σ.1 1) (σ.2 66) (σ.2 67) (σ.2 68) (σ.2 69) (σ.2 72) (σ.2 73) := h.2.2.2.2.2.2.2.2.2.2.2.2.2.1
theorem R.wf (h : R τ σ) : WFp τ := h.2.2.2.2.2.2.2.2.2.2.2.2.2.2
end RACC
section RMONO
variable {M : Nat → Bool} {P P' : Pl} (hp : PM M P P')
theorem Rc.mono (hp : PM M P P') {b : Nat} {w A B : Int32} (h : Rc P b w A B) : Rc P' b w A B := Ob.mono hp (fun z _ => mutF_k rfl) h
theorem Po.mono (hp : PM M P P') {ref : Nat → Option Nat} {p : Nat} {w kind A B : Int32} (h : Po P ref w p kind A B) : Po P' ref w p kind A B := by
  obtain ⟨a, b, V, h1, h2, h3, h4, h5, h6⟩ := h
  obtain ⟨V', g1, g2⟩ := hp.keep h2
  exact ⟨a, b, V', h1, g1, (g2 0 (mutF_k rfl)).trans h3, (g2 1 (mutF_k rfl)).trans h4, (g2 2 (mutF_k rfl)).trans h5, h6.mono hp⟩
theorem gPl.mono (hp : PM M P P') {ref : Nat → Option Nat} {w h np : Int32} {pat kind A B : Nat → Int32} (hg : gPl P ref w h np pat kind A B) : gPl P' ref w h np pat kind A B :=
  ⟨hg.1, fun p hp' => ⟨(hg.2.1 p hp').1.mono hp, (hg.2.1 p hp').2⟩, hg.2.2⟩
theorem Do.mono (hp : PM M P P') (hM : M 5 = false ∧ M 6 = false ∧ M 7 = false) {a i : Nat} {w hand kind A B top bottom frm to told struck : Int32} (hk : 0 ≤ kind.toInt ∧ kind.toInt ≤ 2) (h : Do P a i w hand kind A B top bottom frm to told struck) : Do P' a i w hand kind A B top bottom frm to told struck := by
  obtain ⟨b, V, h0, h1, h2, h3, h4, h5, h6, h7, h8, h9, h10⟩ := h
  obtain ⟨V', g1, g2⟩ := hp.keep h0
  have hc := c_i hk.1
  have hm : M (5 + cN kind) = false := by
    have h3 : cN kind = 0 ∨ cN kind = 1 ∨ cN kind = 2 := by unfold cN; omega
    rcases h3 with h3 | h3 | h3
    · rw [h3]; exact hM.1
    · rw [h3]; exact hM.2.1
    · rw [h3]; exact hM.2.2
  exact ⟨b, V', g1, (g2 _ (mutF_n hm)).trans h1, (g2 _ (mutF_n hm)).trans h2, (g2 _ (mutF_n hm)).trans h3, (g2 _ (mutF_n hm)).trans h4, (g2 _ (mutF_n hm)).trans h5, (g2 _ (mutF_n hm)).trans h6, (g2 _ (mutF_n hm)).trans h7, (g2 _ (mutF_n hm)).trans h8, (g2 _ (mutF_n hm)).trans h9, h10.mono hp⟩
theorem gDg.mono (hp : PM M P P') (hM : M 5 = false ∧ M 6 = false ∧ M 7 = false) {ref ord : Nat → Option Nat} {w h nd : Int32} {hand kind A B top bottom frm to told struck : Nat → Int32} (hg : gDg P ref ord w h nd hand kind A B top bottom frm to told struck) : gDg P' ref ord w h nd hand kind A B top bottom frm to told struck := by
  refine ⟨hg.1, fun i hi => ?_, hg.2.2⟩
  obtain ⟨a, h1, h2, h3, h4, h5, h6⟩ := hg.2.1 i hi
  exact ⟨a, h1, h2.mono hp hM ⟨h4, h5⟩, h3, h4, h5, h6⟩
theorem gMe.mono (hp : PM M P P') {ref : Nat → Option Nat} {n : Int32} {a0 a1 a2 a3 a4 : Nat → Int32} (h : gMe P ref n a0 a1 a2 a3 a4) : gMe P' ref n a0 a1 a2 a3 a4 := ⟨h.1, h.2.mono hp (fun i z _ => mutF_k rfl)⟩
theorem gFi.mono (hp : PM M P P') {ref : Nat → Option Nat} {now n : Int32} {a0 a1 a2 a3 a4 a5 a6 a7 a8 : Nat → Int32} (h : gFi P ref now n a0 a1 a2 a3 a4 a5 a6 a7 a8) : gFi P' ref now n a0 a1 a2 a3 a4 a5 a6 a7 a8 := ⟨h.1, h.2.1.mono hp (fun i z _ => mutF_k rfl), h.2.2⟩
theorem gTh.mono (hp : PM M P P') (hM : M 21 = false) {ref : Nat → Option Nat} {n : Int32} {a0 a1 a2 a3 : Nat → Int32} (h : gTh P ref n a0 a1 a2 a3) : gTh P' ref n a0 a1 a2 a3 := ⟨h.1, h.2.1.mono hp (fun i z _ => mutF_n hM), h.2.2⟩
theorem gWa.mono (hp : PM M P P') {ref : Nat → Option Nat} {n : Int32} {a0 a1 : Nat → Int32} (h : gWa P ref n a0 a1) : gWa P' ref n a0 a1 := ⟨h.1, h.2.mono hp (fun i z _ => mutF_k rfl)⟩
theorem gDr.mono (hp : PM M P P') {ref : Nat → Option Nat} {n : Int32} {a1 a2 a3 a4 a5 : Nat → Int32} (h : gDr P ref n a1 a2 a3 a4 a5) : gDr P' ref n a1 a2 a3 a4 a5 := ⟨h.1, h.2.mono hp (fun i z _ => mutF_k rfl)⟩
theorem gSi.mono (hp : PM M P P') {ref : Nat → Option Nat} {n np : Int32} {a0 a1 a2 a3 : Nat → Int32} (h : gSi P ref n np a0 a1 a2 a3) : gSi P' ref n np a0 a1 a2 a3 := ⟨h.1, h.2.1.mono hp (fun i z _ => mutF_k rfl), h.2.2⟩
theorem gWo.mono (hp : PM M P P') {ref : Nat → Option Nat} {n : Int32} {a0 a1 a2 : Nat → Int32} (h : gWo P ref n a0 a1 a2) : gWo P' ref n a0 a1 a2 := ⟨h.1, h.2.mono hp (fun i z _ => mutF_k rfl)⟩
theorem CE.mono (hp : PM M P P') {cl : Nat} {codes : Nat → Int32} {cf ct : Int32} {i x : Nat} (h : CE P cl codes cf ct i x) : CE P' cl codes cf ct i x :=
  fun F τ σ q V hF hP => h F τ σ q V hF (hp.a.tr hP)
theorem Cl.mono (hp : PM M P P') {cl : Nat} {codes lo cf ct nO jO : Nat → Int32} {i x : Nat} (h : Cl P cl codes lo cf ct nO jO i x) : Cl P' cl codes lo cf ct nO jO i x := by
  obtain ⟨V, q, h1, h2, h3, h4, h5, h6, h7⟩ := h
  obtain ⟨V', g1, g2⟩ := hp.keep h1
  exact ⟨V', q, g1, (g2 _ (mutF_k rfl)).trans h2, (g2 _ (mutF_k rfl)).trans h3, (g2 _ (mutF_k rfl)).trans h4, (g2 _ (mutF_k rfl)).trans h5, h6, h7.mono hp⟩
theorem PM.arr (hp : PM M P P') {a t m : Nat} {g : Nat → Option Nat} (h : P a = some (.inl (t, m, .inr (.inr (.inr (.inr g)))))) : P' a = some (.inl (t, m, .inr (.inr (.inr (.inr g))))) := by
  obtain ⟨e', h1, h2⟩ := hp a _ h
  rcases h2 with rfl | ⟨c2, V2, V', h3, h4, h5⟩ | ⟨m, f, f', h3, -⟩
  · exact h1
  · cases h3
  · cases h3
theorem PM.bool (hp : PM M P P') {a m : Nat} {f : Nat → Int32} (h : P a = some (.inl (2, m, .inl f))) : ∃ f', P' a = some (.inl (2, m, .inl f')) := by
  obtain ⟨e', h1, h2⟩ := hp a _ h
  rcases h2 with rfl | ⟨c2, V2, V', h3, h4, h5⟩ | ⟨m', f', f'', h3, h4⟩
  · exact ⟨f, h1⟩
  · cases h3
  · cases h3
    exact ⟨f'', by rw [h1, h4]⟩
theorem Ru.mono (hp : PM M P P') {a sa i : Nat} {codes lo cf ct nO jO : Nat → Int32} {cm rf rt : Int32} (h : Ru P a sa codes lo cf ct nO jO cm rf rt i) : Ru P' a sa codes lo cf ct nO jO cm rf rt i := by
  obtain ⟨ca, V, f, g, h1, h2, h3, h4, h5, h6, h7, h8, h9, h10⟩ := h
  obtain ⟨V', g1, g2⟩ := hp.keep h1
  obtain ⟨f', g3⟩ := hp.bool h7
  refine ⟨ca, V', f', g, g1, (g2 _ (mutF_k rfl)).trans h2, (g2 _ (mutF_k rfl)).trans h3, (g2 _ (mutF_k rfl)).trans h4, (g2 _ (mutF_k rfl)).trans h5, (g2 _ (mutF_k rfl)).trans h6, g3, hp.arr h8, h9, fun j hj => ?_⟩
  obtain ⟨cl, h11, h12⟩ := h10 j hj
  exact ⟨cl, h11, h12.mono hp⟩
theorem gRu.mono (hp : PM M P P') {ref : Nat → Option Nat} {n : Int32} {codes rf rt cm lo cf ct nO jO : Nat → Int32} (h : gRu P ref n codes rf rt cm lo cf ct nO jO) : gRu P' ref n codes rf rt cm lo cf ct nO jO := by
  obtain ⟨h1, SA, h2, h3⟩ := h
  refine ⟨h1, SA, fun i hi => ?_, h3⟩
  obtain ⟨a, g1, g2⟩ := h2 i hi
  exact ⟨a, g1, g2.mono hp⟩
end RMONO
theorem R.keep {τ τ' : XS} {σ σ' : MS} (h : R τ σ) (hs : RS τ' σ') (ha : RA τ' σ') (hc : gSc (σ'.1 0) (σ'.1 1) (σ'.1 2) (σ'.1 28) (σ'.1 69) (σ'.1 58)) (hr : τ'.2.1 = τ.2.1) (hp : PM M0 τ.2.2.2.1 τ'.2.2.2.1) (hw : WFp τ')
    (m1 : ∀ k ∈ [0, 1, 2, 3, 4, 21, 44, 57, 68, 79, 80, 89, 90, 100, 101], σ'.1 k = σ.1 k)
    (m2 : ∀ j ∈ [1, 2, 3, 4, 5, 6, 7, 8, 9, 10, 11, 12, 13, 14, 15, 16, 17, 18, 19, 28, 29, 30, 31, 32, 33, 34, 35, 36, 40, 41, 42, 43, 44, 45, 46, 47, 48, 49, 50, 51, 55, 58, 59, 60, 61, 62, 63, 65, 66, 67, 68, 69, 72, 73, 75, 76, 77, 78, 79, 80, 81], σ'.2 j = σ.2 j) : R τ' σ' := by
  refine ⟨hs, ha, hc, ?_, ?_, ?_, ?_, ?_, ?_, ?_, ?_, ?_, ?_, ?_, hw⟩
  · rw [hr, m1 0 (by simp), m1 1 (by simp), m1 3 (by simp), m2 1 (by simp), m2 2 (by simp), m2 3 (by simp), m2 4 (by simp)]
    exact h.pl.mono hp
  · rw [hr, m1 0 (by simp), m1 1 (by simp), m1 4 (by simp), m2 5 (by simp), m2 6 (by simp), m2 7 (by simp), m2 8 (by simp), m2 9 (by simp), m2 10 (by simp), m2 11 (by simp), m2 12 (by simp), m2 13 (by simp), m2 14 (by simp)]
    exact h.dg.mono hp ⟨rfl, rfl, rfl⟩
  · rw [hr, m1 21 (by simp), m2 15 (by simp), m2 16 (by simp), m2 17 (by simp), m2 18 (by simp), m2 19 (by simp)]
    exact h.me.mono hp
  · rw [hr, m1 44 (by simp), m2 28 (by simp), m2 29 (by simp), m2 30 (by simp), m2 31 (by simp), m2 32 (by simp), m2 33 (by simp), m2 34 (by simp), m2 35 (by simp), m2 36 (by simp)]
    exact h.ru.mono hp
  · rw [hr, m1 2 (by simp), m1 57 (by simp), m2 40 (by simp), m2 41 (by simp), m2 42 (by simp), m2 43 (by simp), m2 44 (by simp), m2 45 (by simp), m2 46 (by simp), m2 47 (by simp), m2 48 (by simp)]
    exact h.fi.mono hp
  · rw [hr, m1 68 (by simp), m2 49 (by simp), m2 50 (by simp), m2 51 (by simp), m2 55 (by simp)]
    exact h.th.mono hp rfl
  · rw [hr, m1 79 (by simp), m2 58 (by simp), m2 59 (by simp)]
    exact h.wa.mono hp
  · rw [hr, m1 80 (by simp), m2 60 (by simp), m2 61 (by simp), m2 62 (by simp), m2 63 (by simp), m2 65 (by simp)]
    exact h.dr.mono hp
  · rw [hr, m1 100 (by simp), m1 3 (by simp), m2 75 (by simp), m2 76 (by simp), m2 77 (by simp), m2 78 (by simp)]
    exact h.si.mono hp
  · rw [hr, m1 101 (by simp), m2 79 (by simp), m2 80 (by simp), m2 81 (by simp)]
    exact h.wo.mono hp
  · rw [m1 89 (by simp), m1 90 (by simp), m1 0 (by simp), m1 1 (by simp), m2 66 (by simp), m2 67 (by simp), m2 68 (by simp), m2 69 (by simp), m2 72 (by simp), m2 73 (by simp)]
    exact h.as
