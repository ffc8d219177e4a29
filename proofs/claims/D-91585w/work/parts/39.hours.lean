/-! hours -/
def cpf (k : Nat) (f old : Nat → Int32) : Nat → Int32 := fun i => if i < k then f i else old i
theorem cpf_0 (f old : Nat → Int32) : cpf 0 f old = old := by funext i; simp [cpf]
theorem cpf_s (k : Nat) (f old : Nat → Int32) : upd (cpf k f old) k (f k) = cpf (k + 1) f old := by
  funext i
  unfold upd cpf
  by_cases h1 : i = k
  · subst h1; simp
  · by_cases h2 : i < k
    · have : i < k + 1 := by omega
      simp [h1, h2, this]
    · have : ¬ i < k + 1 := by omega
      simp [h1, h2, this]
def eX (τ : XS) (E L : Nat → Int32) : XS := (aS (aS τ.1 25 E) 26 L, τ.2)
def eM (σ : MS) (E L : Nat → Int32) : MS := aS (aS σ 70 E) 71 L
theorem eX_E (τ : XS) (E L : Nat → Int32) (i : Nat) (v : Int32) : xA (eX τ E L) 25 i v = eX τ (upd E i v) L := by
  unfold xA eX
  rw [sA_aS_ne _ _ _ _ _ _ (by decide), sA_aS]
theorem eX_L (τ : XS) (E L : Nat → Int32) (i : Nat) (v : Int32) : xA (eX τ E L) 26 i v = eX τ E (upd L i v) := by
  unfold xA eX
  rw [sA_aS]
theorem eM_E (σ : MS) (E L : Nat → Int32) (i : Nat) (v : Int32) : sA (eM σ E L) 70 i v = eM σ (upd E i v) L := by
  unfold eM
  rw [sA_aS_ne _ _ _ _ _ _ (by decide), sA_aS]
theorem eM_L (σ : MS) (E L : Nat → Int32) (i : Nat) (v : Int32) : sA (eM σ E L) 71 i v = eM σ E (upd L i v) := by
  unfold eM
  rw [sA_aS]
theorem eX_id (τ : XS) : eX τ (τ.1.2 25) (τ.1.2 26) = τ := by
  unfold eX
  rw [aS_id]
  show (aS τ.1 26 (τ.1.2 26), τ.2) = τ
  rw [aS_id]
theorem eM_id (σ : MS) : eM σ (σ.2 70) (σ.2 71) = σ := by
  unfold eM
  rw [aS_id]
  show aS σ 71 (σ.2 71) = σ
  rw [aS_id]
def Ag8 (f g : Nat → Int32) : Prop := ∀ l, l < 8 → f l = g l
def Bd8 (E L : Nat → Int32) : Prop := ∀ l, l < 8 → 0 ≤ (E l).toInt ∧ (E l).toInt ≤ (L l).toInt ∧ (L l).toInt ≤ 99
def ph1 (E L : Nat → Int32) (l : Nat) : Nat := ((L l).toInt - (E l).toInt).toNat
def phi (E L : Nat → Int32) : Nat := ph1 E L 0 + ph1 E L 1 + ph1 E L 2 + ph1 E L 3 + ph1 E L 4 + ph1 E L 5 + ph1 E L 6 + ph1 E L 7
theorem phi_le {E L : Nat → Int32} (h : Bd8 E L) : phi E L ≤ 792 := by
  have hp : ∀ l, l < 8 → ph1 E L l ≤ 99 := by
    intro l hl
    have := h l hl
    unfold ph1
    omega
  have h0 := hp 0 (by omega)
  have h1 := hp 1 (by omega)
  have h2 := hp 2 (by omega)
  have h3 := hp 3 (by omega)
  have h4 := hp 4 (by omega)
  have h5 := hp 5 (by omega)
  have h6 := hp 6 (by omega)
  have h7 := hp 7 (by omega)
  unfold phi
  omega
theorem phi_lt {E L E' L' : Nat → Int32} {i : Nat} (hi : i < 8) (h : ∀ l, l < 8 → ph1 E' L' l ≤ ph1 E L l) (hlt : ph1 E' L' i < ph1 E L i) : phi E' L' < phi E L := by
  have h0 := h 0 (by omega)
  have h1 := h 1 (by omega)
  have h2 := h 2 (by omega)
  have h3 := h 3 (by omega)
  have h4 := h 4 (by omega)
  have h5 := h 5 (by omega)
  have h6 := h 6 (by omega)
  have h7 := h 7 (by omega)
  unfold phi
  rcases (show i = 0 ∨ i = 1 ∨ i = 2 ∨ i = 3 ∨ i = 4 ∨ i = 5 ∨ i = 6 ∨ i = 7 by omega) with e | e | e | e | e | e | e | e <;> rw [e] at hlt <;> omega
section HOURS
variable {F : Nat} {τ : XS} {σ : MS}
theorem settle_i (hF : 1000 ≤ F) (K : Int32 × XS → XR Int32) : lp (x0_settles_B2 F K) F (0, τ) = K (nI 8, eX τ (cpf 8 (τ.1.2 23) (τ.1.2 25)) (cpf 8 (τ.1.2 24) (τ.1.2 26))) := by
  refine lp_to (fun a => ∃ k : Nat, k ≤ 8 ∧ a = (nI k, eX τ (cpf k (τ.1.2 23) (τ.1.2 25)) (cpf k (τ.1.2 24) (τ.1.2 26)))) (fun a => 8 - cN a.1) (fun o => o = K (nI 8, eX τ (cpf 8 (τ.1.2 23) (τ.1.2 25)) (cpf 8 (τ.1.2 24) (τ.1.2 26)))) ?_ F _ ⟨0, by omega, by rw [cpf_0, cpf_0, eX_id]; rfl⟩ (by show 8 - cN 0 < F; omega)
  intro RX a hi ih
  obtain ⟨k, hk, rfl⟩ := hi
  unfold x0_settles_B2
  have e23 : ∀ E L, (eX τ E L).1.2 23 = τ.1.2 23 := fun E L => rfl
  have e24 : ∀ E L, (eX τ E L).1.2 24 = τ.1.2 24 := fun E L => rfl
  simp only [Int32.le_iff_toInt_le, li_8, ni_i (show k < 2147483648 by omega)]
  by_cases hend : k = 8
  · subst hend
    rw [if_pos (by omega)]
  · rw [if_neg (by omega)]
    simp only [okI_nI (show k < 8 by omega) (show 8 < 2147483648 by omega), if_true, nx_e, ni_c (show k < 2147483648 by omega), e23, e24, eX_E, eX_L, cpf_s]
    refine ih _ ⟨k + 1, by omega, by rw [nI_succ]⟩ ?_
    show 8 - cN (nI k + 1) < 8 - cN (nI k)
    rw [← nI_succ, cN_nI (by omega), cN_nI (by omega)]
    omega
theorem hours_i (hF : 1000 ≤ F) (K : Int32 × MS → Option (Int32 × MS)) : lp (m_hours_B2 F K) F (0, σ) = K (nI 8, eM σ (cpf 8 (σ.2 66) (σ.2 70)) (cpf 8 (σ.2 67) (σ.2 71))) := by
  refine lp_to (fun a => ∃ k : Nat, k ≤ 8 ∧ a = (nI k, eM σ (cpf k (σ.2 66) (σ.2 70)) (cpf k (σ.2 67) (σ.2 71)))) (fun a => 8 - cN a.1) (fun o => o = K (nI 8, eM σ (cpf 8 (σ.2 66) (σ.2 70)) (cpf 8 (σ.2 67) (σ.2 71)))) ?_ F _ ⟨0, by omega, by rw [cpf_0, cpf_0, eM_id]; rfl⟩ (by show 8 - cN 0 < F; omega)
  intro RX a hi ih
  obtain ⟨k, hk, rfl⟩ := hi
  unfold m_hours_B2
  have e23 : ∀ E L, (eM σ E L).2 66 = σ.2 66 := fun E L => rfl
  have e24 : ∀ E L, (eM σ E L).2 67 = σ.2 67 := fun E L => rfl
  simp only [Int32.le_iff_toInt_le, li_8, ni_i (show k < 2147483648 by omega)]
  by_cases hend : k = 8
  · subst hend
    rw [if_pos (by omega)]
  · rw [if_neg (by omega)]
    simp only [okI_nI (show k < 8 by omega) (show 8 < 2147483648 by omega), if_true, nx_e, ni_c (show k < 2147483648 by omega), e23, e24, eM_E, eM_L, cpf_s]
    refine ih _ ⟨k + 1, by omega, by rw [nI_succ]⟩ ?_
    show 8 - cN (nI k + 1) < 8 - cN (nI k)
    rw [← nI_succ, cN_nI (by omega), cN_nI (by omega)]
    omega
theorem ag8_u {f g : Nat → Int32} (h : Ag8 f g) (i : Nat) (v : Int32) : Ag8 (upd f i v) (upd g i v) := by
  intro l hl
  unfold upd
  by_cases hli : l = i
  · rw [if_pos hli, if_pos hli]
  · rw [if_neg hli, if_neg hli]; exact h l hl
def sQ (τ : XS) (σ : MS) (v : Int32 × XS × Nat × Nat) (w : Int32 × MS) : Prop := ∃ (b : Int32) (E L E' L' : Nat → Int32), okB b = true ∧ v = (b, eX τ E L, 0, 0) ∧ w = (b, eM σ E' L') ∧ Ag8 E E' ∧ Ag8 L L' ∧ (b = 1 → Bd8 E L)
theorem settle_j (hF : 1000 ≤ F) (h : R τ σ) : ∃ v w, x0_settles F τ = some v ∧ m_hours F σ = some w ∧ sQ τ σ v w := by
  obtain ⟨⟨N, hN, hNb⟩, -, hh, hc, -⟩ := h.as
  rw [hN, cN_nI (by omega)] at hc
  have eN : τ.1.1 34 = nI N := by rw [← hN]; exact h.e34
  unfold x0_settles m_hours
  rw [settle_i hF, hours_i hF]
  have outer := lp_join (BX := x0_settles_B40 F) (BM := m_hours_B40 F) (fun a b => ∃ (g : Int32) (E L E' L' : Nat → Int32), (g = 0 ∨ g = 1) ∧ a = (g, eX τ E L) ∧ b = (g, eM σ E' L') ∧ Ag8 E E' ∧ Ag8 L L' ∧ Bd8 E L) (fun a _ => if a.1 = 0 then 0 else phi (a.2.1.2 25) (a.2.1.2 26) + 1) (sQ τ σ) (by
    intro RX RM a b hi ih
    obtain ⟨g, E, L, E', L', hg, rfl, rfl, hE, hL, hB⟩ := hi
    unfold x0_settles_B40 m_hours_B40
    refine jn_ite (fun _ => ⟨_, _, rfl, rfl, 1, E, L, E', L', rfl, rfl, rfl, hE, hL, fun _ => hB⟩) (fun hg1 => ?_)
    have ih2 : ∀ (g' : Int32) (E1 L1 E1' L1' : Nat → Int32), (g' = 0 ∨ (g' = 1 ∧ phi E1 L1 < phi E L)) → Ag8 E1 E1' → Ag8 L1 L1' → Bd8 E1 L1 → ∃ v w, RX (g', eX τ E1 L1) = some v ∧ RM (g', eM σ E1' L1') = some w ∧ sQ τ σ v w := by
      intro g' E1 L1 E1' L1' h1 h2 h3 h4
      refine ih _ _ ⟨g', E1, L1, E1', L1', h1.imp id And.left, rfl, rfl, h2, h3, h4⟩ ?_
      show (if g' = 0 then 0 else phi E1 L1 + 1) < (if g = 0 then 0 else phi E L + 1)
      rw [if_neg hg1]
      rcases h1 with h1 | ⟨h1, h5⟩
      · rw [if_pos h1]; omega
      · rw [h1, if_neg (by decide)]; omega
    have inner := lp_join (BX := x0_settles_B48 F (fun a1 => RX (a1.1, a1.2.2))) (BM := m_hours_B48 F (fun a1 => RM (a1.1, a1.2.2)))
      (fun a b => ∃ (k : Nat) (g' : Int32) (E1 L1 E1' L1' : Nat → Int32), k ≤ N ∧ (g' = 0 ∨ (g' = 1 ∧ phi E1 L1 < phi E L)) ∧ phi E1 L1 ≤ phi E L ∧ a = (g', nI k, eX τ E1 L1) ∧ b = (g', nI k, eM σ E1' L1') ∧ Ag8 E1 E1' ∧ Ag8 L1 L1' ∧ Bd8 E1 L1) (fun a _ => N - cN a.2.1) (sQ τ σ) (by
      intro RX' RM' a b hi ih'
      obtain ⟨k, g', E1, L1, E1', L1', hk, hg', hph, rfl, rfl, hE1, hL1, hB1⟩ := hi
      unfold x0_settles_B48 m_hours_B48
      have x34 : ∀ E L, (eX τ E L).1.1 34 = nI N := fun E L => eN
      have m89 : ∀ E L, (eM σ E L).1 89 = nI N := fun E L => hN
      have x27 : ∀ E L, (eX τ E L).1.2 27 = σ.2 68 := fun E L => h.a27
      have x28 : ∀ E L, (eX τ E L).1.2 28 = σ.2 69 := fun E L => h.a28
      have m68 : ∀ E L, (eM σ E L).2 68 = σ.2 68 := fun E L => rfl
      have m69 : ∀ E L, (eM σ E L).2 69 = σ.2 69 := fun E L => rfl
      have x25 : ∀ E L, (eX τ E L).1.2 25 = E := fun E L => rfl
      have x26 : ∀ E L, (eX τ E L).1.2 26 = L := fun E L => rfl
      have m70 : ∀ E L, (eM σ E L).2 70 = E := fun E L => rfl
      have m71 : ∀ E L, (eM σ E L).2 71 = L := fun E L => rfl
      simp only [x34, m89, x27, x28, m68, m69, Int32.le_iff_toInt_le, ni_i (show k < 2147483648 by omega), ni_i (show N < 2147483648 by omega)]
      refine jn_ite (fun _ => ih2 g' E1 L1 E1' L1' hg' hE1 hL1 hB1) (fun c1 => ?_)
      obtain ⟨a1, a2, b1, b2, hab⟩ := hc k (by omega)
      simp only [okI_nI (show k < 40 by omega) (show 40 < 2147483648 by omega), if_true, ni_c (show k < 2147483648 by omega), nx_e]
      have hac := c_i a1
      have hbc := c_i b1
      have oka : okI (σ.2 68 k) 8 = true := okI_i a1 (by omega)
      have okb : okI (σ.2 69 k) 8 = true := okI_i b1 (by omega)
      have hab2 : ¬ (σ.2 68 k).toNatClampNeg = (σ.2 69 k).toNatClampNeg := by
        intro e
        apply hab
        rw [i_eq]
        omega
      generalize σ.2 68 k = ya at *
      generalize σ.2 69 k = yb at *
      simp only [oka, okb, if_true, x25, m70, eX_E, eM_E]
      generalize hna : ya.toNatClampNeg = na at *
      generalize hnb : yb.toNatClampNeg = nb at *
      have nala : na < 8 := by omega
      have nblb : nb < 8 := by omega
      -- the third part: the two checks
      have part3 : ∀ (g2 : Int32) (E2 L2 E2' L2' : Nat → Int32), (g2 = 0 ∨ g2 = 1) → Ag8 E2 E2' → Ag8 L2 L2' → (∀ l, l < 8 → ¬ l = na → ¬ l = nb → E2 l = E1 l ∧ L2 l = L1 l) → (0 ≤ (E2 na).toInt ∧ 0 ≤ (E2 nb).toInt ∧ (L2 na).toInt ≤ 99 ∧ (L2 nb).toInt ≤ 99) → ((E2 na).toInt ≤ (L2 na).toInt → (E2 nb).toInt ≤ (L2 nb).toInt → (g2 = 0 ∨ (g2 = 1 ∧ phi E2 L2 < phi E L)) ∧ phi E2 L2 ≤ phi E L) → ∃ v w, x0_settles_137 F (fun a1 => RX (a1.1, a1.2.2)) RX' g2 (nI k) ya yb (eX τ E2 L2) = some v ∧ m_hours_141 F (fun a1 => RM (a1.1, a1.2.2)) RM' g2 (nI k) ya yb (eM σ E2' L2') = some w ∧ sQ τ σ v w := by
        intro g2 E2 L2 E2' L2' hg2 hE2 hL2 hrest hbn hph2
        unfold x0_settles_137 m_hours_141
        simp only [oka, okb, if_true, x25, x26, m70, m71, hna, hnb, ← hE2 na nala, ← hE2 nb nblb, ← hL2 na nala, ← hL2 nb nblb]
        refine jn_ite (fun _ => ⟨_, _, rfl, rfl, 0, E2, L2, E2', L2', rfl, rfl, rfl, hE2, hL2, fun q => absurd q (by decide)⟩) (fun d1 => ?_)
        refine jn_ite (fun d2 => ?_) (fun _ => ⟨_, _, rfl, rfl, 0, E2, L2, E2', L2', rfl, rfl, rfl, hE2, hL2, fun q => absurd q (by decide)⟩)
        rw [Int32.lt_iff_toInt_lt] at d1
        rw [Int32.le_iff_toInt_le] at d2
        obtain ⟨z1, z2⟩ := hph2 (by omega) d2
        refine ih' _ _ ⟨k + 1, g2, E2, L2, E2', L2', by omega, z1, z2, by rw [nI_succ], by rw [nI_succ], hE2, hL2, ?_⟩ ?_
        · intro l hl
          by_cases e1 : l = na
          · rw [e1]; omega
          · by_cases e2 : l = nb
            · rw [e2]; omega
            · obtain ⟨z3, z4⟩ := hrest l hl e1 e2
              rw [z3, z4]
              exact hB1 l hl
        · show N - cN (nI k + 1) < N - cN (nI k)
          rw [← nI_succ, cN_nI (by omega), cN_nI (by omega)]
          omega
      have hBa := hB1 na nala
      have hBb := hB1 nb nblb
      have hle : ∀ E2 L2 : Nat → Int32, (∀ l, l < 8 → (E1 l).toInt ≤ (E2 l).toInt ∧ (L2 l).toInt ≤ (L1 l).toInt) → ∀ l, l < 8 → ph1 E2 L2 l ≤ ph1 E1 L1 l := by
        intro E2 L2 hq l hl
        have := hq l hl
        unfold ph1
        omega
      have hle8 : ∀ E2 L2 : Nat → Int32, (∀ l, l < 8 → (E1 l).toInt ≤ (E2 l).toInt ∧ (L2 l).toInt ≤ (L1 l).toInt) → phi E2 L2 ≤ phi E1 L1 := by
        intro E2 L2 hq
        have hz := hle E2 L2 hq
        have h0 := hz 0 (by omega)
        have h1 := hz 1 (by omega)
        have h2 := hz 2 (by omega)
        have h3 := hz 3 (by omega)
        have h4 := hz 4 (by omega)
        have h5 := hz 5 (by omega)
        have h6 := hz 6 (by omega)
        have h7 := hz 7 (by omega)
        unfold phi
        omega
      -- the second part: the latest hours
      have part2 : ∀ (g2 : Int32) (E2 E2' : Nat → Int32), (g2 = 0 ∨ g2 = 1) → Ag8 E2 E2' → (∀ l, l < 8 → ¬ l = na → E2 l = E1 l) → ((E2 na = E1 na ∧ g2 = g') ∨ ((E1 na).toInt < (E2 na).toInt ∧ g2 = 1)) → ∃ v w, x0_settles_104 F (fun a1 => RX (a1.1, a1.2.2)) RX' g2 (nI k) ya yb (eX τ E2 L1) = some v ∧ m_hours_106 F (fun a1 => RM (a1.1, a1.2.2)) RM' g2 (nI k) ya yb (eM σ E2' L1') = some w ∧ sQ τ σ v w := by
        intro g2 E2 E2' hg2 hE2 hE2r hE2a
        have hEle : ∀ l, l < 8 → (E1 l).toInt ≤ (E2 l).toInt := by
          intro l hl
          by_cases e1 : l = na
          · rw [e1]
            rcases hE2a with ⟨q, -⟩ | ⟨q, -⟩
            · rw [q]; omega
            · omega
          · rw [hE2r l hl e1]; omega
        have hl1 : (L1 na - 1).toInt = (L1 na).toInt - 1 := by
          rw [i_sub (by rw [li_1]; omega) (by rw [li_1]; omega), li_1]
        have hEb : E2 nb = E1 nb := hE2r nb nblb (fun e => hab2 e.symm)
        unfold x0_settles_104 m_hours_106
        simp only [oka, okb, if_true, x25, x26, m70, m71, hna, hnb, ← hL1 na nala, ← hL1 nb nblb, nx_e, eX_L, eM_L, Int32.lt_iff_toInt_lt, Int32.le_iff_toInt_le, hl1]
        refine jn_itq ⟨fun q => by omega, fun q => by omega⟩ (fun d1 => ?_) (fun d1 => ?_)
        · refine part3 g2 E2 L1 E2' L1' hg2 hE2 hL1 (fun l hl e1 e2 => ⟨hE2r l hl e1, rfl⟩) ⟨?_, ?_, by omega, by omega⟩ (fun p1 p2 => ?_)
          · have := hEle na nala; omega
          · rw [hEb]; omega
          · have h8 := hle8 E2 L1 (fun l hl => ⟨hEle l hl, Int.le_refl _⟩)
            rcases hE2a with ⟨q, rfl⟩ | ⟨q, rfl⟩
            · refine ⟨?_, by omega⟩
              rcases hg' with z | ⟨z, z2⟩
              · exact Or.inl z
              · exact Or.inr ⟨z, by omega⟩
            · have hst : phi E2 L1 < phi E1 L1 := phi_lt nala (hle E2 L1 (fun l hl => ⟨hEle l hl, Int.le_refl _⟩)) (by unfold ph1; omega)
              exact ⟨Or.inr ⟨rfl, by omega⟩, by omega⟩
        · have hLle : ∀ l, l < 8 → (upd L1 nb (L1 na - 1) l).toInt ≤ (L1 l).toInt := by
            intro l hl
            unfold upd
            by_cases e2 : l = nb
            · rw [if_pos e2, e2, hl1]; omega
            · rw [if_neg e2]; omega
          have hLa : upd L1 nb (L1 na - 1) na = L1 na := by simp [upd, hab2]
          have hLb : upd L1 nb (L1 na - 1) nb = L1 na - 1 := by simp [upd]
          refine part3 1 E2 (upd L1 nb (L1 na - 1)) E2' (upd L1' nb (L1 na - 1)) (Or.inr rfl) hE2 (ag8_u hL1 _ _) (fun l hl e1 e2 => ⟨hE2r l hl e1, by simp [upd, e2]⟩) ⟨?_, ?_, ?_, ?_⟩ (fun p1 p2 => ?_)
          · have := hEle na nala; omega
          · rw [hEb]; omega
          · rw [hLa]; omega
          · rw [hLb, hl1]; omega
          · have h8 := hle8 E2 (upd L1 nb (L1 na - 1)) (fun l hl => ⟨hEle l hl, hLle l hl⟩)
            have hst : phi E2 (upd L1 nb (L1 na - 1)) < phi E1 L1 := phi_lt nblb (hle E2 _ (fun l hl => ⟨hEle l hl, hLle l hl⟩)) (by
              rw [hLb, hl1, hEb] at p2
              unfold ph1
              rw [hLb, hl1, hEb]
              omega)
            exact ⟨Or.inr ⟨rfl, by omega⟩, by omega⟩
      have he1 : (E1 nb + 1).toInt = (E1 nb).toInt + 1 := by
        rw [i_add (by rw [li_1]; omega) (by rw [li_1]; omega), li_1]
      simp only [← hE1 na nala, ← hE1 nb nblb, Int32.lt_iff_toInt_lt, he1]
      refine jn_itq ⟨fun q => by omega, fun q => by omega⟩ (fun d1 => ?_) (fun d1 => ?_)
      · exact part2 g' E1 E1' (hg'.imp id And.left) hE1 (fun l _ _ => rfl) (Or.inl ⟨rfl, rfl⟩)
      · refine part2 1 (upd E1 na (E1 nb + 1)) (upd E1' na (E1 nb + 1)) (Or.inr rfl) (ag8_u hE1 _ _) (fun l hl e1 => by simp [upd, e1]) (Or.inr ⟨?_, rfl⟩)
        simp only [upd, if_true, he1]
        omega)
    exact inner F _ _ ⟨0, 0, E, L, E', L', by omega, Or.inl rfl, Nat.le_refl _, rfl, rfl, hE, hL, hB⟩ (by show N - cN 0 < F; omega))
  refine outer F _ _ ⟨1, _, _, _, _, Or.inr rfl, rfl, rfl, ?_, ?_, ?_⟩ ?_
  · intro l hl
    simp only [cpf, hl, if_true, h.a23]
  · intro l hl
    simp only [cpf, hl, if_true, h.a24]
  · intro l hl
    simp only [cpf, hl, if_true, h.a23, h.a24]
    exact hh l hl
  · have hb : phi (cpf 8 (τ.1.2 23) (τ.1.2 25)) (cpf 8 (τ.1.2 24) (τ.1.2 26)) ≤ 792 := by
      apply phi_le
      intro l hl
      simp only [cpf, hl, if_true, h.a23, h.a24]
      exact hh l hl
    show (if (1 : Int32) = 0 then 0 else phi (cpf 8 (τ.1.2 23) (τ.1.2 25)) (cpf 8 (τ.1.2 24) (τ.1.2 26)) + 1) < F
    rw [if_neg (by decide)]
    omega
theorem R.eXM (h : R τ σ) (E L E' L' : Nat → Int32) : R (eX τ E L) (eM σ E' L') := ⟨h.s, h.a, h.sc, h.pl, h.dg, h.me, h.ru, h.fi, h.th, h.wa, h.dr, h.si, h.wo, h.as, h.wf⟩
theorem op_hour (hF : 1000 ≤ F) (h : R τ σ) (x1 x2 : Int32) : Op σ (x0_hour F x1 x2 τ) (m_hour F x1 x2 σ) := by
  obtain ⟨v, w, h1, h2, b, E, L, E', L', hb, rfl, rfl, hE, hL, hB⟩ := settle_j hF h
  simp only [x0_hour, m_hour, x0_isLayer_e, x0_in_e, m_isLayer_e, m_in_e, ob_s, bI_0, ite_not, h1, h2, tk_00, li_0, li_1, li_2]
  by_cases c1 : 0 ≤ x1.toInt ∧ x1.toInt < 8
  · rw [if_pos c1, if_pos c1]
    by_cases c2 : 0 ≤ x2.toInt ∧ x2.toInt < 2
    · rw [if_pos c2, if_pos (show 0 ≤ x2.toInt ∧ x2.toInt ≤ 1 by omega)]
      refine Op.ite (fun _ => Op.mk rfl rfl (h.eXM E L E' L') (Nat.le_succ _) (by decide) (by decide)) (fun _ => ?_)
      have hcl := c_i c1.1
      have ok : okI x1 8 = true := okI_i c1.1 (by omega)
      have e1 : (eX τ E L).1.2 25 x1.toNatClampNeg = (eM σ E' L').2 70 x1.toNatClampNeg := hE _ (by omega)
      have e2 : (eX τ E L).1.2 26 x1.toNatClampNeg = (eM σ E' L').2 71 x1.toNatClampNeg := hL _ (by omega)
      simp only [ok, if_true, e1, e2]
      exact Op.ite (fun _ => Op.mk rfl rfl (h.eXM E L E' L') (Nat.le_succ _) (by decide) (by decide)) (fun _ => Op.mk rfl rfl (h.eXM E L E' L') (Nat.le_succ _) (by decide) (by decide))
    · rw [if_neg c2, if_neg (show ¬ (0 ≤ x2.toInt ∧ x2.toInt ≤ 1) by omega)]
      exact Op.same h rfl rfl
  · rw [if_neg c1, if_neg c1]
    exact Op.same h rfl rfl
end HOURS
