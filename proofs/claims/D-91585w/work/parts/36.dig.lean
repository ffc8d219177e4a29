/-! digs -/
def rS (τ : XS) (j : Nat) (f : Nat → Option Nat) : XS := (τ.1, (fun q => if q = j then f else τ.2.1 q), τ.2.2)
theorem xR_rS (τ : XS) (j i : Nat) (f : Nat → Option Nat) (r : Option Nat) : xR (rS τ j f) j i r = rS τ j (va_up f i r) := by
  unfold xR rS
  simp only [Prod.mk.injEq, true_and, and_true]
  funext q
  by_cases hq : q = j <;> simp [hq]
theorem rS_id (τ : XS) (j : Nat) : rS τ j (τ.2.1 j) = τ := by
  obtain ⟨a, b, c⟩ := τ
  unfold rS
  simp only [Prod.mk.injEq, true_and, and_true]
  funext q
  by_cases hq : q = j <;> simp [hq]
/-- the ordered row, moved up behind k -/
def oar (ord : Nat → Option Nat) (N k : Nat) : Nat → Option Nat := fun i => if k < i ∧ i ≤ N then ord (i - 1) else ord i
theorem oar_N (ord : Nat → Option Nat) (N : Nat) : oar ord N N = ord := by
  funext i
  unfold oar
  exact if_neg (by omega)
theorem oar_s (ord : Nat → Option Nat) {N k : Nat} (hk : k + 1 ≤ N) : va_up (oar ord N (k + 1)) (k + 1) (ord k) = oar ord N k := by
  funext i
  unfold va_up oar
  by_cases hi : i = k + 1
  · subst hi
    rw [if_pos rfl, if_pos (by omega)]
    rfl
  · rw [if_neg hi]
    by_cases h2 : k + 1 < i ∧ i ≤ N
    · rw [if_pos h2, if_pos (by omega)]
    · rw [if_neg h2, if_neg (by omega)]
theorem ins_at (f : Nat → Int) (x : Int) : ∀ N : Nat, ∃ p, p ≤ N ∧ (∀ q, p ≤ q → q < N → x < f q) ∧ (p = 0 ∨ ¬ x < f (p - 1)) := by
  intro N
  induction N with
  | zero => exact ⟨0, by omega, fun q _ h => by omega, Or.inl rfl⟩
  | succ N ih =>
    obtain ⟨p, h1, h2, h3⟩ := ih
    by_cases hx : x < f N
    · refine ⟨p, by omega, fun q hq1 hq2 => ?_, h3⟩
      by_cases hqN : q = N
      · rw [hqN]; exact hx
      · exact h2 q hq1 (by omega)
    · exact ⟨N + 1, by omega, fun q hq1 hq2 => by omega, Or.inr hx⟩
section DIG
variable {F : Nat} {τ : XS} {σ : MS}
theorem x4_init_e {c : Nat} (hc : c ∈ [5, 6, 7]) (x1 x2 x4 x5 x6 x7 x8 : Int32) (x3 : Nat) (V : Nat → Value) : x4_init F τ.2.2.2.2 x1 x2 x3 x4 x5 x6 x7 x8 (xN τ (.inr (c, V))) = some (0, xN τ (.inr (c, updV (updV (updV (updV (updV (updV (updV (updV (updV V 8 (.int (-1))) 0 (.int x1)) 1 (.int x2)) 7 (.ref x3)) 2 (.int x4)) 3 (.int x5)) 4 (.int x6)) 5 (.int x7)) 6 (.int x8))), 0, 0) := by
  simp only [x4_init, pF_xN hc, ob_s]
theorem dig_ins (hF : 200 ≤ F) {N : Nat} (hNb : N < 100) {a : Nat} {fr : Nat → Int32} {nm : Nat → Int32} {x7 : Int32} (ha : isC τ a [5, 6, 7] = true ∧ gI τ a [5, 6, 7] 4 = some x7 ∧ gI τ a [5, 6, 7] 0 = some (nI N)) (ho : ∀ q, q < N → ∃ b, τ.2.1 2 q = some b ∧ isC τ b [5, 6, 7] = true ∧ gI τ b [5, 6, 7] 4 = some (fr q) ∧ gI τ b [5, 6, 7] 0 = some (nm q) ∧ (nm q).toInt ≤ N) {p : Nat} (hp : p ≤ N) (h2 : ∀ q, p ≤ q → q < N → x7.toInt < (fr q).toInt) (h3 : p = 0 ∨ ¬ x7.toInt < (fr (p - 1)).toInt) (K : Int32 × XS → XR Int32) :
    lp (x0_dig_B192 F K a) F (nI N, τ) = K (nI p, rS τ 2 (oar (τ.2.1 2) N p)) := by
  refine lp_to (fun z => ∃ k : Nat, p ≤ k ∧ k ≤ N ∧ z = (nI k, rS τ 2 (oar (τ.2.1 2) N k))) (fun z => cN z.1) (fun o => o = K (nI p, rS τ 2 (oar (τ.2.1 2) N p))) ?_ F _ ⟨N, hp, Nat.le_refl _, by rw [oar_N, rS_id]⟩ (by show cN (nI N) < F; rw [cN_nI (by omega)]; omega)
  intro RX z hi ih
  obtain ⟨k, hk1, hk2, rfl⟩ := hi
  unfold x0_dig_B192
  simp only [Int32.le_iff_toInt_le, ni_i (show k < 2147483648 by omega), li_0]
  have hgI : ∀ f b c, gI (rS τ 2 f) b [5, 6, 7] c = gI τ b [5, 6, 7] c := fun f b c => rfl
  have hiC : ∀ f b, isC (rS τ 2 f) b [5, 6, 7] = isC τ b [5, 6, 7] := fun f b => rfl
  have hr2 : ∀ f, (rS τ 2 f).2.1 2 = f := fun f => rfl
  by_cases hk0 : k = 0
  · subst hk0
    have : p = 0 := by omega
    subst this
    rw [if_pos (by omega)]
  · obtain ⟨j, rfl⟩ : ∃ j, k = j + 1 := ⟨k - 1, by omega⟩
    rw [if_neg (by omega)]
    obtain ⟨b, b1, b2, b3, b4, b5⟩ := ho j (by omega)
    have hoj : oar (τ.2.1 2) N (j + 1) j = some b := by
      unfold oar
      rw [if_neg (by omega)]
      exact b1
    have hah : x4_isAhead F a b (rS τ 2 (oar (τ.2.1 2) N (j + 1))) = some (bI (x7.toInt < (fr j).toInt), rS τ 2 (oar (τ.2.1 2) N (j + 1)), 0, 0) := by
      simp only [x4_isAhead, hgI, ha.2.1, ha.2.2, b3, b4, ob_s, Int32.lt_iff_toInt_lt, Int32.le_iff_toInt_le, ni_i (show N < 2147483648 by omega)]
      by_cases c1 : x7.toInt < (fr j).toInt
      · rw [if_pos c1, bI_t c1]
      · rw [if_neg c1, bI_f c1, if_pos b5]
        split <;> rfl
    simp only [dn_s, okI_nI (show j < 100 by omega) (show 100 < 2147483648 by omega), if_true, ni_c (show j < 2147483648 by omega), hr2, hoj, ob_s, hiC, ha.1, b2, hah, tk_00, bI_0, ite_not, okI_nI (show j + 1 < 100 by omega) (show 100 < 2147483648 by omega), ni_c (show j + 1 < 2147483648 by omega), nx_e]
    by_cases hjp : p = j + 1
    · rw [if_neg (by
        rcases h3 with h3 | h3
        · omega
        · rw [hjp] at h3; exact h3), hjp]
    · rw [if_pos (h2 j (by omega) (by omega)), ← b1, xR_rS, oar_s _ (by omega)]
      refine ih _ ⟨j, by omega, by omega, ?_⟩ ?_
      · rw [dn_m, dn_s]
      · show cN (nI (j + 1) + (-1)) < cN (nI (j + 1))
        rw [dn_m, dn_s, cN_nI (by omega), cN_nI (by omega)]
        omega
theorem cj_c {α : Type} {p q : Prop} [Decidable p] [Decidable q] (a b : α) : (if p then if q then a else b else b) = if p ∧ q then a else b := by
  by_cases hp : p <;> by_cases hq : q <;> simp [hp, hq]
def dgV (c : Nat) (n hand : Int32) (b : Nat) (top bottom frm to told : Int32) : Nat → Value := updV (updV (updV (updV (updV (updV (updV (updV (updV (fun q => defaultValue ((if c = 5 then tyX5 else if c = 6 then tyX6 else tyX7) q)) 8 (.int (-1))) 0 (.int n)) 1 (.int hand)) 7 (.ref b)) 2 (.int top)) 3 (.int bottom)) 4 (.int frm)) 5 (.int to)) 6 (.int told)
theorem dig_173 (hF : 200 ≤ F) (h : R τ σ) {N : Nat} (hN : σ.1 4 = nI N) (hNb : N < 100) (x1 x2 x3 x4 x5 x6 x7 x8 : Int32) (hok : okR (σ.1 0) (σ.1 1) x3 x4) (hk : 0 ≤ x2.toInt ∧ x2.toInt ≤ 2) (hf : 0 ≤ x7.toInt) :
    ∃ τ', x0_dig_173 F (τ.2.2.2.2 + 1) (xN (xN τ (.inr (2, rcV (σ.1 0) x3 x4))) (.inr (5 + cN x2, dgV (5 + cN x2) (nI N) x1 τ.2.2.2.2 x5 x6 x7 x8 (σ.1 2)))) = some (nI N + 1 - 1, τ', 0, 0) ∧ R τ' (sS (sA (sA (sA (sA (sA (sA (sA (sA (sA (sA σ 5 N x1) 6 N x2) 7 N x3) 8 N x4) 9 N x5) 10 N x6) 11 N x7) 12 N x8) 13 N (σ.1 2)) 14 N (-1)) 4 (nI N + 1)) := by
  obtain ⟨-, hd, π, p1, p2, p3⟩ := h.dg
  rw [hN, cN_nI (by omega)] at hd p1 p2 p3
  have hR1 := h.new (.inr (2, rcV (σ.1 0) x3 x4))
  have hpM1 : PM M0 τ.2.2.2.1 (xN τ (.inr (2, rcV (σ.1 0) x3 x4))).2.2.2.1 := PM.new h.wf
  have hpM2 : PM M0 (xN τ (.inr (2, rcV (σ.1 0) x3 x4))).2.2.2.1 (xN (xN τ (.inr (2, rcV (σ.1 0) x3 x4))) (.inr (5 + cN x2, dgV (5 + cN x2) (nI N) x1 τ.2.2.2.2 x5 x6 x7 x8 (σ.1 2)))).2.2.2.1 := PM.new hR1.wf
  have hpM := hpM1.tr hpM2
  have hrc := (rcV_ob (σ.1 0) x3 x4 τ).mono hpM2
  obtain ⟨hc1, hc2⟩ := kind3 hk.1 hk.2
  obtain ⟨p, q1, q2, q3⟩ := ins_at (fun q => (σ.2 11 (π q)).toInt) x7.toInt N
  have hwf2 : WFp (xN (xN τ (.inr (2, rcV (σ.1 0) x3 x4))) (.inr (5 + cN x2, dgV (5 + cN x2) (nI N) x1 τ.2.2.2.2 x5 x6 x7 x8 (σ.1 2)))) := hR1.wf.new
  have hat : (xN (xN τ (.inr (2, rcV (σ.1 0) x3 x4))) (.inr (5 + cN x2, dgV (5 + cN x2) (nI N) x1 τ.2.2.2.2 x5 x6 x7 x8 (σ.1 2)))).2.2.2.1 (τ.2.2.2.2 + 1) = some (.inr (5 + cN x2, dgV (5 + cN x2) (nI N) x1 τ.2.2.2.2 x5 x6 x7 x8 (σ.1 2))) := if_pos rfl
  have hT1 : (xN (xN τ (.inr (2, rcV (σ.1 0) x3 x4))) (.inr (5 + cN x2, dgV (5 + cN x2) (nI N) x1 τ.2.2.2.2 x5 x6 x7 x8 (σ.1 2)))).1 = τ.1 := rfl
  have hT2 : (xN (xN τ (.inr (2, rcV (σ.1 0) x3 x4))) (.inr (5 + cN x2, dgV (5 + cN x2) (nI N) x1 τ.2.2.2.2 x5 x6 x7 x8 (σ.1 2)))).2.1 = τ.2.1 := rfl
  have hTs : (xN (xN τ (.inr (2, rcV (σ.1 0) x3 x4))) (.inr (5 + cN x2, dgV (5 + cN x2) (nI N) x1 τ.2.2.2.2 x5 x6 x7 x8 (σ.1 2)))).2.2.1 = τ.2.2.1 := rfl
  generalize hT : xN (xN τ (.inr (2, rcV (σ.1 0) x3 x4))) (.inr (5 + cN x2, dgV (5 + cN x2) (nI N) x1 τ.2.2.2.2 x5 x6 x7 x8 (σ.1 2))) = T at *
  have e4 : T.1.1 4 = nI N := by rw [hT1, ← hN]; exact h.e4
  have ok : okI (nI N) 100 = true := okI_nI hNb (by omega)
  have hd2 : ∀ i, i < N → ∃ a, τ.2.1 1 i = some a ∧ Do T.2.2.2.1 a i (σ.1 0) (σ.2 5 i) (σ.2 6 i) (σ.2 7 i) (σ.2 8 i) (σ.2 9 i) (σ.2 10 i) (σ.2 11 i) (σ.2 12 i) (σ.2 13 i) (σ.2 14 i) ∧ okR (σ.1 0) (σ.1 1) (σ.2 7 i) (σ.2 8 i) ∧ 0 ≤ (σ.2 6 i).toInt ∧ (σ.2 6 i).toInt ≤ 2 ∧ 0 ≤ (σ.2 11 i).toInt := by
    intro i hi
    obtain ⟨a, h1, h2, h3, h4, h5, h6⟩ := hd i hi
    exact ⟨a, h1, h2.mono hpM ⟨rfl, rfl, rfl⟩ ⟨h4, h5⟩, h3, h4, h5, h6⟩
  have hins := fun K => dig_ins (F := F) (τ := xR T 1 N (some (τ.2.2.2.2 + 1))) hF hNb (a := τ.2.2.2.2 + 1) (fr := fun q => σ.2 11 (π q)) (nm := fun q => nI (π q)) (x7 := x7) ⟨isC_of hat hc1, gI_of hat hc1 (by simp [dgV, updV]), gI_of hat hc1 (by simp [dgV, updV])⟩ (fun q hq => by
      obtain ⟨hpq, ho⟩ := p1 q hq
      obtain ⟨a, ha, ⟨b, V, g0, g1, g2, g3, g4, g5, g6⟩, -, hk0, hk2, -⟩ := hd2 (π q) hpq
      refine ⟨a, ?_, isC_of g0 (kind3 hk0 hk2).1, gI_of g0 (kind3 hk0 hk2).1 g5, gI_of g0 (kind3 hk0 hk2).1 g1, by rw [ni_i (by omega)]; omega⟩
      show T.2.1 2 q = some a
      rw [hT2, ho, ha]) q1 q2 q3 K
  have e4' : ∀ r, (xR T 1 N r).1.1 4 = nI N := fun r => e4
  have ho2 : (xR T 1 N (some (τ.2.2.2.2 + 1))).2.1 2 = τ.2.1 2 := by
    show T.2.1 2 = τ.2.1 2
    rw [hT2]
  rw [ho2] at hins
  refine ⟨xS (xR (rS (xR T 1 N (some (τ.2.2.2.2 + 1))) 2 (oar (τ.2.1 2) N p)) 2 p (some (τ.2.2.2.2 + 1))) 4 (nI N + 1), ?_, ?_⟩
  · unfold x0_dig_173
    simp only [isC_of hat hc1, if_true, e4, ok, nx_e, ni_c (show N < 2147483648 by omega), e4', hins]
    unfold x0_dig_236
    have hiC : ∀ f, isC (rS (xR T 1 N (some (τ.2.2.2.2 + 1))) 2 f) (τ.2.2.2.2 + 1) [5, 6, 7] = true := fun f => isC_of hat hc1
    have e4'' : ∀ f, (rS (xR T 1 N (some (τ.2.2.2.2 + 1))) 2 f).1.1 4 = nI N := fun f => e4
    simp only [hiC, if_true, okI_nI (show p < 100 by omega) (show 100 < 2147483648 by omega), nx_e, ni_c (show p < 2147483648 by omega), xR_1, xS_at, e4'']
  · have hc1' : cN (nI N + 1) = N + 1 := by rw [← nI_succ, cN_nI (by omega)]
    have hs : RS T σ := by
      unfold RS
      rw [hT1]
      exact h.s
    have ha : RA T σ := by
      unfold RA
      rw [hT1]
      exact h.a
    have hRT : R T σ := by
      refine h.keep hs ha h.sc hT2 hpM hwf2 (fun _ _ => rfl) (fun _ _ => rfl)
    refine ⟨⟨hRT.s.1, hRT.s.2.1, hRT.s.2.2.1, hRT.s.2.2.2.1, rfl, hRT.s.2.2.2.2.2.1, hRT.s.2.2.2.2.2.2.1, hRT.s.2.2.2.2.2.2.2.1, hRT.s.2.2.2.2.2.2.2.2.1, hRT.s.2.2.2.2.2.2.2.2.2.1, hRT.s.2.2.2.2.2.2.2.2.2.2.1, hRT.s.2.2.2.2.2.2.2.2.2.2.2.1, hRT.s.2.2.2.2.2.2.2.2.2.2.2.2.1, hRT.s.2.2.2.2.2.2.2.2.2.2.2.2.2.1, hRT.s.2.2.2.2.2.2.2.2.2.2.2.2.2.2.1, hRT.s.2.2.2.2.2.2.2.2.2.2.2.2.2.2.2.1, hRT.s.2.2.2.2.2.2.2.2.2.2.2.2.2.2.2.2⟩, hRT.a, hRT.sc, hRT.pl, ?_, hRT.me, hRT.ru, hRT.fi, hRT.th, hRT.wa, hRT.dr, hRT.si, hRT.wo, hRT.as, hRT.wf⟩
    refine ⟨⟨N + 1, (nI_succ N).symm, by omega⟩, ?_, ?_⟩
    · show ∀ i, i < cN (nI N + 1) → ∃ a, va_up (T.2.1 1) N (some (τ.2.2.2.2 + 1)) i = some a ∧ Do T.2.2.2.1 a i (σ.1 0) (upd (σ.2 5) N x1 i) (upd (σ.2 6) N x2 i) (upd (σ.2 7) N x3 i) (upd (σ.2 8) N x4 i) (upd (σ.2 9) N x5 i) (upd (σ.2 10) N x6 i) (upd (σ.2 11) N x7 i) (upd (σ.2 12) N x8 i) (upd (σ.2 13) N (σ.1 2) i) (upd (σ.2 14) N (-1) i) ∧ okR (σ.1 0) (σ.1 1) (upd (σ.2 7) N x3 i) (upd (σ.2 8) N x4 i) ∧ 0 ≤ (upd (σ.2 6) N x2 i).toInt ∧ (upd (σ.2 6) N x2 i).toInt ≤ 2 ∧ 0 ≤ (upd (σ.2 11) N x7 i).toInt
      rw [hc1', hT2]
      intro i hi
      by_cases hiN : i = N
      · subst hiN
        simp only [upd, if_true]
        exact ⟨_, va_up_self _ _ _, ⟨τ.2.2.2.2, _, hat, by simp [dgV, updV], by simp [dgV, updV], by simp [dgV, updV], by simp [dgV, updV], by simp [dgV, updV], by simp [dgV, updV], by simp [dgV, updV], by simp [dgV, updV], by simp [dgV, updV], hrc⟩, hok, hk.1, hk.2, hf⟩
      · simp only [upd, hiN, if_false]
        obtain ⟨a, h1, h2⟩ := hd2 i (by omega)
        exact ⟨a, (va_up_ne _ _ hiN).trans h1, h2⟩
    · show ∃ π' : Nat → Nat, (∀ k, k < cN (nI N + 1) → π' k < cN (nI N + 1) ∧ va_up (oar (τ.2.1 2) N p) p (some (τ.2.2.2.2 + 1)) k = va_up (T.2.1 1) N (some (τ.2.2.2.2 + 1)) (π' k)) ∧ (∀ i, i < cN (nI N + 1) → ∃ k, k < cN (nI N + 1) ∧ π' k = i) ∧ ∀ k l, k < l → l < cN (nI N + 1) → (upd (σ.2 11) N x7 (π' k)).toInt < (upd (σ.2 11) N x7 (π' l)).toInt ∨ ((upd (σ.2 11) N x7 (π' k)).toInt = (upd (σ.2 11) N x7 (π' l)).toInt ∧ π' k < π' l)
      rw [hc1', hT2]
      refine ⟨fun k => if k < p then π k else if k = p then N else π (k - 1), ?_, ?_, ?_⟩
      · intro k hk
        by_cases c1 : k < p
        · have hpk := p1 k (by omega)
          simp only [c1, if_true]
          refine ⟨by omega, ?_⟩
          rw [va_up_ne _ _ (by omega), va_up_ne _ _ (by omega)]
          unfold oar
          rw [if_neg (by omega)]
          exact hpk.2
        · by_cases c2 : k = p
          · subst c2
            simp only [Nat.lt_irrefl, if_false, if_true]
            exact ⟨by omega, by rw [va_up_self, va_up_self]⟩
          · have hpk := p1 (k - 1) (by omega)
            simp only [c1, c2, if_false]
            refine ⟨by omega, ?_⟩
            rw [va_up_ne _ _ c2, va_up_ne _ _ (by omega)]
            unfold oar
            rw [if_pos (by omega)]
            exact hpk.2
      · intro i hi
        by_cases hiN : i = N
        · subst hiN
          exact ⟨p, by omega, by simp⟩
        · obtain ⟨k, k1, k2⟩ := p2 i (by omega)
          by_cases c1 : k < p
          · exact ⟨k, by omega, by simp [c1, k2]⟩
          · refine ⟨k + 1, by omega, ?_⟩
            have h1 : ¬ k + 1 < p := by omega
            have h2 : ¬ k + 1 = p := by omega
            simp [h1, h2, k2]
      · intro k l hkl hl
        have hu : ∀ q, q < N → upd (σ.2 11) N x7 (π q) = σ.2 11 (π q) := by
          intro q hq
          have := (p1 q hq).1
          have hne : ¬ π q = N := by omega
          simp [upd, hne]
        have hun : upd (σ.2 11) N x7 N = x7 := by simp [upd]
        have q3' : p = 0 ∨ ¬ x7.toInt < (σ.2 11 (π (p - 1))).toInt := q3
        by_cases c1 : l < p
        · have c0 : k < p := by omega
          simp only [c0, c1, if_true]
          rw [hu k (by omega), hu l (by omega)]
          exact p3 k l hkl (by omega)
        · by_cases c2 : l = p
          · subst c2
            have c0 : k < l := hkl
            simp only [c0, Nat.lt_irrefl, if_false, if_true]
            rw [hu k (by omega), hun]
            have hpk := (p1 k (by omega)).1
            rcases q3' with q3' | q3'
            · omega
            · by_cases hkp : k = l - 1
              · rw [← hkp] at q3'
                omega
              · have := p3 k (l - 1) (by omega) (by omega)
                omega
          · simp only [c1, c2, if_false]
            by_cases c0 : k < p
            · simp only [c0, if_true]
              rw [hu k (by omega), hu (l - 1) (by omega)]
              exact p3 k (l - 1) (by omega) (by omega)
            · by_cases c3 : k = p
              · subst c3
                simp only [Nat.lt_irrefl, if_false, if_true]
                rw [hun, hu (l - 1) (by omega)]
                exact Or.inl (q2 (l - 1) (by omega) (by omega))
              · simp only [c0, c3, if_false]
                rw [hu (k - 1) (by omega), hu (l - 1) (by omega)]
                exact p3 (k - 1) (l - 1) (by omega) (by omega)
end DIG
