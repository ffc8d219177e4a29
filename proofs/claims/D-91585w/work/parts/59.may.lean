/-! may: bits of places -/
def bq (x : Int32) (i : Nat) : Bool := x.toBitVec.getLsbD i
theorem bq_or (x y : Int32) (i : Nat) : bq (x ||| y) i = (bq x i || bq y i) := by
  unfold bq
  rw [Int32.toBitVec_or, BitVec.getLsbD_or]
theorem bq_ext {x y : Int32} (h : ∀ i, i < 32 → bq x i = bq y i) : x = y := Int32.toBitVec_inj.mp (BitVec.eq_of_getLsbD_eq h)
theorem bq_0 (i : Nat) : bq 0 i = false := BitVec.getLsbD_zero
theorem bq_sh1 : ∀ k : Fin 31, ∀ i : Fin 32, bq ((1 : Int32) <<< (nI k.1 &&& 31)) i.1 = decide (i.1 = k.1) := by decide +kernel
theorem sm_l : ∀ n : Fin 32, ((nI n.1 &&& 31).toBitVec.smod 32).toNat = n.1 := by decide +kernel
theorem bq_1 : ∀ i : Fin 32, bq 1 i.1 = decide (i.1 = 0) := by decide +kernel
theorem bq_t (x : Int32) {k : Nat} (hk : k < 31) : (x >>> (nI k &&& 31)) &&& 1 = if bq x k = true then 1 else 0 := by
  apply bq_ext
  intro i hi
  have h1 : bq ((x >>> (nI k &&& 31)) &&& 1) i = (bq (x >>> (nI k &&& 31)) i && bq 1 i) := by
    unfold bq
    rw [Int32.toBitVec_and, BitVec.getLsbD_and]
  have h2 := bq_1 ⟨i, hi⟩
  rw [h1, h2]
  by_cases h0 : i = 0
  · subst h0
    have h3 : bq (x >>> (nI k &&& 31)) 0 = bq x k := by
      unfold bq
      rw [Int32.toBitVec_shiftRight]
      show (x.toBitVec.sshiftRight ((nI k &&& 31).toBitVec.smod 32).toNat).getLsbD 0 = _
      rw [sm_l ⟨k, by omega⟩, BitVec.getLsbD_sshiftRight]
      simp [show k < 32 by omega]
    rw [h3]
    cases hb : bq x k with
    | true => rfl
    | false => rfl
  · rw [show decide (i = 0) = false from decide_eq_false h0, Bool.and_false]
    cases hb : bq x k with
    | true => rw [if_pos rfl, h2]; exact (decide_eq_false h0).symm
    | false => rw [if_neg (by simp), bq_0]
theorem bq_set (x : Int32) {k i : Nat} (hk : k < 31) (hi : i < 32) : bq (x ||| ((1 : Int32) <<< (nI k &&& 31))) i = (bq x i || decide (i = k)) := by
  rw [bq_or, bq_sh1 ⟨k, hk⟩ ⟨i, hi⟩]
def Kh (σ σ' : MS) : Prop := (∀ k, ¬ k = 58 → σ'.1 k = σ.1 k) ∧ ∀ j, ¬ j = 37 → ¬ j = 38 → ¬ j = 39 → σ'.2 j = σ.2 j
section MAY
variable {F : Nat} {τ : XS} {σ : MS}
theorem Kh.rf : Kh σ σ := ⟨fun _ _ => rfl, fun _ _ _ _ => rfl⟩
theorem Kh.tr {σ1 σ2 : MS} (h1 : Kh σ σ1) (h2 : Km σ1 σ2) : Kh σ σ2 := ⟨fun k a => by rw [h2.1]; exact h1.1 k a, fun j a b c => (h2.2 j a b c).trans (h1.2 j a b c)⟩
theorem R.kh (h : R τ σ) {σ' : MS} (k : Kh σ σ') : Rh τ σ' := by
  refine R.kk h (Kx.rf h.h) ⟨?_, k.2⟩
  funext q
  show (if q = 58 then (-1 : Int32) else σ'.1 q) = σ.1 q
  by_cases hq : q = 58
  · rw [if_pos hq, hq]; exact h.sc.2.2.2.2.2.2.2.2.symm
  · rw [if_neg hq]; exact k.1 q hq
theorem numS_w (hF : 1000 ≤ F) (h : Rh τ σ) (a b c d e : Int32) : ∃ v, (∀ τ', Kx τ τ' → ∃ τ2, x0_numberings F τ'.2.2.2.2 (askX τ' a b c d e) = some (v, τ2, 0, 0) ∧ Kx τ' τ2) ∧ ∀ σ', Rh τ σ' → ∃ σ2, m_numberings F (askM σ' a b c d e) = some (v, σ2) ∧ Km σ' σ2 := by
  obtain ⟨v, h1, -⟩ := numS_v hF h a b c d e
  refine ⟨v, h1, fun σ' h' => ?_⟩
  obtain ⟨v', τ2, σ2, e3, e4, k'⟩ := numS_j hF h' a b c d e
  obtain ⟨τ3, e5, -⟩ := h1 τ (Kx.rf h)
  rw [e5] at e3
  cases e3
  exact ⟨σ2, e4, k'.km⟩
/-- the meaning of a number, whatever asHand -/
theorem meaningOf_h (hF : 300 ≤ F) (h : Rh τ σ) (x1 x2 x3 : Int32) : ∃ v, x0_meaningOf F x1 x2 x3 τ = some (v, τ, 0, 0) ∧ m_meaningOf F x1 x2 x3 σ = some (v, σ) := by
  have hme : gMe τ.2.2.2.1 (τ.2.1 5) (σ.1 21) (σ.2 15) (σ.2 16) (σ.2 17) (σ.2 18) (σ.2 19) := R.me (σ := sS σ 58 (-1)) h
  have he : τ.1.1 12 = σ.1 21 := R.e12 (σ := sS σ 58 (-1)) h
  obtain ⟨⟨N, hN, hNb⟩, hl⟩ := hme
  rw [hN, cN_nI (by omega)] at hl
  have eN : τ.1.1 12 = nI N := by rw [← hN]; exact he
  unfold x0_meaningOf m_meaningOf
  rw [nx_e, eN, hN]
  obtain ⟨v, w, h1, h2, u, h3, h4⟩ := lp_join (BX := x0_meaningOf_B8 F x1 x2 x3) (BM := m_meaningOf_B8 F x1 x2 x3) (fun a b => ∃ k : Nat, k ≤ N ∧ a = (nI k - 1, τ) ∧ b = (nI k - 1, σ)) (fun a _ => cN (a.1 + 1)) (fun v w => ∃ u, v = (u, τ, 0, 0) ∧ w = (u, σ)) (by
    intro RX RM a b hi ih
    obtain ⟨k, hk, rfl, rfl⟩ := hi
    unfold x0_meaningOf_B8 m_meaningOf_B8
    cases k with
    | zero =>
      rw [if_pos (show (nI 0 - 1 : Int32) < 0 by decide), if_pos (show (nI 0 - 1 : Int32) < 0 by decide)]
      exact ⟨_, _, rfl, rfl, _, rfl, rfl⟩
    | succ k =>
      obtain ⟨ad, g1, g2⟩ := hl k (by omega)
      have ok : okI (nI k) 200 = true := okI_nI (by omega) (by omega)
      have ih' := ih (nI k - 1, τ) (nI k - 1, σ) ⟨k, by omega, rfl, rfl⟩ (by
        show cN (nI k - 1 + 1) < cN (nI (k + 1) - 1 + 1)
        rw [Int32.sub_add_cancel, Int32.sub_add_cancel, cN_nI (by omega), cN_nI (by omega)]
        omega)
      simp only [dn_s, dn_n (show k < 2147483648 by omega), if_false, ok, if_true, ni_c (show k < 2147483648 by omega), g1, ob_s, g2.gI (k := 0) (x := σ.2 15 k) (by simp) (List.mem_singleton.mpr rfl), g2.gI (k := 1) (x := σ.2 16 k) (by simp) (List.mem_singleton.mpr rfl), g2.gI (k := 2) (x := σ.2 17 k) (by simp) (List.mem_singleton.mpr rfl), g2.gI (k := 3) (x := σ.2 18 k) (by simp) (List.mem_singleton.mpr rfl), g2.gI (k := 4) (x := σ.2 19 k) (by simp) (List.mem_singleton.mpr rfl), x0_within_e, m_in_e, bI_0, ite_not, dn_m]
      by_cases c1 : σ.2 15 k = x1
      · rw [if_pos c1, if_pos c1]
        by_cases c2 : σ.2 16 k = x2
        · rw [if_pos c2, if_pos c2]
          by_cases c3 : (σ.2 18 k).toInt ≤ x3.toInt ∧ x3.toInt ≤ (σ.2 19 k).toInt
          · rw [if_pos c3, if_pos c3]
            exact ⟨_, _, rfl, rfl, _, rfl, rfl⟩
          · rw [if_neg c3, if_neg c3]
            exact ih'
        · rw [if_neg c2, if_neg c2]
          exact ih'
      · rw [if_neg c1, if_neg c1]
        exact ih') F (nI N - 1, τ) (nI N - 1, σ) ⟨N, Nat.le_refl _, rfl, rfl⟩ (by
        show cN (nI N - 1 + 1) < F
        rw [Int32.sub_add_cancel, cN_nI (by omega)]
        omega)
  exact ⟨u, by rw [h1, h3], by rw [h2, h4]⟩
theorem meaning_v (hF : 300 ≤ F) (h : R τ σ) (x1 x2 x3 : Int32) : ∃ v, (∀ τ', Kx τ τ' → x0_meaningOf F x1 x2 x3 τ' = some (v, τ', 0, 0)) ∧ ∀ σ', Kh σ σ' → m_meaningOf F x1 x2 x3 σ' = some (v, σ') := by
  obtain ⟨v, h1, h2⟩ := meaningOf_h hF h.h x1 x2 x3
  refine ⟨v, fun τ' kx => ?_, fun σ' kh => ?_⟩
  · obtain ⟨v', h3, h4⟩ := meaningOf_h hF (h.h.kk kx Km.rf) x1 x2 x3
    rw [h2] at h4
    cases h4
    exact h3
  · obtain ⟨v', h3, h4⟩ := meaningOf_h hF (h.kh kh) x1 x2 x3
    rw [h1] at h3
    cases h3
    exact h4
/-- a find may have come out of a place in a week, as known at t -/
def opP (σ : MS) (ND f p : Nat) (wk t : Int32) : Prop := ∃ i, i < ND ∧ ¬ σ.2 6 i = 2 ∧ σ.2 5 i = σ.2 40 f ∧ ((σ.2 11 i).toInt ≤ wk.toInt ∧ wk.toInt ≤ (σ.2 12 i).toInt) ∧ knw (σ.2 13 i) (σ.2 14 i) t ∧ ¬ (σ.2 45 f).toInt < (σ.2 9 i).toInt ∧ ¬ (σ.2 10 i).toInt < (σ.2 44 f).toInt ∧ mee (σ.1 0) (σ.2 7 i) (σ.2 8 i) (σ.2 3 p) (σ.2 4 p)
theorem opP_s {f p k : Nat} {wk t : Int32} (hno : ¬ ∃ i, i < k ∧ ¬ σ.2 6 i = 2 ∧ σ.2 5 i = σ.2 40 f ∧ ((σ.2 11 i).toInt ≤ wk.toInt ∧ wk.toInt ≤ (σ.2 12 i).toInt) ∧ knw (σ.2 13 i) (σ.2 14 i) t ∧ ¬ (σ.2 45 f).toInt < (σ.2 9 i).toInt ∧ ¬ (σ.2 10 i).toInt < (σ.2 44 f).toInt ∧ mee (σ.1 0) (σ.2 7 i) (σ.2 8 i) (σ.2 3 p) (σ.2 4 p)) (h : ¬ (¬ σ.2 6 k = 2 ∧ σ.2 5 k = σ.2 40 f ∧ ((σ.2 11 k).toInt ≤ wk.toInt ∧ wk.toInt ≤ (σ.2 12 k).toInt) ∧ knw (σ.2 13 k) (σ.2 14 k) t ∧ ¬ (σ.2 45 f).toInt < (σ.2 9 k).toInt ∧ ¬ (σ.2 10 k).toInt < (σ.2 44 f).toInt ∧ mee (σ.1 0) (σ.2 7 k) (σ.2 8 k) (σ.2 3 p) (σ.2 4 p))) : ¬ opP σ (k + 1) f p wk t := by
  rintro ⟨i, hi, q⟩
  by_cases hik : i = k
  · subst hik; exact h q
  · exact hno ⟨i, by omega, q⟩
theorem open_x (hF : 1000 ≤ F) (h : R τ σ) {ND NF NP f p : Nat} (hND : σ.1 4 = nI ND) (hNDb : ND ≤ 100) (hNF : σ.1 57 = nI NF) (hNFb : NF ≤ 150) (hf : f < NF) (hNP : σ.1 3 = nI NP) (hNPb : NP ≤ 30) (hp : p < NP) {af ap : Nat} (haf : τ.2.1 7 f = some af) (hap : τ.2.1 0 p = some ap) (wk t : Int32) {τ' : XS} (kx : Kx τ τ') : x0_isOpen F af ap wk t τ' = some (cI (opP σ ND f p wk t), τ', 0, 0) := by
  obtain ⟨s1, s2, s3, s4, -⟩ := h.sc
  have hw : 0 < (σ.1 0).toInt := by omega
  have h' : R τ' σ := h.kk kx Km.rf
  obtain ⟨a, ha, hr, -⟩ := finds_r h hNF hNFb hf
  rw [haf] at ha
  cases ha
  obtain ⟨f0, f1, f2, f3, f4, f5, f6, f7, f8⟩ := hr τ' kx.2.2.1
  obtain ⟨-, hd, -⟩ := h'.dg
  rw [hND, cN_nI (by omega)] at hd
  obtain ⟨-, hpl, -⟩ := h'.pl
  rw [hNP, cN_nI (by omega)] at hpl
  obtain ⟨⟨a2, b2, V2, k1, k2, k3, k4, k5, k6⟩, hpr⟩ := hpl p hp
  rw [kx.2.1, hap] at k1
  cases k1
  have e4 : τ'.1.1 4 = nI ND := by rw [kx.1]; exact h.e4.trans hND
  have dK := fun a b c => Classical.propDecidable (knw a b c)
  unfold x0_isOpen
  refine lp_to (fun b => ∃ k : Nat, k ≤ ND ∧ b = (nI k, τ') ∧ ¬ opP σ k f p wk t) (fun b => ND - cN b.1) (fun o => o = some (cI (opP σ ND f p wk t), τ', 0, 0)) ?_ F _ ⟨0, by omega, rfl, fun ⟨i, hi, _⟩ => by omega⟩ (by show ND - cN 0 < F; omega)
  intro RX b hi ih
  obtain ⟨k, hk, rfl, hno⟩ := hi
  unfold x0_isOpen_B3
  simp only [e4, Int32.le_iff_toInt_le, ni_i (show k < 2147483648 by omega), ni_i (show ND < 2147483648 by omega)]
  by_cases hend : k = ND
  · subst hend
    rw [if_pos (by omega), cI_f hno]
  rw [if_neg (by omega)]
  have hgo : ¬ (¬ σ.2 6 k = 2 ∧ σ.2 5 k = σ.2 40 f ∧ ((σ.2 11 k).toInt ≤ wk.toInt ∧ wk.toInt ≤ (σ.2 12 k).toInt) ∧ knw (σ.2 13 k) (σ.2 14 k) t ∧ ¬ (σ.2 45 f).toInt < (σ.2 9 k).toInt ∧ ¬ (σ.2 10 k).toInt < (σ.2 44 f).toInt ∧ mee (σ.1 0) (σ.2 7 k) (σ.2 8 k) (σ.2 3 p) (σ.2 4 p)) → RX (nI k + 1, τ') = some (cI (opP σ ND f p wk t), τ', 0, 0) := by
    intro hne
    refine ih _ ⟨k + 1, by omega, by rw [nI_succ], opP_s hno hne⟩ ?_
    show ND - cN (nI k + 1) < ND - cN (nI k)
    rw [← nI_succ, cN_nI (by omega), cN_nI (by omega)]
    omega
  obtain ⟨ad, had, ⟨bd, V, g0, g1, g2, g3, g4, g5, g6, g7, g8, g9, g10⟩, hok, hk0, hk2, hf0⟩ := hd k (by omega)
  have hc : (5 + cN (σ.2 6 k)) ∈ [5, 6, 7] := by
    rcases kind_c hk0 hk2 with ⟨-, q⟩ | ⟨-, q⟩ | ⟨-, q⟩ <;> rw [q] <;> simp
  have hfi : xd_finds F ad τ' = some (bI (¬ σ.2 6 k = 2), τ', 0, 0) := by
    have hi : ∀ cs : List Nat, isC τ' ad cs = decide (5 + cN (σ.2 6 k) ∈ cs) := by
      intro cs
      unfold isC
      rw [g0]
    simp only [xd_finds, hi]
    rcases kind_c hk0 hk2 with ⟨q1, q2⟩ | ⟨q1, q2⟩ | ⟨q1, q2⟩ <;> rw [q2, q1] <;> rfl
  have hcl : isC τ' ad [5, 6, 7] = true := isC_of g0 hc
  have hme : x2_meets F bd b2 τ' = some (cI (mee (σ.1 0) (σ.2 7 k) (σ.2 8 k) (σ.2 3 p) (σ.2 4 p)), τ', 0, 0) := x2_meets_e (F := F) (dd := Classical.propDecidable _) g10 k6 hok.1 hok.2.2.1 hpr.1 hpr.2.2.1 hw
  simp only [okI_nI (show k < 100 by omega) (show 100 < 2147483648 by omega), if_true, ni_c (show k < 2147483648 by omega), had, ob_s, hfi, tk_00, bI_0, ite_not, gI_of g0 hc g2, f0, gI_of g0 hc g5, gI_of g0 hc g6, x0_within_e, hcl, x4_isKnown_e (d := dK) g0 hc g7 g9, gI_of g0 hc g3, f5, f4, gI_of g0 hc g4, gN_of g0 hc g8, gN_of k2 (List.mem_singleton.mpr rfl) k5, g10.isC (List.mem_singleton.mpr rfl), hme, Int32.lt_iff_toInt_lt]
  by_cases c1 : σ.2 6 k = 2
  · rw [if_pos c1]
    exact hgo (fun q => q.1 c1)
  rw [if_neg c1]
  by_cases c2 : σ.2 5 k = σ.2 40 f
  · rw [if_pos c2]
    by_cases c3 : (σ.2 11 k).toInt ≤ wk.toInt ∧ wk.toInt ≤ (σ.2 12 k).toInt
    · rw [if_pos c3]
      by_cases c4 : knw (σ.2 13 k) (σ.2 14 k) t
      · rw [if_pos c4]
        by_cases c5 : (σ.2 45 f).toInt < (σ.2 9 k).toInt
        · rw [if_pos c5]
          exact hgo (fun q => q.2.2.2.2.1 c5)
        rw [if_neg c5]
        by_cases c6 : (σ.2 10 k).toInt < (σ.2 44 f).toInt
        · rw [if_pos c6]
          exact hgo (fun q => q.2.2.2.2.2.1 c6)
        rw [if_neg c6]
        by_cases c7 : mee (σ.1 0) (σ.2 7 k) (σ.2 8 k) (σ.2 3 p) (σ.2 4 p)
        · rw [if_neg (by rw [cI_t c7]; decide), cI_t (show opP σ ND f p wk t from ⟨k, by omega, c1, c2, c3, c4, c5, c6, c7⟩)]
        · rw [if_pos (cI_f c7)]
          exact hgo (fun q => c7 q.2.2.2.2.2.2)
      · rw [if_neg c4]
        exact hgo (fun q => c4 q.2.2.2.1)
    · rw [if_neg c3]
      exact hgo (fun q => c3 q.2.2.1)
  · rw [if_neg c2]
    exact hgo (fun q => c2 q.2.1)
end MAY
