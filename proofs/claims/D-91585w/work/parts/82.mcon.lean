/-! the reference's reader: conditions follow the spec -/
noncomputable def mK151 (F : Nat) : MS → Option (Int32 × MS) := fun a1 => (m_wrong F 1 (a1.1 29) a1).bind (fun r2 => if okB r2.1 = true then some (r2.1, r2.2) else none)
/-- a piece wanted -/
noncomputable def mHd (F fu : Nat) (σ : MS) : Option (Int32 × MS) := lp (m_readsCondition_B21 F (mK151 F)) fu σ
noncomputable def mK133 (F : Nat) (R : MS → Option (Int32 × MS)) : MS → Option (Int32 × MS) := fun a1 => (m_byteHere F a1).bind (fun r4 => if r4.1 = 38 then (m_readsCondition_161 F (mK151 F) R r4.2) else ((m_byteHere F r4.2).bind (fun r5 => if r5.1 = 124 then (m_readsCondition_161 F (mK151 F) R r5.2) else (mK151 F r5.2))))
/-- a piece read -/
noncomputable def mAP (F fb fu : Nat) (σ : MS) : Option (Int32 × MS) := lp (m_readsCondition_B73 F (mK133 F (mHd F fu))) fb σ
/-- a piece read, its nots waiting -/
noncomputable def mA0 (F fe fb fu : Nat) (σ : MS) : Option (Int32 × MS) := (lp (m_endsPiece_B0 F) fe σ).bind (fun r => mAP F fb fu r.2)
theorem Mq.wr {σ0 σ : MS} {L p o : Nat} {c w : List Nat} (h : Mq σ0 L σ p c w o) {F : Nat} : mE σ0 (1, p) (mK151 F σ) := by
  unfold mK151
  rw [h.1]
  exact mE.w h.fr
theorem mA0_pop {F fe fb fu L p o : Nat} {σ0 σ : MS} {c w : List Nat} (h : Mq σ0 L σ p c (w ++ [1048576 * 10]) (o + 1)) (hc : c.length ≤ p) : ∃ σ', mA0 F (fe + 1) fb fu σ = mA0 F fe fb fu σ' ∧ Mq σ0 L σ' p (c ++ [10485760]) w o := by
  obtain ⟨σ1, g1, g2⟩ := h.says (F := F) (x1 := 10) (x2 := 0) (x := 10485760) hc (by decide)
  have g3 := g2.pop.cls
  refine ⟨_, ?_, g3⟩
  unfold mA0
  rw [lp_s]
  generalize lp (m_endsPiece_B0 F) fe = RR
  simp only [m_endsPiece_B0, h.top, ob_s, tp_s]
  rw [if_pos (by rfl), g1]
  rfl
theorem mA0_end {F fe fb fu L p o : Nat} {σ0 σ : MS} {c w : List Nat} (h : Mq σ0 L σ p c w o) (ht : tp w ≠ 10) : mA0 F (fe + 1) fb fu σ = mAP F fb fu σ := by
  unfold mA0
  rw [lp_s]
  generalize lp (m_endsPiece_B0 F) fe = RR
  simp only [m_endsPiece_B0, h.top, ob_s]
  rw [if_neg ht]
  rfl
/-- a comparison -/
theorem cmp_m {F L d fu : Nat} {σ0 σ : MS} {p o : Nat} {c w : List Nat} (hF : 200 ≤ F) (h : Mq σ0 L σ p c w o) (ho : o + d = 6) (hc : c.length ≤ p) (ht : tpo w 2) (h33 : ¬ sB (σ0.2 20) L p = 33) (h40 : ¬ sB (σ0.2 20) L p = 40) :
    match cmpS (sB (σ0.2 20) L) (sumS (sB (σ0.2 20) L) d) p with
    | .inl e => mE σ0 e (mHd F (fu + 1) σ)
    | .inr (p', cc, _) => ∃ σ', mHd F (fu + 1) σ = mA0 F F F fu σ' ∧ Mq σ0 L σ' p' (c ++ cc) w o := by
  have hL := h.L0
  have hst : mHd F (fu + 1) σ = (m_readsCompared F σ).bind (fun r3 => if r3.1 = 0 then (some (0, r3.2)) else mAP F F fu r3.2) := by
    unfold mHd
    rw [lp_s]
    simp only [m_readsCondition_B21]
    rw [h.byte]
    simp only [ob_s, hb_33]
    rw [if_neg h33, h.byte]
    simp only [ob_s, hb_40]
    rw [if_neg h40]
    rfl
  unfold cmpS
  have h1 := mi_sum hF h ho hc ht
  have hok := sumS_ok (sB_BL (t := σ0.2 20) hL) d p h.pL
  revert h1 hok
  cases sumS (sB (σ0.2 20) L) d p with
  | inl e =>
    intro ⟨σ', e1, e2, e3⟩ _
    refine ⟨σ', ?_, e2, e3⟩
    rw [hst]
    simp only [m_readsCompared]
    rw [e1]
    rfl
  | inr rr =>
    obtain ⟨p1, c1, u1⟩ := rr
    intro ⟨σ1, e1, q1⟩ ⟨a1, a2, a3, a4, a5⟩
    have hcm : m_readsCompared F σ = m_readsCompared_52 F (if cop (sB (σ0.2 20) L p1) = 0 then -1 else nI (cop (sB (σ0.2 20) L p1))) σ1 := by
      simp only [m_readsCompared]
      rw [e1]
      simp only [ob_s]
      rw [if_neg (by decide)]
      simp only [q1.byte, ob_s, hb_60, hb_61, hb_62]
      unfold cop
      by_cases h60 : sB (σ0.2 20) L p1 = 60
      · simp only [h60, if_true]
        rfl
      · by_cases h62 : sB (σ0.2 20) L p1 = 62
        · simp only [h62]
          rfl
        · by_cases h61 : sB (σ0.2 20) L p1 = 61
          · simp only [h61]
            rfl
          · simp only [if_neg h60, if_neg h62, if_neg h61, if_true]
    show (match (if cop (sB (σ0.2 20) L p1) = 0 then (.inl (1, p1) : sE) else match sumS (sB (σ0.2 20) L) d (p1 + 1) with
      | .inl e => .inl e
      | .inr (p2, c2, u2) => .inr (p2, c1 ++ (c2 ++ [1048576 * cop (sB (σ0.2 20) L p1)]), cmd (cop (sB (σ0.2 20) L p1)) u1 u2)) with
      | .inl e => mE σ0 e (mHd F (fu + 1) σ)
      | .inr (p', cc, _) => ∃ σ', mHd F (fu + 1) σ = mA0 F F F fu σ' ∧ Mq σ0 L σ' p' (c ++ cc) w o)
    by_cases hz : cop (sB (σ0.2 20) L p1) = 0
    · rw [if_pos hz] at hcm ⊢
      have : mE σ0 (1, p1) (mK151 F σ1) := q1.wr
      obtain ⟨σ', g1, g2, g3⟩ := this
      refine ⟨σ', ?_, g2, g3⟩
      rw [hst, hcm]
      simp only [m_readsCompared_52]
      rw [if_pos trivial]
      rw [show ((m_wrong F 1 (σ1.1 29) σ1).bind (fun r4 => if okB r4.1 = true then some (r4.1, r4.2) else none)) = mK151 F σ1 from rfl, g1]
      rfl
    · rw [if_neg hz] at hcm ⊢
      obtain ⟨b1, b2⟩ := sOp_c _ hz
      have hpL := q1.lt b1
      have q2 := q1.adv hpL
      have h2 := mi_sum hF q2 ho (by rw [List.length_append]; omega) ht
      have hok2 := sumS_ok (sB_BL (t := σ0.2 20) hL) d (p1 + 1) hpL
      have h52 : m_readsCompared F σ = (m_readsSum F (sS σ1 29 (σ1.1 29 + 1))).bind (fun r1 => if r1.1 = 0 then (some (0, r1.2)) else ((m_says F (nI (cop (sB (σ0.2 20) L p1))) 0 r1.2).bind (fun r2 => (m_endsPiece F r2.2).bind (fun r3 => some (1, r3.2))))) := by
        rw [hcm]
        simp only [m_readsCompared_52]
        rw [if_neg (fun e => by
            have := congrArg Int32.toInt e
            rw [ni_i (by omega), li_m1] at this
            omega)]
        rfl
      revert h2 hok2
      generalize cop (sB (σ0.2 20) L p1) = op at *
      cases sumS (sB (σ0.2 20) L) d (p1 + 1) with
      | inl e =>
        intro ⟨σ', g1, g2, g3⟩ _
        refine ⟨σ', ?_, g2, g3⟩
        rw [hst, h52, g1]
        rfl
      | inr rr =>
        obtain ⟨p2, c2, u2⟩ := rr
        intro ⟨σ2, g1, g2⟩ ⟨d1, d2, d3, d4, d5⟩
        obtain ⟨σ3, g3, g4⟩ := g2.says (F := F) (x1 := nI op) (x2 := 0) (x := 1048576 * op) (by rw [List.length_append, List.length_append]; omega) (by
          rw [show (1048576 : Int32) = nI 1048576 from rfl, ni_mul]
          simp)
        refine ⟨σ3, ?_, by rw [List.append_assoc, List.append_assoc] at g4; exact g4⟩
        rw [hst, h52, g1]
        simp only [ob_s]
        rw [if_neg (by decide), g3]
        simp only [ob_s]
        show ((lp (m_endsPiece_B0 F) F σ3).bind (fun r3 => some (1, r3.2))).bind _ = (lp (m_endsPiece_B0 F) F σ3).bind (fun r => mAP F F fu r.2)
        cases lp (m_endsPiece_B0 F) F σ3 with
        | none => rfl
        | some v => rfl
/-! jumps -/
/-- pending jumps of the kind op: c is what is said, Z what it is once they have landed -/
def Pn (op : Nat) (c pend Z : List Nat) : Prop := (pend = [] ∧ c = Z) ∨ ∃ i, pend = [1048576 * op + i] ∧ i < c.length ∧ c.getD i 0 = 1048576 * op ∧ Z = c.set i (1048576 * op + c.length)
theorem Pn.len {op : Nat} {c pend Z : List Nat} (h : Pn op c pend Z) : Z.length = c.length := by
  rcases h with ⟨_, rfl⟩ | ⟨i, _, _, _, rfl⟩
  · rfl
  · rw [List.length_set]
theorem Pn.new {op : Nat} {c Y : List Nat} : Pn op (c ++ [1048576 * op] ++ Y) [1048576 * op + c.length] (c ++ ((1048576 * op + (c.length + 1 + Y.length)) :: Y)) := by
  refine Or.inr ⟨c.length, rfl, ?_, ?_, ?_⟩
  · rw [List.length_append, List.length_append]
    show c.length < c.length + 1 + Y.length
    omega
  · rw [List.getD_eq_getElem?_getD, List.append_assoc, List.getElem?_append_right (Nat.le_refl _), Nat.sub_self]
    rfl
  · have e : (c ++ [1048576 * op] ++ Y).length = c.length + 1 + Y.length := by
      rw [List.length_append, List.length_append]
      rfl
    rw [e, List.append_assoc, List.set_append_right _ _ (Nat.le_refl _), Nat.sub_self]
    rfl
theorem gD_set {c : List Nat} {i k v : Nat} (hk : k < c.length) : (c.set i v).getD k 0 = if i = k then v else c.getD k 0 := by
  rw [List.getD_eq_getElem?_getD, List.getD_eq_getElem?_getD, List.getElem?_set]
  by_cases h : i = k
  · rw [if_pos h, if_pos h, if_pos (by omega)]
    rfl
  · rw [if_neg h, if_neg h]
theorem land_22 {F L p o op i : Nat} {σ0 σ : MS} {x1 : Int32} {c w : List Nat} {R : MS → Option (Int32 × MS)} (h : Mq σ0 L σ p c (w ++ [1048576 * op + i]) o) (hop : op ≤ 12) (hi : i < c.length) (hg : c.getD i 0 = 1048576 * op) (hc : c.length ≤ p) : ∃ σ', m_lands_22 F R x1 σ = R σ' ∧ Mq σ0 L σ' p (c.set i (1048576 * op + c.length)) w o := by
  have hp := h.pL
  have hL := h.L0
  have hw := h.wp
  have hl : (w ++ [1048576 * op + i]).length = w.length + 1 := by simp
  rw [hl] at hw
  have e35 : σ.1 35 - 1 = nI w.length := by rw [h.s35, hl]; exact ni_pre _
  have e22 : σ.2 22 w.length = nI (1048576 * op + i) := by rw [h.ws _ (by omega), gD_s]
  have e21 : σ.2 21 i = nI (1048576 * op) := by rw [h.cs i hi, hg]
  have ediv : (1048576 * op) / 1048576 = op := by omega
  have emod : (1048576 * op + i) % 1048576 = i := by omega
  refine ⟨sS (sA σ 21 i (nI (1048576 * op + c.length))) 35 (nI w.length), ?_, ?_⟩
  · simp only [m_lands_22]
    rw [e35, if_pos (okI_nI (by omega) (by omega)), ni_c (by omega), e22, ni_V (by omega), emod, nx_e, if_pos (okI_nI (by omega) (by omega)), if_pos (okI_nI (by omega) (by omega)), ni_c (by omega), e21, ni_U (by omega), ediv, h.s34]
    simp only [nx_e]
    have e1 : (1048576 : Int32) * nI op + nI c.length = nI (1048576 * op + c.length) := by
      rw [show (1048576 : Int32) = nI 1048576 from rfl, ni_mul, ni_add]
    rw [e1]
    have e2 : (sA σ 21 i (nI (1048576 * op + c.length))).1 35 - 1 = nI w.length := e35
    rw [e2]
  · obtain ⟨a1, a2, a3, a4, a5, a6, a7, a8, a9, a10, a11, a12⟩ := h
    refine ⟨a1, a2, a3, a4, a5, ?_, rfl, ?_, fun k hk => ?_, by omega, fun y hy => a11 y (by simp [hy]), (a12.a (Or.inl rfl)).s (by decide) (by decide) (by decide)⟩
    · rw [List.length_set]
      exact a6
    · intro k hk
      rw [List.length_set] at hk
      show upd (σ.2 21) i (nI (1048576 * op + c.length)) k = _
      unfold upd
      rw [gD_set hk]
      by_cases hki : k = i
      · rw [if_pos hki, if_pos hki.symm]
      · rw [if_neg hki, if_neg (fun e => hki e.symm)]
        exact a8 k hk
    · have := a9 k (by rw [hl]; omega)
      rw [gD_l hk] at this
      exact this
theorem land_0 {F L p o fu : Nat} {σ0 σ : MS} {c w : List Nat} {x1 : Int32} (h : Mq σ0 L σ p c w o) (ht : tp w ≠ 11) (ht2 : tp w ≠ 12 ∨ x1 = 0) : lp (m_lands_B0 F x1) (fu + 1) σ = some (0, σ) := by
  rw [lp_s]
  simp only [m_lands_B0]
  rw [h.top]
  simp only [ob_s]
  rw [if_neg ht]
  by_cases hx : x1 = 0
  · rw [if_pos hx]
  · rw [if_neg hx, h.top]
    simp only [ob_s]
    rw [if_neg (by rcases ht2 with h2 | h2; exact h2; exact absurd h2 hx)]
theorem land_1 {F L p o fu op : Nat} {σ0 σ : MS} {c w pend Z : List Nat} {x1 : Int32} (hf : 1 ≤ fu) (h : Mq σ0 L σ p c (w ++ pend) o) (hP : Pn op c pend Z) (hop : op = 11 ∨ (op = 12 ∧ x1 = 1)) (hc : c.length ≤ p) : ∃ σ' fu', fu ≤ fu' + 1 ∧ lp (m_lands_B0 F x1) fu σ = lp (m_lands_B0 F x1) fu' σ' ∧ Mq σ0 L σ' p Z w o := by
  rcases hP with ⟨rfl, rfl⟩ | ⟨i, rfl, hi, hg, rfl⟩
  · exact ⟨σ, fu, by omega, rfl, by rw [List.append_nil] at h; exact h⟩
  · have hp := h.pL
    have hL := h.L0
    obtain ⟨fu, rfl⟩ : ∃ f, fu = f + 1 := ⟨fu - 1, by omega⟩
    obtain ⟨σ', g1, g2⟩ := land_22 (F := F) (R := lp (m_lands_B0 F x1) fu) (x1 := x1) h (by omega) hi hg hc
    refine ⟨σ', fu, Nat.le_refl _, ?_, g2⟩
    rw [lp_s]
    generalize lp (m_lands_B0 F x1) fu = RR at g1 ⊢
    simp only [m_lands_B0]
    rw [h.top]
    have ht : tp (w ++ [1048576 * op + i]) = nI op := by
      rw [tp_s]
      congr 1
      omega
    simp only [ob_s, ht]
    rcases hop with rfl | ⟨rfl, rfl⟩
    · rw [if_pos (by rfl)]
      exact g1
    · rw [if_neg (by decide), if_neg (by decide), h.top]
      simp only [ob_s, ht]
      rw [if_pos (by rfl)]
      exact g1
/-- all that waits lands; the rest of the waits ends with neither jump -/
theorem land_n {F L p o : Nat} {σ0 σ : MS} {c w pN Z : List Nat} (hF : 200 ≤ F) (h : Mq σ0 L σ p c (w ++ pN) o) (hP : Pn 11 c pN Z) (ht : tp w ≠ 11) (hc : c.length ≤ p) : ∃ σ', m_lands F 0 σ = some (0, σ') ∧ Mq σ0 L σ' p Z w o := by
  unfold m_lands
  obtain ⟨σ1, f1, hf1, e1, q1⟩ := land_1 (F := F) (x1 := 0) (fu := F) (by omega) h hP (Or.inl rfl) hc
  obtain ⟨f1, rfl⟩ : ∃ f, f1 = f + 1 := ⟨f1 - 1, by omega⟩
  exact ⟨σ1, by rw [e1]; exact land_0 q1 ht (Or.inr rfl), q1⟩
theorem land_a {F L p o : Nat} {σ0 σ : MS} {c w pN pI Z1 Z : List Nat} (hF : 200 ≤ F) (h : Mq σ0 L σ p c (w ++ pI ++ pN) o) (hN : Pn 11 c pN Z1) (hI : Pn 12 Z1 pI Z) (ht : tp w ≠ 11) (ht2 : tp w ≠ 12) (hc : c.length ≤ p) : ∃ σ', m_lands F 1 σ = some (0, σ') ∧ Mq σ0 L σ' p Z w o := by
  unfold m_lands
  obtain ⟨σ1, f1, hf1, e1, q1⟩ := land_1 (F := F) (x1 := 1) (fu := F) (by omega) h hN (Or.inl rfl) hc
  obtain ⟨σ2, f2, hf2, e2, q2⟩ := land_1 (F := F) (x1 := 1) (fu := f1) (by omega) q1 hI (Or.inr ⟨rfl, rfl⟩) (by rw [hN.len]; exact hc)
  obtain ⟨f2, rfl⟩ : ∃ f, f2 = f + 1 := ⟨f2 - 1, by omega⟩
  exact ⟨σ2, by rw [e1, e2]; exact land_0 q2 ht (Or.inl ht2), q2⟩
theorem Mq.jumps {σ0 σ : MS} {L p o op : Nat} {c w : List Nat} (h : Mq σ0 L σ p c w o) (hp : p < L) (hc : c.length ≤ p) (hop : op ≤ 12) {F : Nat} : ∃ σ', m_jumps F (nI op) σ = some (0, σ') ∧ Mq σ0 L σ' (p + 1) (c ++ [1048576 * op]) (w ++ [1048576 * op + c.length]) o := by
  have hL := h.L0
  have hw := h.wp
  have hc34 := h.s34
  have e1 : (1048576 : Int32) * nI op + nI c.length = nI (1048576 * op + c.length) := by
    rw [show (1048576 : Int32) = nI 1048576 from rfl, ni_mul, ni_add]
  have e2 : (1048576 : Int32) * nI op + 0 = nI (1048576 * op) := by
    rw [show (1048576 : Int32) = nI 1048576 from rfl, ni_mul]
    simp
  obtain ⟨a1, a2, a3, a4, a5, a6, a7, a8, a9, a10, a11, a12⟩ := h
  refine ⟨sS (sS (sA (sS (sA σ 22 w.length (nI (1048576 * op + c.length))) 35 (nI w.length + 1)) 21 c.length (nI (1048576 * op))) 34 (nI c.length + 1)) 29 (nI p + 1), ?_, ?_⟩
  · unfold m_jumps
    rw [a7, if_pos (okI_nI (by omega) (by omega)), ni_c (by omega), hc34, e1]
    simp only [nx_e, m_says]
    have e3 : (sS (sA σ 22 w.length (nI (1048576 * op + c.length))) 35 ((sA σ 22 w.length (nI (1048576 * op + c.length))).1 35 + 1)).1 34 = nI c.length := hc34
    rw [e3, if_pos (okI_nI (by omega) (by omega)), ni_c (by omega), e2]
    simp only [ob_s]
    show some ((0 : Int32), sS (sS (sA (sS (sA σ 22 w.length (nI (1048576 * op + c.length))) 35 (σ.1 35 + 1)) 21 c.length (nI (1048576 * op))) 34 (σ.1 34 + 1)) 29 (σ.1 29 + 1)) = _
    rw [a7, a6, a1]
  · refine ⟨ni_add p 1, a2, hp, a4, a5, ?_, ?_, ?_, ?_, ?_, ?_, ((((a12.a (Or.inr rfl)).s (by decide) (by decide) (by decide)).a (Or.inl rfl)).s (by decide) (by decide) (by decide)).s (by decide) (by decide) (by decide)⟩
    · show nI c.length + 1 = _
      rw [List.length_append]
      exact ni_add _ 1
    · show nI w.length + 1 = _
      rw [List.length_append]
      exact ni_add _ 1
    · intro k hk
      rw [List.length_append] at hk
      have hk : k < c.length + 1 := hk
      show upd (σ.2 21) c.length (nI (1048576 * op)) k = _
      unfold upd
      by_cases hkc : k = c.length
      · rw [if_pos hkc, hkc, gD_s]
      · rw [if_neg hkc, gD_l (by omega)]
        exact a8 k (by omega)
    · intro k hk
      rw [List.length_append] at hk
      have hk : k < w.length + 1 := hk
      show upd (σ.2 22) w.length (nI (1048576 * op + c.length)) k = _
      unfold upd
      by_cases hkc : k = w.length
      · rw [if_pos hkc, hkc, gD_s]
      · rw [if_neg hkc, gD_l (by omega)]
        exact a9 k (by omega)
    · rw [List.length_append]
      show w.length + 1 ≤ p + 1
      omega
    · intro y hy
      rw [List.mem_append, List.mem_singleton] at hy
      rcases hy with hy | rfl
      · exact a11 y hy
      · omega
/-- the waits end with something of a condition (10: not, 11, 12: jumps, 13: a bracket) -/
def tq (w : List Nat) (a b : Nat) : Prop := ∃ w' op i, w = w' ++ [1048576 * op + i] ∧ i < 1000 ∧ a ≤ op ∧ op ≤ b
theorem tq.tp {w : List Nat} {a b k : Nat} (h : tq w a b) (hb : b ≤ 14) (hk : k < a ∨ b < k) (hk2 : k < 100) : tp w ≠ nI k := by
  obtain ⟨w', op, i, rfl, h1, h2, h3⟩ := h
  rw [tp_s, show (1048576 * op + i) / 1048576 = op from by omega]
  intro e
  have := ni_inj (by omega) (by omega) e
  omega
theorem tq.po {w : List Nat} {a b : Nat} (h : tq w a b) (hb : b ≤ 14) (ha : 7 ≤ a) : tpo w 2 := by
  obtain ⟨w', op, i, rfl, h1, h2, h3⟩ := h
  exact Or.inr ⟨w', _, rfl, by omega, by omega⟩
/-- what follows a piece, byte by byte -/
theorem mAP_and {F fb fu L p o : Nat} {σ0 σ : MS} {c w pN Z : List Nat} (hF : 200 ≤ F) (h : Mq σ0 L σ p c (w ++ pN) o) (hP : Pn 11 c pN Z) (ht : tp w ≠ 11) (hc : c.length ≤ p) (hb : sB (σ0.2 20) L p = 38) : ∃ σ', mAP F (fb + 1) fu σ = mHd F fu σ' ∧ Mq σ0 L σ' (p + 1) (Z ++ [1048576 * 11]) (w ++ [1048576 * 11 + Z.length]) o := by
  have hpL := h.lt (by omega)
  obtain ⟨σ1, e1, q1⟩ := land_n hF h hP ht hc
  obtain ⟨σ2, e2, q2⟩ := q1.jumps (F := F) (op := 11) hpL (by rw [hP.len]; exact hc) (by omega)
  refine ⟨σ2, ?_, q2⟩
  unfold mAP
  rw [lp_s]
  generalize mHd F fu = RR
  simp only [m_readsCondition_B73]
  rw [h.byte]
  simp only [ob_s, hb_41]
  rw [if_neg (by omega)]
  simp only [mK133]
  rw [h.byte]
  simp only [ob_s, hb_38]
  rw [if_pos hb]
  simp only [m_readsCondition_161]
  rw [h.byte]
  simp only [ob_s, hb_124]
  rw [if_neg (by omega)]
  simp only [m_readsCondition_176]
  rw [e1]
  simp only [ob_s]
  rw [q1.byte]
  simp only [ob_s, hb_38]
  rw [if_pos hb, show (11 : Int32) = nI 11 from rfl, e2]
  rfl
theorem mAP_or {F fb fu L p o : Nat} {σ0 σ : MS} {c w pN pI Z1 Z : List Nat} (hF : 200 ≤ F) (h : Mq σ0 L σ p c (w ++ pI ++ pN) o) (hN : Pn 11 c pN Z1) (hI : Pn 12 Z1 pI Z) (ht : tp w ≠ 11) (ht2 : tp w ≠ 12) (hc : c.length ≤ p) (hb : sB (σ0.2 20) L p = 124) : ∃ σ', mAP F (fb + 1) fu σ = mHd F fu σ' ∧ Mq σ0 L σ' (p + 1) (Z ++ [1048576 * 12]) (w ++ [1048576 * 12 + Z.length]) o := by
  have hpL := h.lt (by omega)
  obtain ⟨σ1, e1, q1⟩ := land_a hF h hN hI ht ht2 hc
  obtain ⟨σ2, e2, q2⟩ := q1.jumps (F := F) (op := 12) hpL (by rw [hI.len, hN.len]; exact hc) (by omega)
  refine ⟨σ2, ?_, q2⟩
  unfold mAP
  rw [lp_s]
  generalize mHd F fu = RR
  simp only [m_readsCondition_B73]
  rw [h.byte]
  simp only [ob_s, hb_41]
  rw [if_neg (by omega)]
  simp only [mK133]
  rw [h.byte]
  simp only [ob_s, hb_38]
  rw [if_neg (by omega), h.byte]
  simp only [ob_s, hb_124]
  rw [if_pos hb]
  simp only [m_readsCondition_161]
  rw [h.byte]
  simp only [ob_s, hb_124]
  rw [if_pos hb]
  simp only [m_readsCondition_176]
  rw [e1]
  simp only [ob_s]
  rw [q1.byte]
  simp only [ob_s, hb_38]
  rw [if_neg (by omega), show (12 : Int32) = nI 12 from rfl, e2]
  rfl
theorem mAP_bad {F fb fu L p o : Nat} {σ0 σ : MS} {c w : List Nat} (h : Mq σ0 L σ p c w o) (h1 : ¬ sB (σ0.2 20) L p = 41) (h2 : ¬ sB (σ0.2 20) L p = 38) (h3 : ¬ sB (σ0.2 20) L p = 124) : mE σ0 (1, p) (mAP F (fb + 1) fu σ) := by
  unfold mAP
  rw [lp_s]
  generalize mHd F fu = RR
  simp only [m_readsCondition_B73]
  rw [h.byte]
  simp only [ob_s, hb_41]
  rw [if_neg h1]
  simp only [mK133]
  rw [h.byte]
  simp only [ob_s, hb_38]
  rw [if_neg h2, h.byte]
  simp only [ob_s, hb_124]
  rw [if_neg h3]
  exact h.wr
/-- the bracket's end -/
theorem mAP_end {F fb fu L p o : Nat} {σ0 σ : MS} {c w pN pI Z1 Z : List Nat} (hF : 200 ≤ F) (h : Mq σ0 L σ p c (w ++ [1048576 * 13] ++ pI ++ pN) (o + 1)) (hN : Pn 11 c pN Z1) (hI : Pn 12 Z1 pI Z) (hc : c.length ≤ p) (hb : sB (σ0.2 20) L p = 41) : ∃ σ', mAP F (fb + 1) fu σ = (if w = [] then some (1, σ') else mA0 F F fb fu σ') ∧ Mq σ0 L σ' (p + 1) Z w o := by
  have hpL := h.lt (by omega)
  have ht : ∀ k : Nat, k = 11 ∨ k = 12 → tp (w ++ [1048576 * 13]) ≠ nI k := by
    intro k hk e
    rw [tp_s] at e
    have := ni_inj (by omega) (by omega) e
    omega
  obtain ⟨σ1, e1, q1⟩ := land_a hF h hN hI (ht 11 (Or.inl rfl)) (ht 12 (Or.inr rfl)) hc
  have q2 := (q1.pop.cls).adv hpL
  have hw := q2.wp
  have hL := h.L0
  refine ⟨_, ?_, q2⟩
  have e35 := q2.s35
  generalize hσ3 : sS (sS (sS σ1 35 (σ1.1 35 - 1)) 33 ((sS σ1 35 (σ1.1 35 - 1)).1 33 - 1)) 29 ((sS (sS σ1 35 (σ1.1 35 - 1)) 33 ((sS σ1 35 (σ1.1 35 - 1)).1 33 - 1)).1 29 + 1) = σ3 at *
  have hs : mAP F (fb + 1) fu σ = if σ3.1 35 = 0 then some (1, σ3) else ((m_endsPiece F σ3).bind (fun r3 => mAP F fb fu r3.2)) := by
    unfold mAP
    rw [lp_s]
    generalize lp (m_readsCondition_B73 F (mK133 F (mHd F fu))) fb = RR
    simp only [m_readsCondition_B73]
    rw [h.byte]
    simp only [ob_s, hb_41]
    rw [if_pos hb, e1]
    simp only [ob_s, nx_e]
    rw [hσ3]
  rw [hs, e35]
  by_cases hwn : w = []
  · rw [if_pos hwn, hwn]
    rfl
  · rw [if_neg hwn, if_neg (fun e => by
      have := ni_inj (b := 0) (by omega) (by omega) e
      exact hwn (List.eq_nil_of_length_eq_zero this))]
    rfl
def PieM (F L : Nat) (σ0 : MS) (d : Nat) (S : Nat → Nat → sE) : Prop := ∀ (σ : MS) (p : Nat) (c w : List Nat) (o fu : Nat), Mq σ0 L σ p c w o → o + d = 6 → c.length ≤ p → tq w 10 13 → L + 2 < fu + p →
  match S c.length p with
  | .inl e => mE σ0 e (mHd F fu σ)
  | .inr (p', cc, _) => ∃ σ' fe fb fu', mHd F fu σ = mA0 F fe fb fu' σ' ∧ Mq σ0 L σ' p' (c ++ cc) w o ∧ o + 2 < fe ∧ L + 2 < fb + p' ∧ L + 2 < fu' + p'
/-- pieces joined by & -/
theorem pcsT_m {F L d : Nat} {σ0 : MS} {S : Nat → Nat → sE} (hF : 200 ≤ F) (hL : L ≤ 160) (hok : ∀ s p, s ≤ p → p ≤ L → sOk L p (S s p)) (hS : PieM F L σ0 d S) : ∀ (n p : Nat) (acc : List Nat) (u : sD) (σ : MS) (c c' pN w : List Nat) (o fb fu : Nat), L < n + p → Mq σ0 L σ p c' (w ++ pN) o → Pn 11 c' pN (c ++ acc) → tq w 12 13 → o + d = 6 → c'.length ≤ p → L + 2 < fb + p → L + 2 < fu + p →
      match jmpT (sB (σ0.2 20) L) 38 11 S n c.length p acc u with
      | .inl e => mE σ0 e (mAP F fb fu σ)
      | .inr (p', cc, _) => ∃ σ' fb' fu' c' pN, mAP F fb fu σ = mAP F fb' fu' σ' ∧ Mq σ0 L σ' p' c' (w ++ pN) o ∧ Pn 11 c' pN (c ++ cc) ∧ L + 2 < fb' + p' ∧ L + 2 < fu' + p' ∧ ¬ sB (σ0.2 20) L p' = 38 := by
  intro n
  induction n with
  | zero =>
    intro p acc u σ c c' pN w o fb fu hn h
    have := h.pL
    omega
  | succ n ih =>
    intro p acc u σ c c' pN w o fb fu hn h hP ht ho hc hfb hfu
    rw [jmpT]
    by_cases h0 : sB (σ0.2 20) L p = 38
    · rw [if_pos h0]
      have hpL := h.lt (by omega)
      obtain ⟨fb, rfl⟩ : ∃ f, fb = f + 1 := ⟨fb - 1, by omega⟩
      have hlen := hP.len
      rw [List.length_append] at hlen
      obtain ⟨σ1, e1, q1⟩ := mAP_and (fb := fb) (fu := fu) hF h hP (ht.tp (k := 11) (by omega) (by omega) (by omega)) hc h0
      have hlc : (c ++ acc ++ [1048576 * 11]).length = c.length + acc.length + 1 := by simp; omega
      have hsub := hS σ1 (p + 1) _ _ o fu q1 ho (by rw [hlc]; omega) ⟨w, 11, _, rfl, by rw [List.length_append]; omega, by omega, by omega⟩ (by omega)
      have hok1 := hok (c.length + acc.length + 1) (p + 1) (by omega) hpL
      rw [hlc] at hsub
      revert hsub hok1
      cases S (c.length + acc.length + 1) (p + 1) with
      | inl e =>
        intro hsub _
        show mE σ0 e (mAP F (fb + 1) fu σ)
        rw [e1]
        exact hsub
      | inr rr =>
        obtain ⟨p1, cc1, u1⟩ := rr
        intro ⟨σ2, fe, fb2, fu2, e2, q2, f1, f2, f3⟩ ⟨a1, a2, a3, a4, a5⟩
        obtain ⟨fe, rfl⟩ : ∃ f, fe = f + 1 := ⟨fe - 1, by omega⟩
        have e3 := mA0_end (F := F) (fe := fe) (fb := fb2) (fu := fu2) q2 (tq.tp (k := 10) (a := 11) (b := 11) ⟨w, 11, _, rfl, by rw [List.length_append]; omega, by omega, by omega⟩ (by omega) (by omega) (by omega))
        rw [e1, e2, e3]
        refine ih p1 _ _ σ2 c _ [1048576 * 11 + (c ++ acc).length] w o fb2 fu2 (by omega) q2 ?_ ht ho ?_ f2 f3
        · have := Pn.new (op := 11) (c := c ++ acc) (Y := cc1)
          rw [List.length_append] at this ⊢
          rw [← List.append_assoc]
          exact this
        · simp only [List.length_append, List.length_cons, List.length_nil]
          omega
    · rw [if_neg h0]
      exact ⟨σ, fb, fu, c', pN, rfl, h, hP, hfb, hfu, h0⟩
def PcsM (F L : Nat) (σ0 : MS) (d : Nat) (S : Nat → Nat → sE) : Prop := ∀ (σ : MS) (p : Nat) (c w : List Nat) (o fu : Nat), Mq σ0 L σ p c w o → o + d = 6 → c.length ≤ p → tq w 12 13 → L + 2 < fu + p →
  match S c.length p with
  | .inl e => mE σ0 e (mHd F fu σ)
  | .inr (p', cc, _) => ∃ σ' fb' fu' c' pN, mHd F fu σ = mAP F fb' fu' σ' ∧ Mq σ0 L σ' p' c' (w ++ pN) o ∧ Pn 11 c' pN (c ++ cc) ∧ L + 2 < fb' + p' ∧ L + 2 < fu' + p' ∧ ¬ sB (σ0.2 20) L p' = 38
theorem pcs_m {F L d : Nat} {σ0 : MS} {S : Nat → Nat → sE} (hF : 200 ≤ F) (hL : L ≤ 160) (hok : ∀ s p, s ≤ p → p ≤ L → sOk L p (S s p)) (hS : PieM F L σ0 d S) : PcsM F L σ0 d (jmpS (sB (σ0.2 20) L) 38 11 S) := by
  intro σ p c w o fu h ho hc ht hfu
  unfold jmpS
  have hsub := hS σ p c w o fu h ho hc (by obtain ⟨w', op, i, e, b1, b2, b3⟩ := ht; exact ⟨w', op, i, e, b1, by omega, b3⟩) hfu
  have hok1 := hok c.length p hc h.pL
  revert hsub hok1
  cases S c.length p with
  | inl e => exact fun hs _ => hs
  | inr rr =>
    obtain ⟨p1, cc1, u1⟩ := rr
    intro ⟨σ2, fe, fb2, fu2, e2, q2, f1, f2, f3⟩ ⟨a1, a2, a3, a4, a5⟩
    obtain ⟨fe, rfl⟩ : ∃ f, fe = f + 1 := ⟨fe - 1, by omega⟩
    have e3 := mA0_end (F := F) (fe := fe) (fb := fb2) (fu := fu2) q2 (ht.tp (k := 10) (by omega) (by omega) (by omega))
    rw [e2, e3]
    exact pcsT_m hF hL hok hS 200 p1 cc1 u1 σ2 c (c ++ cc1) [] w o fb2 fu2 (by omega) (by rw [List.append_nil]; exact q2) (Or.inl ⟨rfl, rfl⟩) ht ho (by rw [List.length_append]; omega) f2 f3
/-- pieces joined by | -/
theorem conT_m {F L d : Nat} {σ0 : MS} {S : Nat → Nat → sE} (hF : 200 ≤ F) (hL : L ≤ 160) (hok : ∀ s p, s ≤ p → p ≤ L → sOk L p (S s p)) (hS : PcsM F L σ0 d S) : ∀ (n p : Nat) (acc : List Nat) (u : sD) (σ : MS) (c c' pI pN Z w : List Nat) (o fb fu : Nat), L < n + p → Mq σ0 L σ p c' (w ++ pI ++ pN) o → Pn 11 c' pN Z → Pn 12 Z pI (c ++ acc) → tq w 13 13 → o + d = 6 → c'.length ≤ p → L + 2 < fb + p → L + 2 < fu + p → ¬ sB (σ0.2 20) L p = 38 →
      match jmpT (sB (σ0.2 20) L) 124 12 S n c.length p acc u with
      | .inl e => mE σ0 e (mAP F fb fu σ)
      | .inr (p', cc, _) => ∃ σ' fb' fu' c' pI pN Z, mAP F fb fu σ = mAP F fb' fu' σ' ∧ Mq σ0 L σ' p' c' (w ++ pI ++ pN) o ∧ Pn 11 c' pN Z ∧ Pn 12 Z pI (c ++ cc) ∧ L + 2 < fb' + p' ∧ L + 2 < fu' + p' ∧ ¬ sB (σ0.2 20) L p' = 38 ∧ ¬ sB (σ0.2 20) L p' = 124 := by
  intro n
  induction n with
  | zero =>
    intro p acc u σ c c' pI pN Z w o fb fu hn h
    have := h.pL
    omega
  | succ n ih =>
    intro p acc u σ c c' pI pN Z w o fb fu hn h hN hI ht ho hc hfb hfu h38
    rw [jmpT]
    by_cases h0 : sB (σ0.2 20) L p = 124
    · rw [if_pos h0]
      have hpL := h.lt (by omega)
      obtain ⟨fb, rfl⟩ : ∃ f, fb = f + 1 := ⟨fb - 1, by omega⟩
      have hlen := hI.len.trans hN.len
      rw [List.length_append] at hlen
      obtain ⟨σ1, e1, q1⟩ := mAP_or (fb := fb) (fu := fu) hF h hN hI (ht.tp (k := 11) (by omega) (by omega) (by omega)) (ht.tp (k := 12) (by omega) (by omega) (by omega)) hc h0
      have hlc : (c ++ acc ++ [1048576 * 12]).length = c.length + acc.length + 1 := by simp; omega
      have hsub := hS σ1 (p + 1) _ _ o fu q1 ho (by rw [hlc]; omega) ⟨w, 12, _, rfl, by rw [List.length_append]; omega, by omega, by omega⟩ (by omega)
      have hok1 := hok (c.length + acc.length + 1) (p + 1) (by omega) hpL
      rw [hlc] at hsub
      revert hsub hok1
      cases S (c.length + acc.length + 1) (p + 1) with
      | inl e =>
        intro hsub _
        show mE σ0 e (mAP F (fb + 1) fu σ)
        rw [e1]
        exact hsub
      | inr rr =>
        obtain ⟨p1, cc1, u1⟩ := rr
        intro ⟨σ2, fb2, fu2, c2, pN2, e2, q2, n2, f2, f3, g38⟩ ⟨a1, a2, a3, a4, a5⟩
        rw [e1, e2]
        have hl2 := n2.len
        simp only [List.length_append, List.length_cons, List.length_nil] at hl2
        refine ih p1 _ _ σ2 c c2 [1048576 * 12 + (c ++ acc).length] pN2 _ w o fb2 fu2 (by omega) q2 n2 ?_ ht ho (by omega) f2 f3 g38
        have := Pn.new (op := 12) (c := c ++ acc) (Y := cc1)
        rw [List.length_append] at this ⊢
        rw [← List.append_assoc]
        exact this
    · rw [if_neg h0]
      exact ⟨σ, fb, fu, c', pI, pN, Z, rfl, h, hN, hI, hfb, hfu, h38, h0⟩
/-- from within a bracket to its end -/
theorem con_m {F L d : Nat} {σ0 : MS} {S : Nat → Nat → sE} (hF : 200 ≤ F) (hL : L ≤ 160) (hok : ∀ s p, s ≤ p → p ≤ L → sOk L p (S s p)) (hS : PieM F L σ0 d S) {σ : MS} {p : Nat} {c w : List Nat} {o fu : Nat} (h : Mq σ0 L σ p c (w ++ [1048576 * 13]) (o + 1)) (ho : o + 1 + d = 6) (hc : c.length ≤ p) (hfu : L + 2 < fu + p) :
    match conE (sB (σ0.2 20) L) (jmpS (sB (σ0.2 20) L) 124 12 (jmpS (sB (σ0.2 20) L) 38 11 S) c.length p) with
    | .inl e => mE σ0 e (mHd F fu σ)
    | .inr (p', cc, _) => ∃ σ' fb' fu', mHd F fu σ = (if w = [] then some (1, σ') else mA0 F F fb' fu' σ') ∧ Mq σ0 L σ' p' (c ++ cc) w o ∧ L + 2 < fb' + p' ∧ L + 2 < fu' + p' := by
  have hpm := pcs_m hF hL hok hS
  have hokp := jmpS_ok (sB_BL (t := σ0.2 20) hL) (b := 38) (op := 11) (by omega) (Or.inl rfl) hok
  have htq : tq (w ++ [1048576 * 13]) 13 13 := ⟨w, 13, 0, rfl, by omega, by omega, by omega⟩
  have h1 := hpm σ p c (w ++ [1048576 * 13]) (o + 1) fu h ho hc ⟨w, 13, 0, rfl, by omega, by omega, by omega⟩ hfu
  have hk1 := hokp c.length p hc h.pL
  have hkk := jmpS_ok (sB_BL (t := σ0.2 20) hL) (b := 124) (op := 12) (by omega) (Or.inr rfl) hokp c.length p hc h.pL
  revert hkk
  have hj : jmpS (sB (σ0.2 20) L) 124 12 (jmpS (sB (σ0.2 20) L) 38 11 S) c.length p = (match jmpS (sB (σ0.2 20) L) 38 11 S c.length p with
    | .inl e => .inl e
    | .inr (p', cc, u) => jmpT (sB (σ0.2 20) L) 124 12 (jmpS (sB (σ0.2 20) L) 38 11 S) 200 c.length p' cc u) := rfl
  rw [hj]
  revert h1 hk1
  cases jmpS (sB (σ0.2 20) L) 38 11 S c.length p with
  | inl e => exact fun h1 _ _ => h1
  | inr rr =>
    obtain ⟨p1, cc1, u1⟩ := rr
    intro ⟨σ1, fb1, fu1, c1, pN1, e1, q1, n1, f2, f3, g38⟩ ⟨a1, a2, a3, a4, a5⟩
    have hl1 := n1.len
    rw [List.length_append] at hl1
    have h2 := conT_m hF hL hokp hpm 200 p1 cc1 u1 σ1 c c1 [] pN1 _ (w ++ [1048576 * 13]) (o + 1) fb1 fu1 (by omega) (by rw [List.append_nil]; exact q1) n1 (Or.inl ⟨rfl, rfl⟩) htq ho (by omega) f2 f3 g38
    revert h2
    show _ → sOk L p (jmpT (sB (σ0.2 20) L) 124 12 (jmpS (sB (σ0.2 20) L) 38 11 S) 200 c.length p1 cc1 u1) → _
    show _ → _ → (match conE (sB (σ0.2 20) L) (jmpT (sB (σ0.2 20) L) 124 12 (jmpS (sB (σ0.2 20) L) 38 11 S) 200 c.length p1 cc1 u1) with
      | .inl e => mE σ0 e (mHd F fu σ)
      | .inr (p', cc, _) => ∃ σ' fb' fu', mHd F fu σ = (if w = [] then some (1, σ') else mA0 F F fb' fu' σ') ∧ Mq σ0 L σ' p' (c ++ cc) w o ∧ L + 2 < fb' + p' ∧ L + 2 < fu' + p')
    cases jmpT (sB (σ0.2 20) L) 124 12 (jmpS (sB (σ0.2 20) L) 38 11 S) 200 c.length p1 cc1 u1 with
    | inl e =>
      intro h2 _
      show mE σ0 e (mHd F fu σ)
      rw [e1]
      exact h2
    | inr rr =>
      obtain ⟨p2, cc2, u2⟩ := rr
      intro ⟨σ2, fb2, fu2, c2, pI2, pN2, Z2, e2, q2, n2, i2, f4, f5, g1, g2⟩ ⟨b1, b2, b3, b4, b5⟩
      have hl2 := i2.len.trans n2.len
      rw [List.length_append] at hl2
      obtain ⟨fb2, rfl⟩ : ∃ f, fb2 = f + 1 := ⟨fb2 - 1, by omega⟩
      by_cases h41 : sB (σ0.2 20) L p2 = 41
      · obtain ⟨σ3, e3, q3⟩ := mAP_end (fb := fb2) (fu := fu2) hF q2 n2 i2 (by omega) h41
        simp only [conE, if_pos h41]
        exact ⟨σ3, fb2, fu2, by rw [e1, e2, e3], q3, by omega, by omega⟩
      · simp only [conE, if_neg h41]
        rw [e1, e2]
        exact mAP_bad q2 h41 g1 g2
theorem mH_open {F L d fu x : Nat} {σ0 σ : MS} {p o : Nat} {c w : List Nat} (h : Mq σ0 L σ p c w o) (ho : o + d = 6) (hx : (x = 10 ∧ sB (σ0.2 20) L p = 33) ∨ (x = 13 ∧ sB (σ0.2 20) L p = 40)) : (d = 0 ∧ mE σ0 (5, p) (mHd F (fu + 1) σ)) ∨ (d ≠ 0 ∧ ∃ σ', mHd F (fu + 1) σ = mHd F fu σ' ∧ Mq σ0 L σ' (p + 1) c (w ++ [1048576 * x]) (o + 1)) := by
  have hpL := h.lt (by omega)
  have hst : mHd F (fu + 1) σ = (m_opens F (nI x) σ).bind (fun r1 => if r1.1 = 0 then (some (0, r1.2)) else (mHd F fu r1.2)) := by
    unfold mHd
    rw [lp_s]
    generalize lp (m_readsCondition_B21 F (mK151 F)) fu = RR
    simp only [m_readsCondition_B21]
    rw [h.byte]
    simp only [ob_s, hb_33]
    rcases hx with ⟨rfl, hb⟩ | ⟨rfl, hb⟩
    · rw [if_pos hb]
      simp only [m_readsCondition_39]
      rw [h.byte]
      simp only [ob_s, hb_33]
      rw [if_pos hb]
      rfl
    · rw [if_neg (by omega), h.byte]
      simp only [ob_s, hb_40]
      rw [if_pos hb]
      simp only [m_readsCondition_39]
      rw [h.byte]
      simp only [ob_s, hb_33]
      rw [if_neg (by omega)]
      rfl
  rcases h.opens (F := F) (x := x) hpL (by omega) (by omega) with ⟨h6, σ', e1, e2, e3⟩ | ⟨h6, σ', e1, q1⟩
  · refine Or.inl ⟨by omega, σ', ?_, e2, e3⟩
    rw [hst, e1]
    rfl
  · refine Or.inr ⟨by omega, σ', ?_, q1⟩
    rw [hst, e1]
    rfl
theorem pie_m {F L d : Nat} {σ0 : MS} {S : Nat → Nat → sE} (hF : 200 ≤ F) (hL : L ≤ 160) (hok : ∀ d', d = d' + 1 → ∀ s p, s ≤ p → p ≤ L → sOk L p (S s p)) (hS : ∀ d', d = d' + 1 → PieM F L σ0 d' S) : PieM F L σ0 d (pieF (sB (σ0.2 20) L) d S) := by
  intro σ p c w o fu h ho hc ht hfu
  have hp := h.pL
  obtain ⟨fu, rfl⟩ : ∃ f, fu = f + 1 := ⟨fu - 1, by omega⟩
  have hwn : w ≠ [] := by
    obtain ⟨w', op, i, rfl, _⟩ := ht
    simp
  unfold pieF
  by_cases h33 : sB (σ0.2 20) L p = 33
  · rw [if_pos h33]
    have hpL := h.lt (by omega)
    by_cases hd : d = 0
    · rw [if_pos hd]
      rcases mH_open (F := F) (fu := fu) h ho (Or.inl ⟨rfl, h33⟩) with ⟨_, e⟩ | ⟨hd', _⟩
      · exact e
      · exact absurd hd hd'
    · rw [if_neg hd]
      obtain ⟨d', rfl⟩ : ∃ d', d = d' + 1 := ⟨d - 1, by omega⟩
      rcases mH_open (F := F) (fu := fu) h ho (Or.inl ⟨rfl, h33⟩) with ⟨hd', _⟩ | ⟨_, σ1, e1, q1⟩
      · exact absurd hd' hd
      · have hsub := hS d' rfl σ1 (p + 1) c _ (o + 1) fu q1 (by omega) (by omega) ⟨w, 10, 0, rfl, by omega, by omega, by omega⟩ (by omega)
        have hok1 := hok d' rfl c.length (p + 1) (by omega) hpL
        rw [e1]
        revert hsub hok1
        cases S c.length (p + 1) with
        | inl e => exact fun hs _ => hs
        | inr rr =>
          obtain ⟨p1, cc, u⟩ := rr
          intro ⟨σ2, fe, fb, fu2, e2, q2, f1, f2, f3⟩ ⟨a1, a2, a3, a4, a5⟩
          obtain ⟨fe, rfl⟩ : ∃ f, fe = f + 1 := ⟨fe - 1, by omega⟩
          obtain ⟨σ3, e3, q3⟩ := mA0_pop (F := F) (fe := fe) (fb := fb) (fu := fu2) q2 (by rw [List.length_append]; omega)
          refine ⟨σ3, fe, fb, fu2, e2.trans e3, by rw [List.append_assoc] at q3; exact q3, by omega, f2, f3⟩
  · rw [if_neg h33]
    by_cases h40 : sB (σ0.2 20) L p = 40
    · rw [if_pos h40]
      have hpL := h.lt (by omega)
      unfold conS
      by_cases hd : d = 0
      · rw [if_pos hd]
        rcases mH_open (F := F) (fu := fu) h ho (Or.inr ⟨rfl, h40⟩) with ⟨_, e⟩ | ⟨hd', _⟩
        · exact e
        · exact absurd hd hd'
      · rw [if_neg hd]
        obtain ⟨d', rfl⟩ : ∃ d', d = d' + 1 := ⟨d - 1, by omega⟩
        rcases mH_open (F := F) (fu := fu) h ho (Or.inr ⟨rfl, h40⟩) with ⟨hd', _⟩ | ⟨_, σ1, e1, q1⟩
        · exact absurd hd' hd
        · have hc1 := con_m hF hL (hok d' rfl) (hS d' rfl) (fu := fu) q1 (by omega) (by omega) (by omega)
          rw [e1]
          revert hc1
          cases conE (sB (σ0.2 20) L) (jmpS (sB (σ0.2 20) L) 124 12 (jmpS (sB (σ0.2 20) L) 38 11 S) c.length (p + 1)) with
          | inl e => exact id
          | inr rr =>
            obtain ⟨p1, cc, u⟩ := rr
            intro ⟨σ2, fb, fu2, e2, q2, f2, f3⟩
            rw [if_neg hwn] at e2
            exact ⟨σ2, F, fb, fu2, e2, q2, by omega, f2, f3⟩
    · rw [if_neg h40]
      have hc1 := cmp_m (fu := fu) hF h ho hc (ht.po (by omega) (by omega)) h33 h40
      have hok1 := cmpS_ok (sB_BL (t := σ0.2 20) hL) (sumS_ok (sB_BL (t := σ0.2 20) hL) d) hp
      revert hc1 hok1
      cases cmpS (sB (σ0.2 20) L) (sumS (sB (σ0.2 20) L) d) p with
      | inl e => exact fun hs _ => hs
      | inr rr =>
        obtain ⟨p1, cc, u⟩ := rr
        intro ⟨σ2, e2, q2⟩ ⟨a1, a2, a3, a4, a5⟩
        exact ⟨σ2, F, F, fu, e2, q2, by omega, by omega, by omega⟩
theorem pieS_m {F L : Nat} {σ0 : MS} (hF : 200 ≤ F) (hL : L ≤ 160) : ∀ d, PieM F L σ0 d (pieS (sB (σ0.2 20) L) d)
  | 0 => pie_m hF hL (fun d' hd => by omega) (fun d' hd => by omega)
  | d + 1 => pie_m hF hL (fun d' hd => pieS_ok (sB_BL hL) d) (fun d' hd => by
      have : d' = d := by omega
      subst this
      exact pieS_m hF hL d')
/-- a whole condition -/
theorem m_cond {F L : Nat} {σ0 σ : MS} {p : Nat} {c : List Nat} (hF : 200 ≤ F) (h29 : σ.1 29 = nI p) (h30 : σ.1 30 = nI L) (hL : L ≤ 160) (h34 : σ.1 34 = nI c.length) (hcs : ∀ k, k < c.length → σ.2 21 k = nI (c.getD k 0)) (hfr : Mf σ0 σ) (hc : c.length ≤ p) (hb : sB (σ0.2 20) L p = 40) : match conS (sB (σ0.2 20) L) 6 (pieS (sB (σ0.2 20) L) 5) c.length p with
    | .inl e => mE σ0 e (m_readsCondition F σ)
    | .inr (p', cc, _) => ∃ σ', m_readsCondition F σ = some (1, σ') ∧ Mq σ0 L σ' p' (c ++ cc) [] 0 := by
  have hpL : p < L := (sB_BL hL).lt (by omega : sB (σ0.2 20) L p < 256)
  have q0 : Mq σ0 L (sS (sS σ 33 0) 35 0) p c [] 0 := ⟨h29, h30, by omega, hL, rfl, h34, rfl, hcs, fun k hk => absurd hk (Nat.not_lt_zero k), Nat.zero_le _, fun x hx => absurd hx (by simp), (hfr.s (by decide) (by decide) (by decide)).s (by decide) (by decide) (by decide)⟩
  rcases q0.opens (F := F) (x := 13) hpL (by omega) (by omega) with ⟨h6, _⟩ | ⟨_, σ1, e1, q1⟩
  · omega
  · have hst : m_readsCondition F σ = mHd F F σ1 := by
      unfold m_readsCondition
      simp only [nx_e]
      rw [show (13 : Int32) = nI 13 from rfl, e1]
      rfl
    have hc1 := con_m (w := []) hF hL (pieS_ok (sB_BL (t := σ0.2 20) hL) 5) (pieS_m hF hL 5) (fu := F) q1 (by omega) (by omega) (by omega)
    unfold conS
    rw [if_neg (by decide), hst]
    revert hc1
    cases conE (sB (σ0.2 20) L) (jmpS (sB (σ0.2 20) L) 124 12 (jmpS (sB (σ0.2 20) L) 38 11 (pieS (sB (σ0.2 20) L) 5)) c.length (p + 1)) with
    | inl e => exact id
    | inr rr =>
      obtain ⟨p1, cc, u⟩ := rr
      intro ⟨σ2, fb, fu2, e2, q2, f2, f3⟩
      rw [if_pos rfl] at e2
      exact ⟨σ2, e2, q2⟩
