/-! the reference's reader: sums follow the spec -/
noncomputable def mK20 (F : Nat) : MS → Option (Int32 × MS) := fun a1 => (m_isDigit F a1).bind (fun r1 => if r1.1 = 0 then ((m_byteHere F r1.2).bind (fun r2 => (m_factOf F r2.1).bind (fun r3 => if r3 = ((-1)) then ((m_wrong F 1 (r2.2.1 29) r2.2).bind (fun r5 => if okB r5.1 = true then some (r5.1, r5.2) else none)) else ((m_says F 1 r3 r2.2).bind (fun r4 => nx (sS r4.2 29 ((r4.2.1 29) + 1)) (fun σ1 => some (1, σ1))))))) else ((m_readsNumber F 99999 r1.2).bind (fun r6 => if r6.1 = 0 then (some (0, r6.2)) else ((m_says F 0 (r6.2.1 32) r6.2).bind (fun r7 => some (1, r7.2))))))
/-- the loop of a sum -/
noncomputable def mL (F : Nat) (b : Int32) (fu : Nat) (σ : MS) : Option (Int32 × MS) := lp (m_readsSum_B14 F (fun a1 => m_readsSum_139 F b a1) b) fu σ
/-- a factor wanted, then the loop -/
noncomputable def mRF (F : Nat) (b : Int32) (fi fu : Nat) (σ : MS) : Option (Int32 × MS) := (lp (m_readsFactor_B0 F (mK20 F)) fi σ).bind (fun r => if r.1 = 0 then some (0, r.2) else mL F b fu r.2)
theorem mRF_0 {F fu : Nat} {b : Int32} {σ : MS} : ((m_readsFactor F σ).bind (fun r2 => if r2.1 = 0 then (some (0, r2.2)) else (lp (m_readsSum_B14 F (fun a1 => m_readsSum_139 F b a1) b) fu r2.2))) = mRF F b F fu σ := rfl
theorem mRF_s {F : Nat} {σ : MS} : m_readsSum F σ = mRF F (σ.1 35) F F σ := rfl
theorem m_fct {F n : Nat} : m_factOf F (hb n) = some (if fct n = 5 then -1 else nI (fct n)) := by
  unfold m_factOf fct
  simp only [hb_119, hb_104, hb_107, hb_109, hb_112]
  repeat' split
  all_goals first | rfl | omega
theorem m_sgn {F n : Nat} : m_sumSign F (hb n) = some (if aop n = 0 then (if mop n = 0 then -1 else nI (mop n)) else nI (aop n)) := by
  unfold m_sumSign aop mop
  simp only [hb_43, hb_45, hb_42, hb_47, hb_37]
  repeat' split
  all_goals first | rfl | omega
def FacQ (F L : Nat) (σ0 : MS) (b : Int32) (fi fu : Nat) (σ : MS) (c w : List Nat) (o : Nat) : sE → Prop
  | .inl e => mE σ0 e (mRF F b fi fu σ)
  | .inr (p', cc, _) => ∃ σ' fu', mRF F b fi fu σ = mL F b fu' σ' ∧ Mq σ0 L σ' p' (c ++ cc) w o ∧ L + 2 < fu' + p'
def SumQ (F L : Nat) (σ0 : MS) (b : Int32) (fi fu : Nat) (σ : MS) (c w : List Nat) (o a : Nat) (N : Nat → Prop) : sE → Prop
  | .inl e => mE σ0 e (mRF F b fi fu σ)
  | .inr (p', cc, _) => ∃ σ' fu' cP r, mRF F b fi fu σ = mL F b fu' σ' ∧ Mq σ0 L σ' p' (c ++ cP) (w ++ r.reverse) o ∧ cc = cP ++ r ∧ sgs a r ∧ L + 2 < fu' + p' ∧ N p'
def FacM (F L : Nat) (σ0 : MS) (d : Nat) (S : Nat → sE) : Prop := ∀ (bn : Nat) (σ : MS) (p : Nat) (c w : List Nat) (o fi fu : Nat), Mq σ0 L σ p c w o → o + d = 6 → c.length ≤ p → bn ≤ w.length → L + 2 < fi + p → L + 2 < fu + p → FacQ F L σ0 (nI bn) fi fu σ c w o (S p)
def SumM (F L : Nat) (σ0 : MS) (d a : Nat) (N : Nat → Prop) (S : Nat → sE) : Prop := ∀ (bn : Nat) (σ : MS) (p : Nat) (c w : List Nat) (o fi fu : Nat), Mq σ0 L σ p c w o → o + d = 6 → c.length ≤ p → bn ≤ w.length → tpo w a → L + 2 < fi + p → L + 2 < fu + p → SumQ F L σ0 (nI bn) fi fu σ c w o a N (S p)
/-- one step of the loop: a sign -/
theorem mL_sign {F L : Nat} {σ0 σ : MS} {b : Int32} {p o fu op a : Nat} {c w r : List Nat} (hF : 200 ≤ F) (h : Mq σ0 L σ p c (w ++ r.reverse) o) (hc : c.length + r.length ≤ p) (hr : sgs a r) (ht : tpo w a) (hp : p < L)
    (ho : (a = 4 ∧ op = mop (sB (σ0.2 20) L p) ∧ mop (sB (σ0.2 20) L p) ≠ 0) ∨ (a = 2 ∧ op = aop (sB (σ0.2 20) L p) ∧ aop (sB (σ0.2 20) L p) ≠ 0)) : ∃ σ', mL F b (fu + 1) σ = mRF F b F fu σ' ∧ Mq σ0 L σ' (p + 1) (c ++ r) (w ++ [1048576 * op]) o := by
  have hL := h.L0
  have hrl : r.length < F := by omega
  generalize hn : sB (σ0.2 20) L p = n at ho
  have hmm := sOp_m n
  have hma := sOp_a n
  obtain ⟨x1, hx1, hop, hs4⟩ : ∃ x1 : Int32, ((a = 4 ∧ x1 = 0) ∨ (a = 2 ∧ x1 = 1)) ∧ (op < 13 ∧ op ≠ 0 ∧ m_sumSign F (hb n) = some (nI op)) ∧ ((4 ≤ nI op) ↔ x1 = 0) := by
    rw [m_sgn]
    rcases ho with ⟨rfl, rfl, h1⟩ | ⟨rfl, rfl, h1⟩
    · refine ⟨0, Or.inl ⟨rfl, rfl⟩, ⟨(hmm h1).2, h1, ?_⟩, ?_⟩
      · rw [if_pos, if_neg h1]
        unfold mop at h1
        unfold aop
        repeat' split at h1
        all_goals first | omega | (rw [if_neg (by omega), if_neg (by omega)])
      · have := ni_le (a := 4) (b := mop n) (by omega) (by have := (hmm h1).2; omega)
        refine ⟨fun _ => rfl, fun _ => this.mpr ?_⟩
        unfold mop at h1 ⊢
        repeat' split at h1
        all_goals first | omega | (repeat' split; all_goals omega)
    · refine ⟨1, Or.inr ⟨rfl, rfl⟩, ⟨(hma h1).2, h1, ?_⟩, ?_⟩
      · rw [if_neg h1]
      · have := ni_le (a := 4) (b := aop n) (by omega) (by have := (hma h1).2; omega)
        refine ⟨fun e => absurd (this.mp e) ?_, fun e => absurd e (by decide)⟩
        unfold aop at h1 ⊢
        repeat' split at h1
        all_goals first | omega | (repeat' split; all_goals omega)
  obtain ⟨hop1, hop2, hop3⟩ := hop
  obtain ⟨σ1, g1, g2⟩ := m_clos (F := F) hx1 ht r c σ F hrl hr h hc
  have g3 := g2.push (x := 1048576 * op) hp (by omega)
  refine ⟨_, ?_, g3⟩
  have hw := g2.wp
  unfold mL
  rw [lp_s]
  generalize hRR : lp (m_readsSum_B14 F (fun a1 => m_readsSum_139 F b a1) b) fu = RR
  have hne : ¬ nI op = -1 := by
    intro e
    have := congrArg Int32.toInt e
    rw [ni_i (by omega), li_m1] at this
    omega
  have h38 : m_readsSum_38 F (fun a1 => m_readsSum_139 F b a1) RR b (nI op) x1 σ = (m_readsFactor F (sS (sS (sA σ1 22 (σ1.1 35).toNatClampNeg (nI (1048576 * op))) 35 (σ1.1 35 + 1)) 29 (σ1.1 29 + 1))).bind (fun r2 => if r2.1 = 0 then (some (0, r2.2)) else (RR r2.2)) := by
    simp only [m_readsSum_38, m_closesSums]
    rw [g1]
    simp only [ob_s]
    rw [if_pos (by rw [g2.s35]; exact okI_nI (by omega) (by omega))]
    simp only [nx_e]
    rw [show (1048576 : Int32) * nI op = nI (1048576 * op) from ni_mul 1048576 op]
    rfl
  simp only [m_readsSum_B14]
  rw [h.byte]
  simp only [ob_s]
  rw [hn, hop3]
  simp only [ob_s]
  rw [if_neg hne]
  rcases hx1 with ⟨_, rfl⟩ | ⟨_, rfl⟩
  · rw [if_pos (hs4.mpr rfl), h38, ← hRR]
    rfl
  · rw [if_neg (fun e => absurd (hs4.mp e) (by decide)), h38, ← hRR]
    rfl
theorem Mq.lt {σ0 σ : MS} {L p o : Nat} {c w : List Nat} (h : Mq σ0 L σ p c w o) (hb : sB (σ0.2 20) L p < 256) : p < L := (sB_BL h.L0).lt hb
/-- the rest of a row -/
theorem row_m {F L d a : Nat} {σ0 : MS} {op : Nat → Nat} {N : Nat → Prop} {S : Nat → sE} (hF : 200 ≤ F) (hL : L ≤ 160)
    (hop : (a = 4 ∧ op = mop) ∨ (a = 2 ∧ op = aop)) (hok : ∀ p, p ≤ L → sOk L p (S p)) (bn : Nat)
    (hS : ∀ (σ : MS) (p : Nat) (c w : List Nat) (o fi fu : Nat) (k : Nat), Mq σ0 L σ p c (w ++ [1048576 * k]) o → a ≤ k → (a = 2 → k ≤ 3) → k ≤ 6 → o + d = 6 → c.length ≤ p → bn ≤ w.length → L + 2 < fi + p → L + 2 < fu + p → SumQ F L σ0 (nI bn) fi fu σ c (w ++ [1048576 * k]) o 4 N (S p)) :
    ∀ (n p : Nat) (acc : List Nat) (u : sD) (σ : MS) (c0 cP r w : List Nat) (o fu : Nat), L < n + p → Mq σ0 L σ p (c0 ++ cP) (w ++ r.reverse) o → acc = cP ++ r → sgs a r → tpo w a → o + d = 6 → c0.length + acc.length ≤ p → bn ≤ w.length → L + 2 < fu + p → N p →
      match rowT (sB (σ0.2 20) L) op S n p acc u with
      | .inl e => mE σ0 e (mL F (nI bn) fu σ)
      | .inr (p', cc, _) => ∃ σ' fu' cP r, mL F (nI bn) fu σ = mL F (nI bn) fu' σ' ∧ Mq σ0 L σ' p' (c0 ++ cP) (w ++ r.reverse) o ∧ cc = cP ++ r ∧ sgs a r ∧ L + 2 < fu' + p' ∧ N p' ∧ op (sB (σ0.2 20) L p') = 0 := by
  intro n
  induction n with
  | zero =>
    intro p acc u σ c0 cP r w o fu hn h
    have := h.pL
    omega
  | succ n ih =>
    intro p acc u σ c0 cP r w o fu hn h hacc hr ht ho hc hb hf hNp
    rw [rowT]
    by_cases h0 : op (sB (σ0.2 20) L p) = 0
    · rw [if_pos h0]
      exact ⟨σ, fu, cP, r, rfl, h, hacc, hr, hf, hNp, h0⟩
    · rw [if_neg h0]
      have hso : sOp op := by
        rcases hop with ⟨_, rfl⟩ | ⟨_, rfl⟩
        · exact sOp_m
        · exact sOp_a
      obtain ⟨hb1, hb2⟩ := hso _ h0
      have hpL := h.lt hb1
      obtain ⟨fu, rfl⟩ : ∃ f, fu = f + 1 := ⟨fu - 1, by omega⟩
      have hal : acc.length = cP.length + r.length := by rw [hacc, List.length_append]
      obtain ⟨σ1, g1, g2⟩ := mL_sign (fu := fu) (b := nI bn) (op := op (sB (σ0.2 20) L p)) hF h (by rw [List.length_append]; omega) hr ht hpL (by
        rcases hop with ⟨rfl, rfl⟩ | ⟨rfl, rfl⟩
        · exact Or.inl ⟨rfl, rfl, h0⟩
        · exact Or.inr ⟨rfl, rfl, h0⟩)
      rw [List.append_assoc, ← hacc] at g2
      have hk : a ≤ op (sB (σ0.2 20) L p) ∧ op (sB (σ0.2 20) L p) ≤ 6 ∧ (a = 2 → op (sB (σ0.2 20) L p) ≤ 3) := by
        generalize sB (σ0.2 20) L p = x at h0
        rcases hop with ⟨rfl, rfl⟩ | ⟨rfl, rfl⟩
        · unfold mop at h0 ⊢
          repeat' split at h0
          all_goals first | omega | (repeat' split; all_goals omega)
        · unfold aop at h0 ⊢
          repeat' split at h0
          all_goals first | omega | (repeat' split; all_goals omega)
      generalize op (sB (σ0.2 20) L p) = k at *
      have hsub := hS σ1 (p + 1) (c0 ++ acc) w o F fu k g2 hk.1 hk.2.2 hk.2.1 ho (by rw [List.length_append]; omega) hb (by omega) (by omega)
      have hok1 := hok (p + 1) (by omega)
      revert hsub hok1
      cases S (p + 1) with
      | inl e =>
        intro hsub _
        show mE σ0 e (mL F (nI bn) (fu + 1) σ)
        rw [g1]
        exact hsub
      | inr rr =>
        obtain ⟨p1, cc1, u1⟩ := rr
        intro ⟨σ2, fu2, cP1, r1, e1, q1, e2, s1, f1, n1⟩ ⟨a1, a2, a3, a4, a5⟩
        rw [g1, e1]
        refine ih p1 _ _ σ2 c0 (acc ++ cP1) (r1 ++ [1048576 * k]) w o fu2 (by omega) ?_ ?_ ?_ ht ho ?_ hb f1 n1
        · rw [List.reverse_append, ← List.append_assoc, ← List.append_assoc]
          exact q1
        · rw [e2, List.append_assoc, List.append_assoc]
        · intro x hx
          rw [List.mem_append, List.mem_singleton] at hx
          rcases hx with hx | rfl
          · obtain ⟨op', b1, b2, b3⟩ := s1 x hx
            exact ⟨op', b1, by omega, b3⟩
          · exact ⟨k, rfl, hk.1, hk.2.1⟩
        · rw [List.length_append, List.length_append]
          show c0.length + (acc.length + (cc1.length + 1)) ≤ p1
          omega
theorem prod_m {F L d : Nat} {σ0 : MS} {S : Nat → sE} (hF : 200 ≤ F) (hL : L ≤ 160) (hok : ∀ p, p ≤ L → sOk L p (S p)) (hS : FacM F L σ0 d S) : SumM F L σ0 d 4 (fun p => mop (sB (σ0.2 20) L p) = 0) (rowS (sB (σ0.2 20) L) mop S) := by
  intro bn σ p c w o fi fu h ho hc hb ht hfi hfu
  unfold rowS
  have hf := hS bn σ p c w o fi fu h ho hc hb hfi hfu
  have hk := hok p h.pL
  revert hf hk
  cases S p with
  | inl e => exact fun hf _ => hf
  | inr rr =>
    obtain ⟨p1, cc, u⟩ := rr
    intro ⟨σ1, fu1, e1, q1, f1⟩ ⟨a1, a2, a3, a4, a5⟩
    have := row_m (N := fun _ => True) (d := d) (S := S) hF hL (Or.inl ⟨rfl, rfl⟩) hok bn (fun σ p c w o fi fu k g k1 k2 k3 g1 g2 g3 g4 g5 => by
      have hq := hS bn σ p c (w ++ [1048576 * k]) o fi fu g g1 g2 (by rw [List.length_append]; omega) g4 g5
      revert hq
      cases S p with
      | inl e => exact id
      | inr rr =>
        obtain ⟨p1, cc, u⟩ := rr
        intro ⟨σ1, fu1, e1, q1, f1⟩
        exact ⟨σ1, fu1, cc, [], e1, by rw [List.reverse_nil, List.append_nil]; exact q1, by rw [List.append_nil], fun x hx => absurd hx (by simp), f1, trivial⟩) 200 p1 cc u σ1 c cc [] w o fu1 (by omega) (by rw [List.reverse_nil, List.append_nil]; exact q1) (by rw [List.append_nil]) (fun x hx => absurd hx (by simp)) ht ho (by omega) hb f1 trivial
    revert this
    show _ → SumQ F L σ0 (nI bn) fi fu σ c w o 4 _ (rowT (sB (σ0.2 20) L) mop S 200 p1 cc u)
    cases rowT (sB (σ0.2 20) L) mop S 200 p1 cc u with
    | inl e =>
      intro hq
      show mE σ0 e (mRF F (nI bn) fi fu σ)
      rw [e1]
      exact hq
    | inr rr =>
      obtain ⟨p2, cc2, u2⟩ := rr
      intro ⟨σ2, fu2, cP, r, b1, b2, b3, b4, b5, b6, b7⟩
      exact ⟨σ2, fu2, cP, r, e1.trans b1, b2, b3, b4, b5, b7⟩
/-- no sign of a sum here -/
def nSg (σ0 : MS) (L p : Nat) : Prop := mop (sB (σ0.2 20) L p) = 0 ∧ aop (sB (σ0.2 20) L p) = 0
theorem sum_m {F L d : Nat} {σ0 : MS} {S : Nat → sE} (hF : 200 ≤ F) (hL : L ≤ 160) (hok : ∀ p, p ≤ L → sOk L p (S p)) (hS : SumM F L σ0 d 4 (fun p => mop (sB (σ0.2 20) L p) = 0) S) : SumM F L σ0 d 2 (nSg σ0 L) (rowS (sB (σ0.2 20) L) aop S) := by
  intro bn σ p c w o fi fu h ho hc hb ht hfi hfu
  unfold rowS
  have ht4 : tpo w 4 := by
    rcases ht with rfl | ⟨w', x, rfl, hx, hn⟩
    · exact Or.inl rfl
    · exact Or.inr ⟨w', x, rfl, hx, by omega⟩
  have hf := hS bn σ p c w o fi fu h ho hc hb ht4 hfi hfu
  have hk := hok p h.pL
  revert hf hk
  cases S p with
  | inl e => exact fun hf _ => hf
  | inr rr =>
    obtain ⟨p1, cc, u⟩ := rr
    intro ⟨σ1, fu1, cP, r, e1, q1, e2, s1, f1, n1⟩ ⟨a1, a2, a3, a4, a5⟩
    have := row_m (N := fun p => mop (sB (σ0.2 20) L p) = 0) (d := d) (S := S) hF hL (Or.inr ⟨rfl, rfl⟩) hok bn (fun σ p c w o fi fu k g k1 k2 k3 g1 g2 g3 g4 g5 => 
      hS bn σ p c (w ++ [1048576 * k]) o fi fu g g1 g2 (by rw [List.length_append]; omega) (Or.inr ⟨w, 1048576 * k, rfl, by omega, by have := k2 rfl; omega⟩) g4 g5) 200 p1 cc u σ1 c cP r w o fu1 (by omega) q1 e2 (fun x hx => by
        obtain ⟨op', b1, b2, b3⟩ := s1 x hx
        exact ⟨op', b1, by omega, b3⟩) ht ho (by omega) hb f1 n1
    revert this
    show _ → SumQ F L σ0 (nI bn) fi fu σ c w o 2 _ (rowT (sB (σ0.2 20) L) aop S 200 p1 cc u)
    cases rowT (sB (σ0.2 20) L) aop S 200 p1 cc u with
    | inl e =>
      intro hq
      show mE σ0 e (mRF F (nI bn) fi fu σ)
      rw [e1]
      exact hq
    | inr rr =>
      obtain ⟨p2, cc2, u2⟩ := rr
      intro ⟨σ2, fu2, cP, r, b1, b2, b3, b4, b5, b6, b7⟩
      exact ⟨σ2, fu2, cP, r, e1.trans b1, b2, b3, b4, b5, b6, b7⟩
/-- the loop where there is no sign -/
theorem mL_end {F L fu : Nat} {σ0 σ : MS} {b : Int32} {p o : Nat} {c w : List Nat} (h : Mq σ0 L σ p c w o) (hn : nSg σ0 L p) : mL F b (fu + 1) σ = if sB (σ0.2 20) L p = 93 then (m_hasOpenSum F b σ).bind (fun r4 => if r4.1 = 0 then (m_readsSum_139 F b r4.2) else ((m_closesSums F 1 r4.2).bind (fun r5 => mL F b fu (sS (sS (sS r5.2 35 (r5.2.1 35 - 1)) 33 ((sS r5.2 35 (r5.2.1 35 - 1)).1 33 - 1)) 29 ((sS (sS r5.2 35 (r5.2.1 35 - 1)) 33 ((sS r5.2 35 (r5.2.1 35 - 1)).1 33 - 1)).1 29 + 1))))) else m_readsSum_139 F b σ := by
  unfold mL
  rw [lp_s]
  generalize lp (m_readsSum_B14 F (fun a1 => m_readsSum_139 F b a1) b) fu = RR
  simp only [m_readsSum_B14]
  rw [h.byte]
  simp only [ob_s]
  rw [m_sgn, hn.1, hn.2]
  simp only [ob_s, if_true, hb_93, nx_e]
  rw [h.byte]
  simp only [ob_s, hb_93]
theorem tpo_r {w : List Nat} {x a : Nat} (hx : x < 16) (h : ¬ (a ≤ x ∧ x ≤ 6)) : tpo (w ++ [1048576 * x]) a := Or.inr ⟨w, 1048576 * x, rfl, by omega, by rw [Nat.mul_div_cancel_left x (by omega)]; exact h⟩
theorem fac_m {F L d : Nat} {σ0 : MS} {S : Nat → sE} (hF : 200 ≤ F) (hL : L ≤ 160) (hok : ∀ d', d = d' + 1 → ∀ p, p ≤ L → sOk L p (S p)) (hS : ∀ d', d = d' + 1 → SumM F L σ0 d' 2 (nSg σ0 L) S) : FacM F L σ0 d (facS (sB (σ0.2 20) L) d S) := by
  intro bn σ p c w o fi fu h ho hc hb hfi hfu
  obtain ⟨fi, rfl⟩ : ∃ f, fi = f + 1 := ⟨fi - 1, by have := h.pL; omega⟩
  have hp := h.pL
  unfold facS
  by_cases h91 : sB (σ0.2 20) L p = 91
  · rw [if_pos h91]
    have hpL := h.lt (by omega)
    have hop := h.opens (F := F) (x := 14) hpL (by omega) (by omega)
    have hst : ∀ X, m_opens F (nI 14) σ = X → mRF F (nI bn) (fi + 1) fu σ = (X.bind (fun r2 => if r2.1 = 0 then (some (0, r2.2)) else (lp (m_readsFactor_B0 F (mK20 F)) fi r2.2))).bind (fun r => if r.1 = 0 then some (0, r.2) else mL F (nI bn) fu r.2) := by
      intro X hX
      unfold mRF
      rw [lp_s]
      simp only [m_readsFactor_B0]
      rw [h.byte]
      simp only [ob_s, hb_91]
      rw [if_pos h91, ← hX]
      rfl
    by_cases hd : d = 0
    · rw [if_pos hd]
      rcases hop with ⟨_, σ', e1, e2, e3⟩ | ⟨hl, _⟩
      · refine ⟨σ', ?_, e2, e3⟩
        rw [hst _ e1]
        rfl
      · omega
    · rw [if_neg hd]
      obtain ⟨d', rfl⟩ : ∃ d', d = d' + 1 := ⟨d - 1, by omega⟩
      rcases hop with ⟨h6, _⟩ | ⟨hl, σ1, e1, q1⟩
      · omega
      · have hst1 : mRF F (nI bn) (fi + 1) fu σ = mRF F (nI bn) fi fu σ1 := by
          rw [hst _ e1]
          rfl
        have hsub := hS d' rfl bn σ1 (p + 1) c (w ++ [1048576 * 14]) (o + 1) fi fu q1 (by omega) (by omega) (by rw [List.length_append]; omega) (tpo_r (by omega) (by omega)) (by omega) (by omega)
        have hok1 := hok d' rfl (p + 1) (by omega)
        revert hsub hok1
        cases S (p + 1) with
        | inl e =>
          intro hsub _
          show mE σ0 e (mRF F (nI bn) (fi + 1) fu σ)
          rw [hst1]
          exact hsub
        | inr rr =>
          obtain ⟨p1, cc, u⟩ := rr
          intro ⟨σ2, fu2, cP, r, b1, b2, b3, b4, b5, b6⟩ ⟨a1, a2, a3, a4, a5⟩
          obtain ⟨fu2, rfl⟩ : ∃ f, fu2 = f + 1 := ⟨fu2 - 1, by omega⟩
          have hlen : cc.length = cP.length + r.length := by rw [b3, List.length_append]
          have hw2 := b2.wp
          have hhos : m_hasOpenSum F (nI bn) σ2 = some (1, σ2) := by
            refine (m_hos (F := F) b2 ((w ++ [1048576 * 14] ++ r.reverse).length - bn) bn F ?_ (by omega)).1 ⟨1048576 * 14, ?_, by omega⟩
            · rw [List.length_append, List.length_append]; omega
            · rw [List.append_assoc, List.drop_append_of_le_length hb]
              simp
          have hend := mL_end (F := F) (fu := fu2) (b := nI bn) b2 b6
          show FacQ F L σ0 (nI bn) (fi + 1) fu σ c w o (if sB (σ0.2 20) L p1 = 93 then .inr (p1 + 1, cc, u) else .inl (1, p1))
          by_cases h93 : sB (σ0.2 20) L p1 = 93
          · rw [if_pos h93] at hend ⊢
            have hpL1 := b2.lt (by omega)
            obtain ⟨σ3, g1, g2⟩ := m_clos (F := F) (x1 := 1) (a := 2) (Or.inr ⟨rfl, rfl⟩) (tpo_r (w := w) (x := 14) (by omega) (by omega)) r (c ++ cP) σ2 F (by omega) b4 b2 (by rw [List.length_append]; omega)
            rw [hhos] at hend
            simp only [ob_s, m_closesSums] at hend
            rw [if_neg (by decide), g1] at hend
            simp only [ob_s] at hend
            refine ⟨_, fu2, hst1.trans (b1.trans hend), ?_, by omega⟩
            rw [List.append_assoc, ← b3] at g2
            exact (g2.pop.cls).adv hpL1
          · rw [if_neg h93] at hend ⊢
            show mE σ0 (1, p1) (mRF F (nI bn) (fi + 1) fu σ)
            rw [hst1, b1, hend]
            simp only [m_readsSum_139]
            rw [hhos]
            simp only [ob_s]
            rw [if_neg (by decide), b2.1]
            exact mE.w b2.fr
  · rw [if_neg h91]
    have hst : mRF F (nI bn) (fi + 1) fu σ = (mK20 F σ).bind (fun r => if r.1 = 0 then some (0, r.2) else mL F (nI bn) fu r.2) := by
      unfold mRF
      rw [lp_s]
      simp only [m_readsFactor_B0]
      rw [h.byte]
      simp only [ob_s, hb_91]
      rw [if_neg h91]
    have hK : mK20 F σ = if 48 ≤ sB (σ0.2 20) L p ∧ sB (σ0.2 20) L p ≤ 57 then ((m_readsNumber F 99999 σ).bind (fun r6 => if r6.1 = 0 then (some (0, r6.2)) else ((m_says F 0 (r6.2.1 32) r6.2).bind (fun r7 => some (1, r7.2))))) else (if fct (sB (σ0.2 20) L p) = 5 then some (0, sS σ 31 (flt (1, p))) else ((m_says F 1 (nI (fct (sB (σ0.2 20) L p))) σ).bind (fun r4 => some (1, sS r4.2 29 ((r4.2.1 29) + 1))))) := by
      unfold mK20
      rw [h.dig]
      simp only [ob_s, bI_0]
      rw [h.byte]
      simp only [ob_s]
      rw [m_fct]
      simp only [ob_s, nx_e]
      by_cases hd : 48 ≤ sB (σ0.2 20) L p ∧ sB (σ0.2 20) L p ≤ 57
      · rw [if_neg (fun e => e hd), if_pos hd]
      · rw [if_pos hd, if_neg hd]
        by_cases h5 : fct (sB (σ0.2 20) L p) = 5
        · rw [if_pos h5, if_pos h5, if_pos rfl, h.1]
          rfl
        · rw [if_neg h5, if_neg h5]
          have := fct_le (c := sB (σ0.2 20) L p)
          rw [if_neg (fun e => by
            have := congrArg Int32.toInt e
            rw [ni_i (by omega), li_m1] at this
            omega)]
    by_cases hd : 48 ≤ sB (σ0.2 20) L p ∧ sB (σ0.2 20) L p ≤ 57
    · rw [if_pos hd] at hK ⊢
      have hnum := mi_num (F := F) (most := 99999) hF h.1 h.2.1 hL hp (by omega)
      rw [h.fr.2 20 (by decide) (by decide)] at hnum
      have hnok := sNum_ok (most := 99999) (sB_BL (t := σ0.2 20) hL) hp
      revert hnum hnok
      cases sNum (sB (σ0.2 20) L) 99999 p with
      | inl e =>
        intro ⟨v, q, e1⟩ _
        refine ⟨_, ?_, rfl, ((h.fr.s (k := 32) (v := v) (by decide) (by decide) (by decide)).s (k := 29) (v := q) (by decide) (by decide) (by decide)).s (k := 31) (v := flt e) (by decide) (by decide) (by decide)⟩
        rw [hst, hK, show (99999 : Int32) = nI 99999 from rfl, e1]
        rfl
      | inr rr =>
        obtain ⟨p1, v⟩ := rr
        intro e1 ⟨a1, a2, a3, a4⟩
        have e1 : m_readsNumber F (nI 99999) σ = some (1, nS σ (nI v) (nI p1)) := e1
        have q1 : Mq σ0 L (nS σ (nI v) (nI p1)) p1 c w o := by
          obtain ⟨b1, b2, b3, b4, b5, b6, b7, b8, b9, b10, b11, b12⟩ := h
          exact ⟨rfl, b2, a2, b4, b5, b6, b7, b8, b9, by omega, b11, (b12.s (by decide) (by decide) (by decide)).s (by decide) (by decide) (by decide)⟩
        obtain ⟨σ2, g1, g2⟩ := q1.says (F := F) (x1 := 0) (x2 := nI v) (x := v) (by omega) (by simp)
        refine ⟨σ2, fu, ?_, g2, by omega⟩
        rw [hst, hK, show (99999 : Int32) = nI 99999 from rfl, e1]
        simp only [ob_s]
        rw [if_neg (by decide)]
        have : (nS σ (nI v) (nI p1)).1 32 = nI v := rfl
        rw [this, g1]
        rfl
    · rw [if_neg hd] at hK ⊢
      by_cases h5 : fct (sB (σ0.2 20) L p) = 5
      · rw [if_pos h5] at hK ⊢
        show mE σ0 (1, p) (mRF F (nI bn) (fi + 1) fu σ)
        rw [hst, hK]
        exact mE.w h.fr
      · rw [if_neg h5] at hK ⊢
        have hf5 := fct_le (c := sB (σ0.2 20) L p)
        have hpL : p < L := h.lt (by
          by_cases h4 : sB (σ0.2 20) L p < 256
          · exact h4
          · exfalso
            apply h5
            unfold fct
            rw [if_neg (by omega), if_neg (by omega), if_neg (by omega), if_neg (by omega), if_neg (by omega)])
        obtain ⟨σ2, g1, g2⟩ := h.says (F := F) (x1 := 1) (x2 := nI (fct (sB (σ0.2 20) L p))) (x := 1048576 + fct (sB (σ0.2 20) L p)) hc (ni_add 1048576 _)
        refine ⟨_, fu, ?_, g2.adv hpL, by omega⟩
        rw [hst, hK, g1]
        rfl
theorem sumS_m {F L : Nat} {σ0 : MS} (hF : 200 ≤ F) (hL : L ≤ 160) : ∀ d, SumM F L σ0 d 2 (nSg σ0 L) (sumS (sB (σ0.2 20) L) d)
  | 0 => sum_m hF hL (fun p hp => rowS_ok (sB_BL hL) sOp_m (fun p hp => facS_ok (sB_BL hL) (fun x => absurd rfl x) hp) hp) (prod_m hF hL (fun p hp => facS_ok (sB_BL hL) (fun x => absurd rfl x) hp) (fac_m hF hL (fun d' hd => by omega) (fun d' hd => by omega)))
  | d + 1 => sum_m hF hL (fun p hp => rowS_ok (sB_BL hL) sOp_m (fun p hp => facS_ok (sB_BL hL) (fun _ p hp => sumS_ok (sB_BL hL) d p hp) hp) hp) (prod_m hF hL (fun p hp => facS_ok (sB_BL hL) (fun _ p hp => sumS_ok (sB_BL hL) d p hp) hp) (fac_m hF hL (fun d' hd p hp => sumS_ok (sB_BL hL) d p hp) (fun d' hd => by
      have : d' = d := by omega
      subst this
      exact sumS_m hF hL d')))
/-- a whole sum -/
theorem mi_sum {F L d : Nat} {σ0 σ : MS} {p o : Nat} {c w : List Nat} (hF : 200 ≤ F) (h : Mq σ0 L σ p c w o) (ho : o + d = 6) (hc : c.length ≤ p) (ht : tpo w 2) : match sumS (sB (σ0.2 20) L) d p with
    | .inl e => mE σ0 e (m_readsSum F σ)
    | .inr (p', cc, _) => ∃ σ', m_readsSum F σ = some (1, σ') ∧ Mq σ0 L σ' p' (c ++ cc) w o := by
  have hL := h.L0
  have hs := sumS_m (σ0 := σ0) hF hL d w.length σ p c w o F F h ho hc (Nat.le_refl _) ht (by omega) (by omega)
  have hok := sumS_ok (sB_BL (t := σ0.2 20) hL) d p h.pL
  rw [mRF_s, h.s35]
  revert hs hok
  cases sumS (sB (σ0.2 20) L) d p with
  | inl e => exact fun hs _ => hs
  | inr rr =>
    obtain ⟨p1, cc, u⟩ := rr
    intro ⟨σ2, fu2, cP, r, b1, b2, b3, b4, b5, b6⟩ ⟨a1, a2, a3, a4, a5⟩
    obtain ⟨fu2, rfl⟩ : ∃ f, fu2 = f + 1 := ⟨fu2 - 1, by omega⟩
    have hlen : cc.length = cP.length + r.length := by rw [b3, List.length_append]
    have hw2 := b2.wp
    have hhos : m_hasOpenSum F (nI w.length) σ2 = some (0, σ2) := by
      refine (m_hos (F := F) b2 ((w ++ r.reverse).length - w.length) w.length F ?_ (by omega)).2 ?_
      · rw [List.length_append]; omega
      · intro x hx
        rw [List.drop_left, List.mem_reverse] at hx
        obtain ⟨op, rfl, h1, h2⟩ := b4 x hx
        omega
    have hend := mL_end (F := F) (fu := fu2) (b := nI w.length) b2 b6
    obtain ⟨σ3, g1, g2⟩ := m_clos (F := F) (x1 := 1) (a := 2) (Or.inr ⟨rfl, rfl⟩) ht r (c ++ cP) σ2 F (by omega) b4 b2 (by rw [List.length_append]; omega)
    have h139 : m_readsSum_139 F (nI w.length) σ2 = some (1, σ3) := by
      simp only [m_readsSum_139]
      rw [hhos]
      simp only [ob_s, m_closesSums]
      rw [if_pos trivial, g1]
      rfl
    rw [hhos] at hend
    simp only [ob_s] at hend
    rw [if_pos trivial, h139] at hend
    refine ⟨σ3, ?_, by rw [List.append_assoc, ← b3] at g2; exact g2⟩
    rw [b1, hend]
    by_cases h93 : sB (σ0.2 20) L p1 = 93
    · rw [if_pos h93]
    · rw [if_neg h93]
