/-! the reference's reader: its state while a condition is read -/
/-- what reading leaves alone -/
def Mf (σ0 σ : MS) : Prop := (∀ k, (29 ≤ k → k ≤ 35 → k = 30) → σ.1 k = σ0.1 k) ∧ ∀ j, j ≠ 21 → j ≠ 22 → σ.2 j = σ0.2 j
/-- place p, codes c, waits w, o brackets open -/
def Mq (σ0 : MS) (L : Nat) (σ : MS) (p : Nat) (c w : List Nat) (o : Nat) : Prop :=
  σ.1 29 = nI p ∧ σ.1 30 = nI L ∧ p ≤ L ∧ L ≤ 160 ∧ σ.1 33 = nI o ∧ σ.1 34 = nI c.length ∧ σ.1 35 = nI w.length ∧ (∀ k, k < c.length → σ.2 21 k = nI (c.getD k 0)) ∧ (∀ k, k < w.length → σ.2 22 k = nI (w.getD k 0)) ∧ w.length ≤ p ∧ (∀ x ∈ w, x < 16777216) ∧ Mf σ0 σ
section
variable {σ0 σ : MS} {L p o : Nat} {c w : List Nat}
theorem Mq.pL (h : Mq σ0 L σ p c w o) : p ≤ L := h.2.2.1
theorem Mq.L0 (h : Mq σ0 L σ p c w o) : L ≤ 160 := h.2.2.2.1
theorem Mq.wp (h : Mq σ0 L σ p c w o) : w.length ≤ p := h.2.2.2.2.2.2.2.2.2.1
theorem Mq.wb (h : Mq σ0 L σ p c w o) : ∀ x ∈ w, x < 16777216 := h.2.2.2.2.2.2.2.2.2.2.1
theorem Mq.fr (h : Mq σ0 L σ p c w o) : Mf σ0 σ := h.2.2.2.2.2.2.2.2.2.2.2
theorem Mq.s33 (h : Mq σ0 L σ p c w o) : σ.1 33 = nI o := h.2.2.2.2.1
theorem Mq.s34 (h : Mq σ0 L σ p c w o) : σ.1 34 = nI c.length := h.2.2.2.2.2.1
theorem Mq.s35 (h : Mq σ0 L σ p c w o) : σ.1 35 = nI w.length := h.2.2.2.2.2.2.1
theorem Mq.cs (h : Mq σ0 L σ p c w o) : ∀ k, k < c.length → σ.2 21 k = nI (c.getD k 0) := h.2.2.2.2.2.2.2.1
theorem Mq.ws (h : Mq σ0 L σ p c w o) : ∀ k, k < w.length → σ.2 22 k = nI (w.getD k 0) := h.2.2.2.2.2.2.2.2.1
theorem Mq.byte (h : Mq σ0 L σ p c w o) {F : Nat} : m_byteHere F σ = some (hb (sB (σ0.2 20) L p), σ) := by
  rw [m_byte h.1 h.2.1 h.L0 (by have := h.pL; have := h.L0; omega), h.fr.2 20 (by decide) (by decide)]
theorem Mq.dig (h : Mq σ0 L σ p c w o) {F : Nat} : m_isDigit F σ = some (bI (48 ≤ sB (σ0.2 20) L p ∧ sB (σ0.2 20) L p ≤ 57), σ) := by
  rw [mi_dig h.1 h.2.1 h.L0 (by have := h.pL; have := h.L0; omega), h.fr.2 20 (by decide) (by decide)]
end
theorem Mf.s {σ0 σ : MS} (h : Mf σ0 σ) {k : Nat} (hk : 29 ≤ k) (hk2 : k ≤ 35) (h3 : k ≠ 30) {v : Int32} : Mf σ0 (sS σ k v) := by
  refine ⟨fun q hq => ?_, h.2⟩
  show (if q = k then v else σ.1 q) = σ0.1 q
  rw [if_neg (fun e => by subst e; exact h3 (hq hk hk2))]
  exact h.1 q hq
theorem Mf.a {σ0 σ : MS} (h : Mf σ0 σ) {j i : Nat} (hj : j = 21 ∨ j = 22) {v : Int32} : Mf σ0 (sA σ j i v) := by
  refine ⟨h.1, fun q h1 h2 => ?_⟩
  show (if q = j then upd (σ.2 j) i v else σ.2 q) = σ0.2 q
  rw [if_neg (by omega)]
  exact h.2 q h1 h2
theorem nI_z {n : Nat} (h : n < 100000) : (nI n = 0) = (n = 0) := ni_ii (b := 0) (by omega) (by omega)
theorem ni_pre (n : Nat) : nI (n + 1) - 1 = nI n := by
  have h : nI (n + 1) = nI n + 1 := (ni_add n 1).symm
  rw [h]
  simp
theorem gD_l {c : List Nat} {x k : Nat} (h : k < c.length) : (c ++ [x]).getD k 0 = c.getD k 0 := by
  rw [List.getD_eq_getElem?_getD, List.getD_eq_getElem?_getD, List.getElem?_append_left h]
theorem gD_s {c : List Nat} {x : Nat} : (c ++ [x]).getD c.length 0 = x := by
  rw [List.getD_eq_getElem?_getD, List.getElem?_append_right (Nat.le_refl _), Nat.sub_self]
  rfl
theorem ni_U {x : Nat} (h : x < 16777216) : nI x / 1048576 = nI (x / 1048576) := by
  have h1 : (1048576 : Int32).toInt = 1048576 := li_1048576
  have h2 : (nI x).toInt = x := ni_i (by omega)
  refine Int32.toInt_inj.mp ?_
  rw [i_div (by omega) (by omega), h1, h2, ni_i (by omega)]
  omega
theorem ni_V {x : Nat} (h : x < 16777216) : jrem (nI x) 1048576 = nI (x % 1048576) := by
  have h1 : (1048576 : Int32).toInt = 1048576 := li_1048576
  have h2 : (nI x).toInt = x := ni_i (by omega)
  refine Int32.toInt_inj.mp ?_
  rw [i_rem (by omega) (by omega), h1, h2, ni_i (by omega)]
  omega
/-- the top of the waits -/
def tp (w : List Nat) : Int32 := match w.getLast? with
  | none => -1
  | some x => nI (x / 1048576)
theorem tp_s {w : List Nat} {x : Nat} : tp (w ++ [x]) = nI (x / 1048576) := by
  unfold tp
  rw [List.getLast?_concat]
theorem tp_n : tp [] = -1 := rfl
theorem Mq.top {σ0 σ : MS} {L p o : Nat} {c w : List Nat} (h : Mq σ0 L σ p c w o) {F : Nat} : m_top F σ = some (tp w, σ) := by
  unfold m_top
  have hw := h.wp
  have hp := h.pL
  have hL := h.L0
  rw [h.s35]
  rcases List.eq_nil_or_concat w with rfl | ⟨w', x, rfl⟩
  · rw [if_pos (by rfl)]
    rfl
  · rw [List.concat_eq_append] at *
    have hl : (w' ++ [x]).length = w'.length + 1 := by simp
    rw [hl] at hw ⊢
    rw [if_neg (show ¬ nI (w'.length + 1) = 0 by rw [nI_z (by omega)]; omega), ni_pre, if_pos (okI_nI (by omega) (by omega)), ni_c (by omega), h.ws w'.length (by omega), gD_s, ni_U (h.wb x (by simp)), tp_s]
theorem Mq.says {σ0 σ : MS} {L p o x : Nat} {c w : List Nat} (h : Mq σ0 L σ p c w o) (hc : c.length ≤ p) {x1 x2 : Int32} (hx : 1048576 * x1 + x2 = nI x) {F : Nat} : ∃ σ', m_says F x1 x2 σ = some (0, σ') ∧ Mq σ0 L σ' p (c ++ [x]) w o := by
  have hp := h.pL
  have hL := h.L0
  refine ⟨sS (sA σ 21 c.length (nI x)) 34 (σ.1 34 + 1), ?_, ?_⟩
  · unfold m_says
    rw [h.s34, if_pos (okI_nI (by omega) (by omega)), ni_c (by omega), hx, nx_e, nx_e]
    show some ((0 : Int32), sS (sA σ 21 c.length (nI x)) 34 (σ.1 34 + 1)) = _
    rw [h.s34]
  · obtain ⟨a1, a2, a3, a4, a5, a6, a7, a8, a9, a10, a11, a12⟩ := h
    refine ⟨a1, a2, a3, a4, a5, ?_, a7, ?_, a9, a10, a11, (a12.a (Or.inl rfl)).s (by decide) (by decide) (by decide)⟩
    · show σ.1 34 + 1 = _
      rw [a6, List.length_append]
      exact ni_add _ 1
    · intro k hk
      rw [List.length_append] at hk
      have hk : k < c.length + 1 := hk
      show upd (σ.2 21) c.length (nI x) k = _
      unfold upd
      by_cases hkc : k = c.length
      · rw [if_pos hkc, hkc, gD_s]
      · rw [if_neg hkc, gD_l (by omega)]
        exact a8 k (by omega)
theorem Mq.pop {σ0 σ : MS} {L p o x : Nat} {c w : List Nat} (h : Mq σ0 L σ p c (w ++ [x]) o) : Mq σ0 L (sS σ 35 (σ.1 35 - 1)) p c w o := by
  obtain ⟨a1, a2, a3, a4, a5, a6, a7, a8, a9, a10, a11, a12⟩ := h
  rw [List.length_append] at a7 a10
  refine ⟨a1, a2, a3, a4, a5, a6, ?_, a8, fun k hk => ?_, by have : w.length + 1 ≤ p := a10; omega, fun y hy => a11 y (by simp [hy]), a12.s (by decide) (by decide) (by decide)⟩
  · show σ.1 35 - 1 = _
    rw [a7]
    exact ni_pre _
  · have := a9 k (by rw [List.length_append]; omega)
    rw [gD_l hk] at this
    exact this
theorem Mq.adv {σ0 σ : MS} {L p o : Nat} {c w : List Nat} (h : Mq σ0 L σ p c w o) (hp : p < L) : Mq σ0 L (sS σ 29 (σ.1 29 + 1)) (p + 1) c w o := by
  obtain ⟨a1, a2, a3, a4, a5, a6, a7, a8, a9, a10, a11, a12⟩ := h
  refine ⟨?_, a2, hp, a4, a5, a6, a7, a8, a9, by omega, a11, a12.s (by decide) (by decide) (by decide)⟩
  show σ.1 29 + 1 = _
  rw [a1]
  exact ni_add _ 1
theorem Mq.cls {σ0 σ : MS} {L p o : Nat} {c w : List Nat} (h : Mq σ0 L σ p c w (o + 1)) : Mq σ0 L (sS σ 33 (σ.1 33 - 1)) p c w o := by
  obtain ⟨a1, a2, a3, a4, a5, a6, a7, a8, a9, a10, a11, a12⟩ := h
  refine ⟨a1, a2, a3, a4, ?_, a6, a7, a8, a9, a10, a11, a12.s (by decide) (by decide) (by decide)⟩
  show σ.1 33 - 1 = _
  rw [a5]
  exact ni_pre _
/-- a push onto the waits, with one byte taken -/
theorem Mq.push {σ0 σ : MS} {L p o x : Nat} {c w : List Nat} (h : Mq σ0 L σ p c w o) (hp : p < L) (hx : x < 16777216) : Mq σ0 L (sS (sS (sA σ 22 (σ.1 35).toNatClampNeg (nI x)) 35 (σ.1 35 + 1)) 29 (σ.1 29 + 1)) (p + 1) c (w ++ [x]) o := by
  have hL := h.L0
  obtain ⟨a1, a2, a3, a4, a5, a6, a7, a8, a9, a10, a11, a12⟩ := h
  refine ⟨?_, a2, hp, a4, a5, a6, ?_, a8, fun k hk => ?_, ?_, ?_, ((a12.a (Or.inr rfl)).s (by decide) (by decide) (by decide)).s (by decide) (by decide) (by decide)⟩
  · show σ.1 29 + 1 = _
    rw [a1]
    exact ni_add _ 1
  · show σ.1 35 + 1 = _
    rw [a7, List.length_append]
    exact ni_add _ 1
  · rw [List.length_append] at hk
    have hk : k < w.length + 1 := hk
    show upd (σ.2 22) (σ.1 35).toNatClampNeg (nI x) k = _
    rw [a7, ni_c (by omega)]
    unfold upd
    by_cases hkc : k = w.length
    · rw [if_pos hkc, hkc, gD_s]
    · rw [if_neg hkc, gD_l (by omega)]
      exact a9 k (by omega)
  · rw [List.length_append]
    show w.length + 1 ≤ p + 1
    omega
  · intro y hy
    rw [List.mem_append, List.mem_singleton] at hy
    rcases hy with hy | rfl
    · exact a11 y hy
    · exact hx
/-- an error's end -/
def mE (σ0 : MS) (e : Nat × Nat) (X : Option (Int32 × MS)) : Prop := ∃ σ', X = some (0, σ') ∧ σ'.1 31 = flt e ∧ Mf σ0 σ'
theorem mE.w {σ0 σ : MS} {e : Nat × Nat} (h : Mf σ0 σ) : mE σ0 e (some (0, sS σ 31 (flt e))) := ⟨_, rfl, rfl, h.s (by decide) (by decide) (by decide)⟩
theorem Mq.opens {σ0 σ : MS} {L p o x : Nat} {c w : List Nat} (h : Mq σ0 L σ p c w o) (hp : p < L) (ho : o ≤ 6) (hx : x < 16) {F : Nat} : (o = 6 ∧ mE σ0 (5, p) (m_opens F (nI x) σ)) ∨ (o < 6 ∧ ∃ σ', m_opens F (nI x) σ = some (1, σ') ∧ Mq σ0 L σ' (p + 1) c (w ++ [1048576 * x]) (o + 1)) := by
  have hL := h.L0
  have hw := h.wp
  by_cases h6 : o = 6
  · subst h6
    refine Or.inl ⟨rfl, ?_⟩
    unfold m_opens
    rw [h.s33, if_pos (by rfl), h.1]
    exact mE.w h.fr
  · refine Or.inr ⟨by omega, sS (sS (sA (sS σ 33 (σ.1 33 + 1)) 22 ((sS σ 33 (σ.1 33 + 1)).1 35).toNatClampNeg (nI (1048576 * x))) 35 ((sS σ 33 (σ.1 33 + 1)).1 35 + 1)) 29 ((sS σ 33 (σ.1 33 + 1)).1 29 + 1), ?_, ?_⟩
    · unfold m_opens
      have e6 : ¬ σ.1 33 = 6 := by
        rw [h.s33]
        exact fun e => h6 (ni_inj (b := 6) (by omega) (by omega) e)
      have e35 : okI ((sS σ 33 (σ.1 33 + 1)).1 35) 180 = true := by
        show okI (σ.1 35) 180 = true
        rw [h.s35]
        exact okI_nI (by omega) (by omega)
      have eU : (1048576 : Int32) * nI x = nI (1048576 * x) := ni_mul 1048576 x
      rw [if_neg e6, nx_e, if_pos e35, eU]
      rfl
    · have h' : Mq σ0 L (sS σ 33 (σ.1 33 + 1)) p c w (o + 1) := by
        obtain ⟨a1, a2, a3, a4, a5, a6, a7, a8, a9, a10, a11, a12⟩ := h
        refine ⟨a1, a2, a3, a4, ?_, a6, a7, a8, a9, a10, a11, a12.s (by decide) (by decide) (by decide)⟩
        show σ.1 33 + 1 = _
        rw [a5]
        exact ni_add _ 1
      exact h'.push hp (by omega)
/-! closing sums -/
/-- the top of the waits is not a sum's sign of a's class (4: products; 2: all) -/
def tpo (w : List Nat) (a : Nat) : Prop := w = [] ∨ ∃ w' x, w = w' ++ [x] ∧ x < 16777216 ∧ ¬ (a ≤ x / 1048576 ∧ x / 1048576 ≤ 6)
def sgs (a : Nat) (r : List Nat) : Prop := ∀ x ∈ r, ∃ op, x = 1048576 * op ∧ a ≤ op ∧ op ≤ 6
theorem m_clos {F L p o a : Nat} {x1 : Int32} {σ0 : MS} {w : List Nat} (ha : (a = 4 ∧ x1 = 0) ∨ (a = 2 ∧ x1 = 1)) (ht : tpo w a) : ∀ (r c : List Nat) (σ : MS) (fu : Nat), r.length < fu → sgs a r → Mq σ0 L σ p c (w ++ r.reverse) o → c.length + r.length ≤ p → ∃ σ', lp (m_closesSums_B0 F x1) fu σ = some (0, σ') ∧ Mq σ0 L σ' p (c ++ r) w o := by
  intro r
  induction r with
  | nil =>
    intro c σ fu hf _ h _
    obtain ⟨fu, rfl⟩ : ∃ f, fu = f + 1 := ⟨fu - 1, by omega⟩
    rw [List.reverse_nil, List.append_nil] at h
    refine ⟨σ, ?_, by rw [List.append_nil]; exact h⟩
    rw [lp_s]
    simp only [m_closesSums_B0, m_closesSums_17, h.top, ob_s]
    rcases ht with rfl | ⟨w', x, rfl, hx, hn⟩
    · rw [tp_n, if_pos (by decide)]
      rcases ha with ⟨_, rfl⟩ | ⟨_, rfl⟩
      · rw [if_pos rfl]
      · rw [if_neg (by decide), if_neg (by decide), if_neg (by decide)]
    · rw [tp_s]
      have hk : x / 1048576 < 16 := by omega
      generalize x / 1048576 = k at hn hk
      have e4 : (nI k < 4) = (k < 4) := propext (ni_lt (b := 4) (by omega) (by omega))
      have e6 : (nI k ≤ 6) = (k ≤ 6) := propext (ni_le (b := 6) (by omega) (by omega))
      have e2 : (nI k = 2) = (k = 2) := ni_ii (b := 2) (by omega) (by omega)
      have e3 : (nI k = 3) = (k = 3) := ni_ii (b := 3) (by omega) (by omega)
      simp only [e4, e6, e2, e3]
      rcases ha with ⟨rfl, rfl⟩ | ⟨rfl, rfl⟩
      · by_cases h4 : k < 4
        · rw [if_pos h4, if_pos rfl]
        · rw [if_neg h4, if_neg (by omega), if_pos rfl]
      · by_cases h4 : k < 4
        · rw [if_pos h4, if_neg (by decide), if_neg (by omega), if_neg (by omega)]
        · rw [if_neg h4, if_neg (by omega), if_neg (by decide), if_neg (by omega), if_neg (by omega)]
  | cons x r ih =>
    intro c σ fu hf hs h hc
    obtain ⟨fu, rfl⟩ : ∃ f, fu = f + 1 := ⟨fu - 1, by omega⟩
    obtain ⟨op, rfl, h1, h2⟩ := hs x (by simp)
    have hlen : (1048576 * op :: r).length = r.length + 1 := rfl
    rw [hlen] at hf hc
    rw [List.reverse_cons, ← List.append_assoc] at h
    have eU : 1048576 * nI op + 0 = nI (1048576 * op) := by
      rw [show (1048576 : Int32) = nI 1048576 from rfl, ni_mul]
      simp
    obtain ⟨σ1, g1, g2⟩ := h.says (F := F) (x1 := nI op) (x2 := 0) (by omega) eU
    have g3 := g2.pop
    obtain ⟨σ', g4, g5⟩ := ih (c ++ [1048576 * op]) _ fu (by omega) (fun y hy => hs y (by simp [hy])) g3 (by rw [List.length_append]; show c.length + 1 + r.length ≤ p; omega)
    refine ⟨σ', ?_, by rw [List.append_assoc] at g5; exact g5⟩
    rw [← g4, lp_s]
    generalize lp (m_closesSums_B0 F x1) fu = RR
    have ht2 : tp (w ++ r.reverse ++ [1048576 * op]) = nI op := by rw [tp_s]; congr 1; omega
    simp only [m_closesSums_B0, m_closesSums_17, m_closesSums_37, h.top, ob_s, ht2, g1, nx_e]
    have e4 : (nI op < 4) = (op < 4) := propext (ni_lt (b := 4) (by omega) (by omega))
    have e6 : (nI op ≤ 6) = (op ≤ 6) := propext (ni_le (b := 6) (by omega) (by omega))
    have e2 : (nI op = 2) = (op = 2) := ni_ii (b := 2) (by omega) (by omega)
    have e3 : (nI op = 3) = (op = 3) := ni_ii (b := 3) (by omega) (by omega)
    simp only [e4, e6, e2, e3]
    rcases ha with ⟨rfl, rfl⟩ | ⟨rfl, rfl⟩
    · rw [if_neg (by omega), if_pos h2]
    · by_cases h4 : op < 4
      · rw [if_pos h4, if_neg (by decide)]
        by_cases ho : op = 2
        · rw [if_pos ho]
        · rw [if_neg ho, if_pos (by omega)]
      · rw [if_neg h4, if_pos h2]
/-! is a bracket open in this sum -/
theorem m_hos {F L p o : Nat} {σ0 σ : MS} {c w : List Nat} (h : Mq σ0 L σ p c w o) : ∀ (j k fu : Nat), k + j = w.length → j < fu → ((∃ x ∈ w.drop k, x / 1048576 = 14) → lp (m_hasOpenSum_B2 F) fu (nI k, σ) = some (1, σ)) ∧ ((∀ x ∈ w.drop k, x / 1048576 ≠ 14) → lp (m_hasOpenSum_B2 F) fu (nI k, σ) = some (0, σ)) := by
  have hw := h.wp
  have hp := h.pL
  have hL := h.L0
  intro j
  induction j with
  | zero =>
    intro k fu hk hf
    obtain ⟨fu, rfl⟩ : ∃ f, fu = f + 1 := ⟨fu - 1, by omega⟩
    have hd : w.drop k = [] := List.drop_eq_nil_of_le (by omega)
    rw [hd]
    refine ⟨fun ⟨x, hx, _⟩ => absurd hx (by simp), fun _ => ?_⟩
    rw [lp_s]
    simp only [m_hasOpenSum_B2]
    rw [h.s35, if_pos ((ni_le (by omega) (by omega)).mpr (by omega))]
  | succ j ih =>
    intro k fu hk hf
    obtain ⟨fu, rfl⟩ : ∃ f, fu = f + 1 := ⟨fu - 1, by omega⟩
    have hkl : k < w.length := by omega
    have hd : w.drop k = w[k] :: w.drop (k + 1) := List.drop_eq_getElem_cons hkl
    obtain ⟨i1, i2⟩ := ih (k + 1) fu (by omega) (by omega)
    have hg : w.getD k 0 = w[k] := by rw [List.getD_eq_getElem?_getD, List.getElem?_eq_getElem hkl]; rfl
    have hb := h.wb w[k] (List.getElem_mem hkl)
    have hst : ∀ RR : Int32 × MS → Option (Int32 × MS), m_hasOpenSum_B2 F RR (nI k, σ) = if w[k] / 1048576 = 14 then some (1, σ) else RR (nI (k + 1), σ) := by
      intro RR
      simp only [m_hasOpenSum_B2]
      rw [h.s35, if_neg (fun e => absurd ((ni_le (by omega) (by omega)).mp e) (by omega)), if_pos (okI_nI (by omega) (by omega)), ni_c (by omega), h.ws k hkl, hg, ni_U hb]
      have e14 : (nI (w[k] / 1048576) = 14) = (w[k] / 1048576 = 14) := ni_ii (b := 14) (by omega) (by omega)
      have e1 : nI k + 1 = nI (k + 1) := ni_add k 1
      simp only [e14, e1]
    rw [lp_s, hst, hd]
    refine ⟨fun ⟨x, hx, hx2⟩ => ?_, fun hx => ?_⟩
    · by_cases hk14 : w[k] / 1048576 = 14
      · rw [if_pos hk14]
      · rw [if_neg hk14]
        rw [List.mem_cons] at hx
        rcases hx with rfl | hx
        · exact absurd hx2 hk14
        · exact i1 ⟨x, hx, hx2⟩
    · rw [if_neg (hx _ (List.mem_cons_self ..))]
      exact i2 (fun y hy => hx y (List.mem_cons_of_mem _ hy))
