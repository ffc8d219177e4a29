/-! the reference's codes answer what the spec says -/
noncomputable def mKT : Int32 × Int32 × MS → Option (Int32 × MS) := fun a1 => if a1.1 = 0 then (some (1, a1.2.2)) else (if okI 0 180 = true then if (a1.2.2.2 38 (0 : Int32).toNatClampNeg) = 1 then (some (1, a1.2.2)) else (some (0, a1.2.2)) else none)
noncomputable def mT (F x i fu n k : Nat) (σ : MS) : Option (Int32 × MS) := lp (m_isTrue_B19 F mKT (nI x) (nI (180 * i))) fu (nI n, nI k, σ)
theorem sT_sT (σ : MS) (a b : Nat → Int32) : sT (sT σ a) b = sT σ b := by
  refine Prod.ext rfl (funext fun j => ?_)
  show (if j = 38 then b else if j = 38 then a else σ.2 j) = if j = 38 then b else σ.2 j
  by_cases h : j = 38
  · rw [if_pos h, if_pos h]
  · rw [if_neg h, if_neg h, if_neg h]
theorem mT_s {F x i fu n k e w : Nat} {σ : MS} (hx : x < 200) (he : σ.2 34 x = nI e) (hk : k < e) (he2 : e ≤ 3600) (hw : σ.2 28 k = nI w) (hwb : w < 16777216) : mT F x i (fu + 1) n k σ =
    (fun (R : Int32 × Int32 × MS → Option (Int32 × MS)) => if w / 1048576 = 0 then (m_isTrue_73 F mKT R (nI x) (nI n) (nI (180 * i)) (nI (k + 1)) (nI (w / 1048576)) (nI (w % 1048576)) σ) else (if w / 1048576 = 1 then (m_isTrue_73 F mKT R (nI x) (nI n) (nI (180 * i)) (nI (k + 1)) (nI (w / 1048576)) (nI (w % 1048576)) σ) else (if w / 1048576 = 10 then (if okI (nI n - 1) 180 = true then if okI (nI n - 1) 180 = true then nx (sA σ 38 (nI n - 1).toNatClampNeg (1 - (σ.2 38 (nI n - 1).toNatClampNeg))) (fun σ1 => R (nI n, nI (k + 1), σ1)) else none else none) else (if w / 1048576 = 11 then (m_isTrue_145 F mKT R (nI x) (nI n) (nI (180 * i)) (nI (k + 1)) (nI (w / 1048576)) (nI (w % 1048576)) σ) else (if w / 1048576 = 12 then (m_isTrue_145 F mKT R (nI x) (nI n) (nI (180 * i)) (nI (k + 1)) (nI (w / 1048576)) (nI (w % 1048576)) σ) else (if w / 1048576 = 5 then (m_isTrue_201 F mKT R (nI x) (nI n - 1) (nI (180 * i)) (nI (k + 1)) (nI (w / 1048576)) σ) else (if w / 1048576 = 6 then (m_isTrue_201 F mKT R (nI x) (nI n - 1) (nI (180 * i)) (nI (k + 1)) (nI (w / 1048576)) σ) else (m_isTrue_212 F mKT R (nI x) (nI n - 1) (nI (180 * i)) (nI (k + 1)) (nI (w / 1048576)) σ)))))))) (fun a => lp (m_isTrue_B19 F mKT (nI x) (nI (180 * i))) fu a) := by
  unfold mT
  rw [lp_s]
  generalize lp (m_isTrue_B19 F mKT (nI x) (nI (180 * i))) fu = R
  simp only [m_isTrue_B19]
  rw [if_pos (okI_nI hx (by omega)), ni_c (by omega), he, if_neg (fun e => absurd ((ni_le (by omega) (by omega)).mp e) (by omega)), if_pos (okI_nI (by omega) (by omega)), ni_c (by omega), hw, ni_U hwb, nx_e, if_pos (okI_nI (by omega) (by omega)), ni_V hwb, nx_e]
  have e0 : (nI (w / 1048576) = 0) = (w / 1048576 = 0) := ni_ii (b := 0) (by omega) (by omega)
  have e1 : (nI (w / 1048576) = 1) = (w / 1048576 = 1) := ni_ii (b := 1) (by omega) (by omega)
  have e10 : (nI (w / 1048576) = 10) = (w / 1048576 = 10) := ni_ii (b := 10) (by omega) (by omega)
  have e11 : (nI (w / 1048576) = 11) = (w / 1048576 = 11) := ni_ii (b := 11) (by omega) (by omega)
  have e12 : (nI (w / 1048576) = 12) = (w / 1048576 = 12) := ni_ii (b := 12) (by omega) (by omega)
  have e5 : (nI (w / 1048576) = 5) = (w / 1048576 = 5) := ni_ii (b := 5) (by omega) (by omega)
  have e6 : (nI (w / 1048576) = 6) = (w / 1048576 = 6) := ni_ii (b := 6) (by omega) (by omega)
  have ek : nI k + 1 = nI (k + 1) := ni_add k 1
  simp only [e0, e1, e10, e11, e12, e5, e6, ek]
section
variable {F x i fu n k e : Nat} {σ : MS}
theorem mT_num {v : Nat} (hx : x < 200) (he : σ.2 34 x = nI e) (hk : k < e) (he2 : e ≤ 3600) (hw : σ.2 28 k = nI v) (hv : v < 1048576) (hn : n < 180) : mT F x i (fu + 1) n k σ = mT F x i fu (n + 1) (k + 1) (sT σ (upd (σ.2 38) n (nI v))) := by
  rw [mT_s hx he hk he2 hw (by omega)]
  have e1 : v / 1048576 = 0 := by omega
  have e2 : v % 1048576 = v := by omega
  simp only [e1, e2, if_true, m_isTrue_73]
  rw [if_pos (by rfl), if_pos (okI_nI hn (by omega)), ni_c (by omega), nx_e, show nI n + 1 = nI (n + 1) from ni_add n 1]
  rfl
theorem mT_let {j : Nat} (hx : x < 200) (he : σ.2 34 x = nI e) (hk : k < e) (he2 : e ≤ 3600) (hw : σ.2 28 k = nI (1048576 + j)) (hj : j < 5) (hn : n < 180) : mT F x i (fu + 1) n k σ = mT F x i fu (n + 1) (k + 1) (sT σ (upd (σ.2 38) n (σ.2 39 j))) := by
  rw [mT_s hx he hk he2 hw (by omega)]
  have e1 : (1048576 + j) / 1048576 = 1 := by omega
  have e2 : (1048576 + j) % 1048576 = j := by omega
  simp only [e1, e2, m_isTrue_73]
  rw [if_neg (by decide), if_pos trivial, if_neg (by decide), if_pos (okI_nI hj (by omega)), if_pos (okI_nI hn (by omega)), ni_c (by omega), ni_c (by omega), nx_e, show nI n + 1 = nI (n + 1) from ni_add n 1]
  rfl
theorem mT_not (hx : x < 200) (he : σ.2 34 x = nI e) (hk : k < e) (he2 : e ≤ 3600) (hw : σ.2 28 k = nI 10485760) (hn : n < 180) : mT F x i (fu + 1) (n + 1) k σ = mT F x i fu (n + 1) (k + 1) (sT σ (upd (σ.2 38) n (1 - σ.2 38 n))) := by
  rw [mT_s hx he hk he2 hw (by omega)]
  simp only [show 10485760 / 1048576 = 10 from rfl]
  rw [if_neg (by decide), if_neg (by decide), if_pos trivial, ni_pre, if_pos (okI_nI hn (by omega)), if_pos (okI_nI hn (by omega)), ni_c (by omega), nx_e]
  rfl
theorem mT_jmp {op t : Nat} (hop : op = 11 ∨ op = 12) (hx : x < 200) (he : σ.2 34 x = nI e) (hk : k < e) (he2 : e ≤ 3600) (hw : σ.2 28 k = nI (1048576 * op + t)) (ht : t < 1048576) (hn : n < 180) : mT F x i (fu + 1) (n + 1) k σ = if σ.2 38 n = (if op = 12 then 1 else 0) then mT F x i fu (n + 1) (180 * i + t) σ else mT F x i fu n (k + 1) σ := by
  rw [mT_s hx he hk he2 hw (by omega)]
  have e1 : (1048576 * op + t) / 1048576 = op := by omega
  have e2 : (1048576 * op + t) % 1048576 = t := by omega
  have h145 : ∀ R, m_isTrue_145 F mKT R (nI x) (nI (n + 1)) (nI (180 * i)) (nI (k + 1)) (nI op) (nI t) σ = if σ.2 38 n = (if op = 12 then 1 else 0) then R (nI (n + 1), nI (180 * i + t), σ) else R (nI n, nI (k + 1), σ) := by
    intro R
    simp only [m_isTrue_145, m_isTrue_165]
    rw [ni_pre, if_pos (okI_nI hn (by omega)), ni_c (by omega), ni_add]
    rcases hop with rfl | rfl
    · rw [if_neg (show ¬ nI 11 = 12 by decide), if_neg (show ¬ (11 : Nat) = 12 by decide)]
    · rw [if_pos (show nI 12 = 12 from rfl), if_pos rfl]
  rcases hop with rfl | rfl
  · simp only [e1, e2, h145]
    rw [if_neg (by decide), if_neg (by decide), if_neg (by decide), if_pos trivial]
    rfl
  · simp only [e1, e2, h145]
    rw [if_neg (by decide), if_neg (by decide), if_neg (by decide), if_neg (by decide), if_pos trivial]
    rfl
/-- two values and a sign -/
def rk (op : Nat) (a b : Int32) : Option Int32 := if op = 2 then some (a + b) else if op = 3 then some (a - b) else if op = 4 then some (a * b) else if op = 5 then (if b = 0 then none else some (a / b)) else if op = 6 then (if b = 0 then none else some (jrem a b)) else some (if op = 7 then bI (a < b) else if op = 8 then bI (b < a) else bI (a = b))
theorem mT_op {op : Nat} (h2 : 2 ≤ op) (h9 : op ≤ 9) (hx : x < 200) (he : σ.2 34 x = nI e) (hk : k < e) (he2 : e ≤ 3600) (hw : σ.2 28 k = nI (1048576 * op)) (hn : n + 1 < 180) : mT F x i (fu + 1) (n + 2) k σ = match rk op (σ.2 38 n) (σ.2 38 (n + 1)) with
    | none => some (0, σ)
    | some v => mT F x i fu (n + 1) (k + 1) (sT σ (upd (σ.2 38) n v)) := by
  rw [mT_s hx he hk he2 hw (by omega)]
  have e1 : (1048576 * op) / 1048576 = op := by omega
  have hn2 : nI (n + 2) - 1 = nI (n + 1) := ni_pre (n + 1)
  have h212 : ∀ R v, m_reckon F (nI op) (σ.2 38 n) (σ.2 38 (n + 1)) = some v → m_isTrue_212 F mKT R (nI x) (nI (n + 1)) (nI (180 * i)) (nI (k + 1)) (nI op) σ = R (nI (n + 1), nI (k + 1), sT σ (upd (σ.2 38) n v)) := by
    intro R v hv
    simp only [m_isTrue_212]
    rw [ni_pre, if_pos (okI_nI (by omega) (by omega)), if_pos (okI_nI hn (by omega)), ni_c (by omega), ni_c (by omega), hv]
    simp only [ob_s]
    rw [if_pos (okI_nI (by omega) (by omega)), nx_e]
    rfl
  have h201 : ∀ R, m_isTrue_201 F mKT R (nI x) (nI (n + 1)) (nI (180 * i)) (nI (k + 1)) (nI op) σ = if σ.2 38 (n + 1) = 0 then some (0, σ) else m_isTrue_212 F mKT R (nI x) (nI (n + 1)) (nI (180 * i)) (nI (k + 1)) (nI op) σ := by
    intro R
    simp only [m_isTrue_201]
    rw [if_pos (okI_nI hn (by omega)), ni_c (by omega)]
  simp only [e1, hn2]
  rw [if_neg (by omega), if_neg (by omega), if_neg (by omega), if_neg (by omega), if_neg (by omega)]
  have lt_le : ∀ a b : Int32, (a ≤ b) = ¬ (b < a) := by
    intro a b
    rw [Int32.le_iff_toInt_le, Int32.lt_iff_toInt_lt]
    exact propext (by omega)
  rcases (by omega : op = 2 ∨ op = 3 ∨ op = 4 ∨ op = 5 ∨ op = 6 ∨ op = 7 ∨ op = 8 ∨ op = 9) with rfl | rfl | rfl | rfl | rfl | rfl | rfl | rfl
  · rw [if_neg (by decide), if_neg (by decide), h212 _ (σ.2 38 n + σ.2 38 (n + 1)) (by unfold m_reckon; rw [if_pos (by rfl)])]
    rfl
  · rw [if_neg (by decide), if_neg (by decide), h212 _ (σ.2 38 n - σ.2 38 (n + 1)) (by unfold m_reckon; rw [if_neg (by decide), if_pos (by rfl)])]
    rfl
  · rw [if_neg (by decide), if_neg (by decide), h212 _ (σ.2 38 n * σ.2 38 (n + 1)) (by unfold m_reckon; rw [if_neg (by decide), if_neg (by decide), if_pos (by rfl)])]
    rfl
  · rw [if_pos rfl, h201]
    have hr : rk 5 (σ.2 38 n) (σ.2 38 (n + 1)) = if σ.2 38 (n + 1) = 0 then none else some (σ.2 38 n / σ.2 38 (n + 1)) := rfl
    rw [hr]
    by_cases h0 : σ.2 38 (n + 1) = 0
    · rw [if_pos h0, if_pos h0]
    · rw [if_neg h0, if_neg h0, h212 _ (σ.2 38 n / σ.2 38 (n + 1)) (by unfold m_reckon; rw [if_neg (by decide), if_neg (by decide), if_neg (by decide), if_pos (by rfl), if_pos h0])]
      rfl
  · rw [if_neg (by decide), if_pos rfl, h201]
    have hr : rk 6 (σ.2 38 n) (σ.2 38 (n + 1)) = if σ.2 38 (n + 1) = 0 then none else some (jrem (σ.2 38 n) (σ.2 38 (n + 1))) := rfl
    rw [hr]
    by_cases h0 : σ.2 38 (n + 1) = 0
    · rw [if_pos h0, if_pos h0]
    · rw [if_neg h0, if_neg h0, h212 _ (jrem (σ.2 38 n) (σ.2 38 (n + 1))) (by unfold m_reckon; rw [if_neg (by decide), if_neg (by decide), if_neg (by decide), if_neg (by decide), if_pos (by rfl), if_pos h0])]
      rfl
  · rw [if_neg (by decide), if_neg (by decide), h212 _ (bI (σ.2 38 n < σ.2 38 (n + 1))) (by
      unfold m_reckon bI
      rw [if_neg (by decide), if_neg (by decide), if_neg (by decide), if_neg (by decide), if_neg (by decide), if_pos (by rfl)]
      simp only [lt_le]
      by_cases hc : σ.2 38 n < σ.2 38 (n + 1)
      · rw [if_neg (fun e => e hc), if_pos hc]
      · rw [if_pos hc, if_neg hc])]
    rfl
  · rw [if_neg (by decide), if_neg (by decide), h212 _ (bI (σ.2 38 (n + 1) < σ.2 38 n)) (by
      unfold m_reckon bI
      rw [if_neg (by decide), if_neg (by decide), if_neg (by decide), if_neg (by decide), if_neg (by decide), if_neg (by decide), if_pos (by rfl)]
      simp only [lt_le]
      by_cases hc : σ.2 38 (n + 1) < σ.2 38 n
      · rw [if_neg (fun e => e hc), if_pos hc]
      · rw [if_pos hc, if_neg hc])]
    rfl
  · rw [if_neg (by decide), if_neg (by decide), h212 _ (bI (σ.2 38 n = σ.2 38 (n + 1))) (by
      unfold m_reckon bI
      rw [if_neg (by decide), if_neg (by decide), if_neg (by decide), if_neg (by decide), if_neg (by decide), if_neg (by decide), if_neg (by decide)]
      by_cases hc : σ.2 38 n = σ.2 38 (n + 1)
      · rw [if_pos hc, if_pos hc]
      · rw [if_neg hc, if_neg hc])]
    rfl
end
/-- the codes lie at s in rule i's room -/
def Cd (σ : MS) (i s : Nat) (c : List Nat) : Prop := ∀ k, k < c.length → σ.2 28 (180 * i + s + k) = nI (c.getD k 0)
theorem Cd.l {σ : MS} {i s : Nat} {a b : List Nat} (h : Cd σ i s (a ++ b)) : Cd σ i s a := by
  intro k hk
  have := h k (by rw [List.length_append]; omega)
  rw [this, List.getD_eq_getElem?_getD, List.getElem?_append_left hk, ← List.getD_eq_getElem?_getD]
theorem Cd.r {σ : MS} {i s : Nat} {a b : List Nat} (h : Cd σ i s (a ++ b)) : Cd σ i (s + a.length) b := by
  intro k hk
  have := h (a.length + k) (by rw [List.length_append]; omega)
  rw [show 180 * i + (s + a.length) + k = 180 * i + s + (a.length + k) from by omega, this, List.getD_eq_getElem?_getD, List.getElem?_append_right (by omega), ← List.getD_eq_getElem?_getD]
  congr 2
  omega
theorem Cd.h {σ : MS} {i s x : Nat} {b : List Nat} (h : Cd σ i s (x :: b)) : σ.2 28 (180 * i + s) = nI x := h 0 (Nat.succ_pos _)
theorem Cd.t {σ : MS} {i s x : Nat} {b : List Nat} (h : Cd σ i s (x :: b)) : Cd σ i (s + 1) b := Cd.r (a := [x]) h
def EvM (i s : Nat) (c : List Nat) (u : sD) : Prop := ∀ (F x n fu e : Nat) (σ : MS), x < 200 → i < 20 → σ.2 34 x = nI e → Cd σ i s c → 180 * i + s + c.length ≤ e → e ≤ 180 * i + 180 → n + c.length < 180 → c.length < fu →
  match u (σ.2 39) with
  | none => ∃ st, mT F x i fu n (180 * i + s) σ = some (0, sT σ st)
  | some v => ∃ st fu', mT F x i fu n (180 * i + s) σ = mT F x i fu' (n + 1) (180 * i + s + c.length) (sT σ st) ∧ st n = v ∧ (∀ k, k < n → st k = σ.2 38 k) ∧ fu ≤ fu' + c.length
theorem upd_at {f : Nat → Int32} {k : Nat} {v : Int32} : upd f k v k = v := if_pos rfl
theorem upd_lt {f : Nat → Int32} {k j : Nat} {v : Int32} (h : j < k) : upd f k v j = f j := if_neg (by omega)
theorem ev_num {i s v : Nat} (hv : v < 1048576) : EvM i s [v] (fun _ => some (nI v)) := by
  intro F x n fu e σ hx hi he hc hl hl2 hn hf
  have hn : n + 1 < 180 := hn
  have hl : 180 * i + s + 1 ≤ e := hl
  have hf : 1 < fu := hf
  obtain ⟨fu, rfl⟩ : ∃ f, fu = f + 1 := ⟨fu - 1, by omega⟩
  exact ⟨_, fu, mT_num hx he (by omega) (by omega) hc.h hv (by omega), upd_at, fun k hk => upd_lt hk, Nat.le_refl _⟩
theorem ev_let {i s j : Nat} (hj : j < 5) : EvM i s [1048576 + j] (fun f => some (f j)) := by
  intro F x n fu e σ hx hi he hc hl hl2 hn hf
  have hn : n + 1 < 180 := hn
  have hl : 180 * i + s + 1 ≤ e := hl
  have hf : 1 < fu := hf
  obtain ⟨fu, rfl⟩ : ∃ f, fu = f + 1 := ⟨fu - 1, by omega⟩
  exact ⟨_, fu, mT_let hx he (by omega) (by omega) hc.h hj (by omega), upd_at, fun k hk => upd_lt hk, Nat.le_refl _⟩
theorem ev_bin {i s op : Nat} {a b : List Nat} {u u' w : sD} (h2 : 2 ≤ op) (h9 : op ≤ 9) (ha : EvM i s a u) (hb : EvM i (s + a.length) b u') (hw : ∀ f, w f = (u f).bind fun x => (u' f).bind fun y => rk op x y) : EvM i s (a ++ (b ++ [1048576 * op])) w := by
  intro F x n fu e σ hx hi he hc hl hl2 hn hf
  have hlen : (a ++ (b ++ [1048576 * op])).length = a.length + (b.length + 1) := by simp
  rw [hlen] at hl hn hf ⊢
  have h1 := ha F x n fu e σ hx hi he hc.l (by omega) hl2 (by omega) (by omega)
  rw [hw]
  revert h1
  cases u (σ.2 39) with
  | none => exact id
  | some v1 =>
    intro ⟨st1, fu1, e1, s1, t1, f1⟩
    have h2 := hb F x (n + 1) fu1 e (sT σ st1) hx hi he hc.r.l (by omega) hl2 (by omega) (by omega)
    have h39 : (sT σ st1).2 39 = σ.2 39 := rfl
    rw [h39] at h2
    simp only [ob_s]
    revert h2
    cases u' (σ.2 39) with
    | none =>
      intro ⟨st2, e2⟩
      refine ⟨st2, ?_⟩
      rw [e1, show 180 * i + s + a.length = 180 * i + (s + a.length) from by omega, e2, sT_sT]
    | some v2 =>
      intro ⟨st2, fu2, e2, s2, t2, f2⟩
      rw [sT_sT] at e2
      obtain ⟨fu2, rfl⟩ : ∃ f, fu2 = f + 1 := ⟨fu2 - 1, by omega⟩
      have e3 := mT_op (F := F) (i := i) (fu := fu2) (n := n) (σ := sT σ st2) h2 h9 hx he (k := 180 * i + (s + a.length) + b.length) (by omega) (by omega) (by
        have := hc.r.r.h
        rw [show 180 * i + (s + a.length + b.length) = 180 * i + (s + a.length) + b.length from by omega] at this
        exact this) (by omega)
      have s38 : (sT σ st2).2 38 = st2 := rfl
      rw [s38, t2 n (by omega), show (sT σ st1).2 38 n = st1 n from rfl, s1, s2] at e3
      simp only [ob_s]
      revert e3
      cases rk op v1 v2 with
      | none =>
        intro e3
        refine ⟨st2, ?_⟩
        rw [e1, show 180 * i + s + a.length = 180 * i + (s + a.length) from by omega, e2]
        exact e3
      | some v =>
        intro e3
        refine ⟨upd st2 n v, fu2, ?_, upd_at, fun k hk => ?_, by omega⟩
        · rw [e1, show 180 * i + s + a.length = 180 * i + (s + a.length) from by omega, e2]
          refine e3.trans ?_
          show mT F x i fu2 (n + 1) (180 * i + (s + a.length) + b.length + 1) (sT (sT σ st2) (upd st2 n v)) = _
          rw [sT_sT, show 180 * i + (s + a.length) + b.length + 1 = 180 * i + s + (a.length + (b.length + 1)) from by omega]
        · rw [upd_lt hk, t2 k (by omega)]
          exact t1 k hk
theorem ev_not {i s : Nat} {a : List Nat} {u : sD} (ha : EvM i s a u) : EvM i s (a ++ [10485760]) (ntd u) := by
  intro F x n fu e σ hx hi he hc hl hl2 hn hf
  have hlen : (a ++ [10485760]).length = a.length + 1 := by simp
  rw [hlen] at hl hn hf ⊢
  have h1 := ha F x n fu e σ hx hi he hc.l (by omega) hl2 (by omega) (by omega)
  unfold ntd
  revert h1
  cases u (σ.2 39) with
  | none => exact id
  | some v1 =>
    intro ⟨st1, fu1, e1, s1, t1, f1⟩
    obtain ⟨fu1, rfl⟩ : ∃ f, fu1 = f + 1 := ⟨fu1 - 1, by omega⟩
    have e3 := mT_not (F := F) (i := i) (fu := fu1) (n := n) (σ := sT σ st1) hx he (k := 180 * i + s + a.length) (by omega) (by omega) (by
      have := hc.r.h
      rw [show 180 * i + (s + a.length) = 180 * i + s + a.length from by omega] at this
      exact this) (by omega)
    have s38 : (sT σ st1).2 38 = st1 := rfl
    rw [s38, s1, sT_sT] at e3
    exact ⟨upd st1 n (1 - v1), fu1, e1.trans e3, upd_at, fun k hk => (upd_lt hk).trans (t1 k hk), by omega⟩
theorem ev_jmp {i s op : Nat} {a b : List Nat} {u u' : sD} (hop : op = 11 ∨ op = 12) (ha : EvM i s a u) (hb : EvM i (s + a.length + 1) b u') : EvM i s (a ++ ((1048576 * op + (s + a.length + 1 + b.length)) :: b)) (jd op u u') := by
  intro F x n fu e σ hx hi he hc hl hl2 hn hf
  have hlen : (a ++ ((1048576 * op + (s + a.length + 1 + b.length)) :: b)).length = a.length + (b.length + 1) := by simp
  rw [hlen] at hl hn hf ⊢
  have h1 := ha F x n fu e σ hx hi he hc.l (by omega) hl2 (by omega) (by omega)
  unfold jd
  revert h1
  cases u (σ.2 39) with
  | none => exact id
  | some v1 =>
    intro ⟨st1, fu1, e1, s1, t1, f1⟩
    obtain ⟨fu1, rfl⟩ : ∃ f, fu1 = f + 1 := ⟨fu1 - 1, by omega⟩
    have e3 := mT_jmp (F := F) (i := i) (fu := fu1) (n := n) (σ := sT σ st1) (t := s + a.length + 1 + b.length) hop hx he (k := 180 * i + s + a.length) (by omega) (by omega) (by
      have := hc.r.h
      rw [show 180 * i + (s + a.length) = 180 * i + s + a.length from by omega] at this
      exact this) (by omega) (by omega)
    have s38 : (sT σ st1).2 38 n = v1 := s1
    rw [s38] at e3
    simp only [ob_s]
    by_cases hv : v1 = (if op = 12 then 1 else 0)
    · rw [if_pos hv] at e3 ⊢
      refine ⟨st1, fu1, ?_, s1, t1, by omega⟩
      rw [e1, e3]
      congr 1
      omega
    · rw [if_neg hv] at e3 ⊢
      have h2 := hb F x n fu1 e (sT σ st1) hx hi he hc.r.t (by omega) hl2 (by omega) (by omega)
      have h39 : (sT σ st1).2 39 = σ.2 39 := rfl
      rw [h39, show 180 * i + (s + a.length + 1) = 180 * i + s + a.length + 1 from by omega] at h2
      revert h2
      cases u' (σ.2 39) with
      | none =>
        intro ⟨st2, e2⟩
        refine ⟨st2, ?_⟩
        rw [e1, e3, e2, sT_sT]
      | some v2 =>
        intro ⟨st2, fu2, e2, s2, t2, f2⟩
        refine ⟨st2, fu2, ?_, s2, fun k hk => (t2 k hk).trans (t1 k hk), by omega⟩
        rw [e1, e3, e2, sT_sT]
        congr 1
        omega
/-- what the spec reads has codes that answer its worth -/
def sEv (i s : Nat) (r : sE) : Prop := match r with
  | .inl _ => True
  | .inr (_, c, u) => EvM i s c u
theorem sNum_v {B : Nat → Nat} {most p p' v : Nat} (h : sNum B most p = .inr (p', v)) : v ≤ most := by
  unfold sNum at h
  split at h
  · cases h
  · split at h
    · cases h
    · split at h
      · cases h
      · cases h
        omega
theorem facS_ev {B : Nat → Nat} {i d : Nat} {S : Nat → sE} (hS : ∀ s p, sEv i s (S p)) (s p : Nat) : sEv i s (facS B d S p) := by
  unfold facS
  split
  · split
    · trivial
    · have := hS s (p + 1)
      revert this
      cases S (p + 1) with
      | inl e => exact id
      | inr r =>
        obtain ⟨p', c, u⟩ := r
        intro h
        show sEv i s (if B p' = 93 then .inr (p' + 1, c, u) else .inl (1, p'))
        split
        · exact h
        · trivial
  · split
    · have := @sNum_v B 99999 p
      revert this
      cases sNum B 99999 p with
      | inl e => exact fun _ => trivial
      | inr r =>
        obtain ⟨p', v⟩ := r
        intro h
        exact ev_num (by have := h rfl; omega)
    · split
      · trivial
      · have := fct_le (c := B p)
        exact ev_let (by omega)
theorem opd_rk {op : Nat} (h2 : 2 ≤ op) (h6 : op ≤ 6) {u u' : sD} (f : Nat → Int32) : opd op u u' f = (u f).bind fun x => (u' f).bind fun y => rk op x y := by
  unfold opd rk
  cases u f with
  | none => rfl
  | some x =>
    cases u' f with
    | none => rfl
    | some y =>
      simp only [ob_s]
      rcases (by omega : op = 2 ∨ op = 3 ∨ op = 4 ∨ op = 5 ∨ op = 6) with rfl | rfl | rfl | rfl | rfl <;> simp
theorem cmd_rk {op : Nat} (h7 : 7 ≤ op) {u u' : sD} (f : Nat → Int32) : cmd op u u' f = (u f).bind fun x => (u' f).bind fun y => rk op x y := by
  unfold cmd rk
  cases u f with
  | none => rfl
  | some x =>
    cases u' f with
    | none => rfl
    | some y =>
      simp only [ob_s]
      rw [if_neg (by omega : ¬ op = 2), if_neg (by omega : ¬ op = 3), if_neg (by omega : ¬ op = 4), if_neg (by omega : ¬ op = 5), if_neg (by omega : ¬ op = 6)]
def sO6 (op : Nat → Nat) : Prop := ∀ c, op c ≠ 0 → 2 ≤ op c ∧ op c ≤ 6
theorem sO6_m : sO6 mop := by
  intro c h
  unfold mop at h ⊢
  repeat' split at h
  all_goals first | omega | (repeat' split; all_goals omega)
theorem sO6_a : sO6 aop := by
  intro c h
  unfold aop at h ⊢
  repeat' split at h
  all_goals first | omega | (repeat' split; all_goals omega)
theorem cop_79 {c : Nat} (h : cop c ≠ 0) : 7 ≤ cop c ∧ cop c ≤ 9 := by
  unfold cop at h ⊢
  repeat' split at h
  all_goals first | omega | (repeat' split; all_goals omega)
theorem rowT_ev {B : Nat → Nat} {i : Nat} {op : Nat → Nat} {S : Nat → sE} (ho : sO6 op) (hS : ∀ s p, sEv i s (S p)) (s : Nat) : ∀ n p c u, EvM i s c u → sEv i s (rowT B op S n p c u)
  | 0, _, _, _, _ => trivial
  | n + 1, p, c, u, h => by
    rw [rowT]
    by_cases hb : op (B p) = 0
    · rw [if_pos hb]; exact h
    · rw [if_neg hb]
      obtain ⟨hb1, hb2⟩ := ho _ hb
      have := hS (s + c.length) (p + 1)
      revert this
      cases S (p + 1) with
      | inl e => exact id
      | inr r =>
        obtain ⟨p', c', u'⟩ := r
        intro h1
        exact rowT_ev ho hS s n p' _ _ (ev_bin hb1 (by omega) h h1 (opd_rk hb1 hb2))
theorem rowS_ev {B : Nat → Nat} {i : Nat} {op : Nat → Nat} {S : Nat → sE} (ho : sO6 op) (hS : ∀ s p, sEv i s (S p)) (s p : Nat) : sEv i s (rowS B op S p) := by
  unfold rowS
  have := hS s p
  revert this
  cases S p with
  | inl e => exact id
  | inr r =>
    obtain ⟨p', c', u'⟩ := r
    intro h
    exact rowT_ev ho hS s 200 p' c' u' h
theorem sumS_ev {B : Nat → Nat} {i : Nat} : ∀ d s p, sEv i s (sumS B d p)
  | 0, s, p => rowS_ev sO6_a (rowS_ev sO6_m (facS_ev (S := fun _ => .inl (0, 0)) (fun _ _ => trivial))) s p
  | d + 1, s, p => rowS_ev sO6_a (rowS_ev sO6_m (facS_ev (fun s p => sumS_ev d s p))) s p
theorem jmpT_ev {B : Nat → Nat} {i b op : Nat} {S : Nat → Nat → sE} (ho : op = 11 ∨ op = 12) (hS : ∀ s p, sEv i s (S s p)) : ∀ n s p c u, EvM i s c u → sEv i s (jmpT B b op S n s p c u)
  | 0, _, _, _, _, _ => trivial
  | n + 1, s, p, c, u, h => by
    rw [jmpT]
    by_cases hbb : B p = b
    · rw [if_pos hbb]
      have := hS (s + c.length + 1) (p + 1)
      revert this
      cases S (s + c.length + 1) (p + 1) with
      | inl e => exact id
      | inr r =>
        obtain ⟨p', c', u'⟩ := r
        intro h1
        exact jmpT_ev ho hS n s p' _ _ (ev_jmp ho h h1)
    · rw [if_neg hbb]; exact h
theorem jmpS_ev {B : Nat → Nat} {i b op : Nat} {S : Nat → Nat → sE} (ho : op = 11 ∨ op = 12) (hS : ∀ s p, sEv i s (S s p)) (s p : Nat) : sEv i s (jmpS B b op S s p) := by
  unfold jmpS
  have := hS s p
  revert this
  cases S s p with
  | inl e => exact id
  | inr r =>
    obtain ⟨p', c', u'⟩ := r
    intro h
    exact jmpT_ev ho hS 200 s p' c' u' h
theorem conS_ev {B : Nat → Nat} {i d : Nat} {S : Nat → Nat → sE} (hS : ∀ s p, sEv i s (S s p)) (s p : Nat) : sEv i s (conS B d S s p) := by
  unfold conS
  split
  · trivial
  · have := jmpS_ev (B := B) (b := 124) (op := 12) (Or.inr rfl) (jmpS_ev (B := B) (b := 38) (op := 11) (Or.inl rfl) hS) s (p + 1)
    revert this
    cases jmpS B 124 12 (jmpS B 38 11 S) s (p + 1) with
    | inl e => exact id
    | inr r =>
      obtain ⟨p', c, u⟩ := r
      intro h
      show sEv i s (if B p' = 41 then .inr (p' + 1, c, u) else .inl (1, p'))
      split
      · exact h
      · trivial
theorem cmpS_ev {B : Nat → Nat} {i : Nat} {S : Nat → sE} (hS : ∀ s p, sEv i s (S p)) (s p : Nat) : sEv i s (cmpS B S p) := by
  unfold cmpS
  have := hS s p
  revert this
  cases S p with
  | inl e => exact id
  | inr r =>
    obtain ⟨p1, c1, u1⟩ := r
    intro h1
    show sEv i s (if cop (B p1) = 0 then .inl (1, p1) else match S (p1 + 1) with
      | .inl e => .inl e
      | .inr (p2, c2, u2) => .inr (p2, c1 ++ (c2 ++ [1048576 * cop (B p1)]), cmd (cop (B p1)) u1 u2))
    by_cases hc : cop (B p1) = 0
    · rw [if_pos hc]; trivial
    · rw [if_neg hc]
      obtain ⟨b1, b2⟩ := cop_79 hc
      have := hS (s + c1.length) (p1 + 1)
      revert this
      cases S (p1 + 1) with
      | inl e => exact id
      | inr r =>
        obtain ⟨p2, c2, u2⟩ := r
        intro h2
        exact ev_bin (by omega) b2 h1 h2 (cmd_rk b1)
theorem pieF_ev {B : Nat → Nat} {i d : Nat} {S : Nat → Nat → sE} (hS : ∀ s p, sEv i s (S s p)) (s p : Nat) : sEv i s (pieF B d S s p) := by
  unfold pieF
  split
  · split
    · trivial
    · have := hS s (p + 1)
      revert this
      cases S s (p + 1) with
      | inl e => exact id
      | inr r =>
        obtain ⟨p', c, u⟩ := r
        intro h
        exact ev_not h
  · split
    · exact conS_ev hS s p
    · exact cmpS_ev (sumS_ev d) s p
theorem pieS_ev {B : Nat → Nat} {i : Nat} : ∀ d s p, sEv i s (pieS B d s p)
  | 0, s, p => pieF_ev (S := fun _ _ => .inl (0, 0)) (fun _ _ => trivial) s p
  | d + 1, s, p => pieF_ev (fun s p => pieS_ev d s p) s p
/-- a clause's answer -/
theorem mi_true {F x i j s : Nat} {c : List Nat} {u : sD} {σ : MS} (hF : 200 ≤ F) (hi : i < 20) (hj : j < 10) (hx : x = 10 * i + j) (h33 : σ.2 33 x = nI (180 * i + s)) (h34 : σ.2 34 x = nI (180 * i + s + c.length)) (hc : Cd σ i s c) (hl : s + c.length < 180) (hu : (c = [] ∧ ∀ f, u f = some 1) ∨ (c ≠ [] ∧ EvM i s c u)) : ∃ st, m_isTrue F (nI x) σ = some (bI (u (σ.2 39) = some 1), sT σ st) := by
  have hx2 : x < 200 := by omega
  have hst : m_isTrue F (nI x) σ = mT F x i F 0 (180 * i + s) σ := by
    unfold m_isTrue mT
    have e1 : 180 * (nI x / 10) = nI (180 * i) := by
      have e10 : (10 : Int32).toInt = 10 := li_10
      have e2 : nI x / 10 = nI i := by
        refine Int32.toInt_inj.mp ?_
        have e3 : (nI x).toInt = x := ni_i (by omega)
        rw [i_div (by omega) (by omega), e3, e10, ni_i (by omega)]
        omega
      rw [e2, show (180 : Int32) = nI 180 from rfl, ni_mul]
    rw [e1, nx_e, if_pos (okI_nI hx2 (by omega)), ni_c (by omega), h33, nx_e]
    rfl
  have hend : ∀ fu n σ', σ'.2 34 x = nI (180 * i + s + c.length) → mT F x i (fu + 1) n (180 * i + s + c.length) σ' = mKT (nI n, nI (180 * i + s + c.length), σ') := by
    intro fu n σ' h
    unfold mT
    rw [lp_s]
    simp only [m_isTrue_B19]
    rw [if_pos (okI_nI hx2 (by omega)), ni_c (by omega), h, if_pos ((ni_le (by omega) (by omega)).mpr (Nat.le_refl _))]
  rw [hst]
  rcases hu with ⟨rfl, hu⟩ | ⟨hne, hev⟩
  · obtain ⟨F', rfl⟩ : ∃ f, F = f + 1 := ⟨F - 1, by omega⟩
    have := hend F' 0 σ h34
    refine ⟨σ.2 38, ?_⟩
    rw [hu, bI_t rfl]
    refine this.trans ?_
    unfold mKT
    rw [if_pos (by rfl)]
    congr 2
    refine Prod.ext rfl (funext fun j => ?_)
    show σ.2 j = if j = 38 then σ.2 38 else σ.2 j
    by_cases h : j = 38
    · rw [if_pos h, h]
    · rw [if_neg h]
  · have h1 := hev F x 0 F _ σ hx2 hi h34 hc (Nat.le_refl _) (by omega) (by omega) (by omega)
    revert h1
    cases u (σ.2 39) with
    | none =>
      intro ⟨st, e⟩
      exact ⟨st, by rw [e, bI_f (by simp)]⟩
    | some v =>
      intro ⟨st, fu', e, s1, _, f1⟩
      obtain ⟨fu', rfl⟩ : ∃ f, fu' = f + 1 := ⟨fu' - 1, by omega⟩
      refine ⟨st, ?_⟩
      rw [e, hend fu' (0 + 1) (sT σ st) h34]
      unfold mKT
      rw [if_neg (show ¬ nI (0 + 1) = 0 by decide), if_pos (show okI 0 180 = true by decide)]
      have e0 : (sT σ st).2 38 (0 : Int32).toNatClampNeg = v := s1
      simp only [e0]
      by_cases hv : v = 1
      · rw [if_pos hv, bI_t (by rw [hv])]
      · rw [if_neg hv, bI_f (by simp [hv])]
