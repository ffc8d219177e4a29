/-! what the objects read answer -/
def Y (τ : XS) (q : Nat) (V : Nat → Value) : XS := xP τ q (.inr (19, V))
theorem Y_q {τ : XS} {q : Nat} {V : Nat → Value} : (Y τ q V).2.2.2.1 q = some (.inr (19, V)) := pup_s
theorem Y_o {τ : XS} {q b : Nat} {V : Nat → Value} (h : b ≠ q) : (Y τ q V).2.2.2.1 b = τ.2.2.2.1 b := pup_n h
theorem Y_w {τ : XS} {q k : Nat} {V : Nat → Value} {v : Value} : pF (Y τ q V) q [19] k v = some (Y τ q (updV V k v)) := by
  rw [pF_of Y_q (by simp)]
  show some (τ.1, τ.2.1, τ.2.2.1, pup (pup τ.2.2.2.1 q (.inr (19, V))) q (.inr (19, updV V k v)), τ.2.2.2.2) = _
  rw [pup_pup]
  rfl
theorem Y_self {τ : XS} {q : Nat} {V : Nat → Value} (h : τ.2.2.2.1 q = some (.inr (19, V))) : Y τ q V = τ := by
  show (τ.1, τ.2.1, τ.2.2.1, pup τ.2.2.2.1 q (.inr (19, V)), τ.2.2.2.2) = (τ.1, τ.2.1, τ.2.2.1, τ.2.2.2.1, τ.2.2.2.2)
  have : pup τ.2.2.2.1 q (.inr (19, V)) = τ.2.2.2.1 := by
    funext b
    unfold pup
    by_cases hb : b = q
    · rw [if_pos hb, hb, h]
    · rw [if_neg hb]
  rw [this]
theorem isC_no {τ : XS} {a c : Nat} {cs : List Nat} {V : Nat → Value} (h : τ.2.2.2.1 a = some (.inr (c, V))) (hc : c ∉ cs) : ¬ isC τ a cs = true := by
  simp [isC, h, hc]
/-- the objects made at lo .. hi - 1 lie in Q as in P; but for l -/
def Ag (P : Pl) (lo hi q : Nat) (l : Option Nat) (Q : Pl) : Prop := ∀ b, lo ≤ b → b < hi → l ≠ some b → ∀ c W, P b = some (.inr (c, W)) → 12 ≤ c → c ≤ 18 → b ≠ q ∧ Q b = some (.inr (c, W))
theorem Ag.sub {P P' : Pl} {lo hi lo' hi' q : Nat} {l l' : Option Nat} {Q : Pl} (h : Ag P' lo hi q l Q) (h1 : lo ≤ lo') (h2 : hi' ≤ hi) (h3 : ∀ b, lo' ≤ b → b < hi' → l' ≠ some b → l ≠ some b ∧ P' b = P b) : Ag P lo' hi' q l' Q := by
  intro b hb1 hb2 hb3 c W hW hc1 hc2
  obtain ⟨g1, g2⟩ := h3 b hb1 hb2 hb3
  exact h b (by omega) (by omega) g1 c W (g2.trans hW) hc1 hc2
/-- a value kept, or refused -/
def rs (u : Option Int32) (v : Int32) (V V' : Nat → Value) : Prop := (∀ k, k ≠ 5 → V' k = V k) ∧ match u with
  | some x => v = x ∧ V' 5 = V 5
  | none => V' 5 = .int 1
theorem Fa.to {V V' : Nat → Value} {f : Nat → Int32} (h : Fa V f) (hk : ∀ k, k ≠ 5 → V' k = V k) : Fa V' f :=
  ⟨(hk 0 (by decide)).trans h.1, (hk 1 (by decide)).trans h.2.1, (hk 2 (by decide)).trans h.2.2.1, (hk 3 (by decide)).trans h.2.2.2.1, (hk 4 (by decide)).trans h.2.2.2.2⟩
def SmX (P : Pl) (lo hi d a : Nat) (u : sD) : Prop := lo ≤ a ∧ a < hi ∧ ∀ (F D : Nat) (τ : XS) (q : Nat) (V : Nat → Value) (f : Nat → Int32), 1000 ≤ F → d ≤ D → Ag P lo hi q none τ.2.2.2.1 → Fa V f → ∃ v V', xd_worth F D a q (Y τ q V) = some (v, Y τ q V', 0, 0) ∧ rs (u f) v V V'
theorem SmX.to {P P' : Pl} {lo hi lo' hi' d d' a : Nat} {u : sD} (h : SmX P lo hi d a u) (h1 : lo' ≤ lo) (h2 : hi ≤ hi') (hd : d ≤ d') (hP : ∀ b, lo ≤ b → b < hi → P' b = P b) : SmX P' lo' hi' d' a u := by
  obtain ⟨a1, a2, a3⟩ := h
  exact ⟨by omega, by omega, fun F D τ q V f hF hD hA hV => a3 F D τ q V f hF (by omega) (hA.sub h1 h2 (fun b b1 b2 _ => ⟨by simp, hP b b1 b2⟩)) hV⟩
theorem Sm_num {P : Pl} {lo hi a : Nat} {W : Nat → Value} {n : Int32} (h1 : lo ≤ a) (h2 : a < hi) (h : P a = some (.inr (16, W))) (hW : W 0 = .int n) : SmX P lo hi 1 a (fun _ => some n) := by
  refine ⟨h1, h2, fun F D τ q V f hF hD hA hV => ?_⟩
  obtain ⟨D, rfl⟩ : ∃ d, D = d + 1 := ⟨D - 1, by omega⟩
  obtain ⟨g1, g2⟩ := hA a h1 h2 (by simp) 16 W h (by decide) (by decide)
  have hY : (Y τ q V).2.2.2.1 a = some (.inr (16, W)) := (Y_o g1).trans g2
  refine ⟨n, V, ?_, fun _ _ => rfl, rfl, rfl⟩
  show (if isC (Y τ q V) a [16] = true then x16_worth F a q (Y τ q V) else _) = _
  rw [if_pos (isC_of hY (by simp))]
  unfold x16_worth
  rw [gI_of hY (by simp) hW]
  rfl
def ltr (k : Nat) : Int32 := if k = 0 then 119 else if k = 1 then 104 else if k = 2 then 107 else if k = 3 then 109 else 112
theorem Sm_let {P : Pl} {lo hi a k : Nat} {W : Nat → Value} (hk : k < 5) (h1 : lo ≤ a) (h2 : a < hi) (h : P a = some (.inr (17, W))) (hW : W 0 = .int (ltr k)) : SmX P lo hi 1 a (fun f => some (f k)) := by
  refine ⟨h1, h2, fun F D τ q V f hF hD hA hV => ?_⟩
  obtain ⟨D, rfl⟩ : ∃ d, D = d + 1 := ⟨D - 1, by omega⟩
  obtain ⟨g1, g2⟩ := hA a h1 h2 (by simp) 17 W h (by decide) (by decide)
  have hY : (Y τ q V).2.2.2.1 a = some (.inr (17, W)) := (Y_o g1).trans g2
  refine ⟨f k, V, ?_, fun _ _ => rfl, rfl, rfl⟩
  show (if isC (Y τ q V) a [16] = true then x16_worth F a q (Y τ q V) else if isC (Y τ q V) a [17] = true then x17_worth F a q (Y τ q V) else _) = _
  rw [if_neg (isC_no hY (by simp)), if_pos (isC_of hY (by simp))]
  unfold x17_worth
  rw [gI_of hY (by simp) hW]
  simp only [ob_s]
  rw [if_pos (isC_of Y_q (by simp))]
  obtain ⟨v0, v1, v2, v3, v4⟩ := hV
  unfold x19_value
  rw [gI_of Y_q (by simp) v0, gI_of Y_q (by simp) v1, gI_of Y_q (by simp) v2, gI_of Y_q (by simp) v3, gI_of Y_q (by simp) v4]
  rcases (by omega : k = 0 ∨ k = 1 ∨ k = 2 ∨ k = 3 ∨ k = 4) with rfl | rfl | rfl | rfl | rfl
  · rw [if_pos (by rfl)]
    rfl
  · rw [if_neg (by decide), if_pos (by rfl)]
    rfl
  · rw [if_neg (by decide), if_neg (by decide), if_pos (by rfl)]
    rfl
  · rw [if_neg (by decide), if_neg (by decide), if_neg (by decide), if_pos (by rfl)]
    rfl
  · rw [if_neg (by decide), if_neg (by decide), if_neg (by decide), if_neg (by decide)]
    rfl
/-- a row's sign -/
def sgn (op : Nat) : Int32 := if op = 2 then 43 else if op = 3 then 45 else if op = 4 then 42 else if op = 5 then 47 else 37
theorem worked_e {F op q : Nat} {x y : Int32} {τ : XS} {V : Nat → Value} (h2 : 2 ≤ op) (h6 : op ≤ 6) : ∃ v V', x15_worked F (sgn op) x y q (Y τ q V) = some (v, Y τ q V', 0, 0) ∧ rs (rk op x y) v V V' := by
  unfold x15_worked
  rcases (by omega : op = 2 ∨ op = 3 ∨ op = 4 ∨ op = 5 ∨ op = 6) with rfl | rfl | rfl | rfl | rfl
  · rw [if_neg (by decide), if_pos (by rfl)]
    exact ⟨_, V, rfl, fun _ _ => rfl, rfl, rfl⟩
  · rw [if_neg (by decide), if_neg (by decide), if_pos (by rfl)]
    exact ⟨_, V, rfl, fun _ _ => rfl, rfl, rfl⟩
  · rw [if_pos (by rfl)]
    exact ⟨_, V, rfl, fun _ _ => rfl, rfl, rfl⟩
  · rw [if_neg (by decide), if_neg (by decide), if_neg (by decide)]
    have hr : rk 5 x y = if y = 0 then none else some (x / y) := rfl
    rw [hr]
    by_cases hy : y = 0
    · rw [if_pos hy, if_pos hy, Y_w]
      simp only [ob_s, x15_worked_53]
      rw [if_pos hy]
      exact ⟨0, _, rfl, fun k hk => if_neg hk, if_pos rfl⟩
    · rw [if_neg hy, if_neg hy]
      unfold x15_worked_53
      rw [if_neg hy, if_pos (by rfl), if_pos hy]
      exact ⟨_, V, rfl, fun _ _ => rfl, rfl, rfl⟩
  · rw [if_neg (by decide), if_neg (by decide), if_neg (by decide)]
    have hr : rk 6 x y = if y = 0 then none else some (jrem x y) := rfl
    rw [hr]
    by_cases hy : y = 0
    · rw [if_pos hy, if_pos hy, Y_w]
      simp only [ob_s, x15_worked_53]
      rw [if_pos hy]
      exact ⟨0, _, rfl, fun k hk => if_neg hk, if_pos rfl⟩
    · rw [if_neg hy, if_neg hy]
      unfold x15_worked_53
      rw [if_neg hy, if_neg (by decide), if_pos hy]
      exact ⟨_, V, rfl, fun _ _ => rfl, rfl, rfl⟩
/-- a row from f to its last part l, whose next is open -/
def ChX (P : Pl) (lo hi dd f l : Nat) (u : sD) (n : Nat) : Prop := lo ≤ f ∧ f < hi ∧ lo ≤ l ∧ l < hi ∧ (∃ W, P f = some (.inr (15, W))) ∧ ∃ Wl, P l = some (.inr (15, Wl)) ∧
  ∀ (F D : Nat) (τ : XS) (q : Nat) (V : Nat → Value) (fc : Nat → Int32) (nx : Option Nat) (W : Nat → Value), 1000 ≤ F → dd ≤ D → Ag P lo hi q (some l) τ.2.2.2.1 → l ≠ q → τ.2.2.2.1 l = some (.inr (15, W)) → W 0 = Wl 0 → W 1 = Wl 1 → W 2 = va_rf nx → Fa V fc →
    ∃ v V' fu, x15_worth F (xd_worth F D) f q (Y τ q V) = lp (x15_worth_B14 F (xd_worth F D) q) fu (v, nx, Y τ q V') ∧ F ≤ fu + n ∧ rs (u fc) v V V'
theorem Ch_base {P : Pl} {lo hi lo2 hi2 dd l a : Nat} {u : sD} {Wl : Nat → Value} (h1 : lo ≤ l) (h2 : l < hi) (hl : P l = some (.inr (15, Wl))) (hp : Wl 1 = .ref a) (hs : SmX P lo2 hi2 dd a u) (h3 : lo ≤ lo2) (h4 : hi2 ≤ hi) (h5 : l < lo2 ∨ hi2 ≤ l) : ChX P lo hi dd l l u 0 := by
  refine ⟨h1, h2, h1, h2, ⟨Wl, hl⟩, Wl, hl, ?_⟩
  intro F D τ q V fc nx W hF hD hA hq hW w0 w1 w2 hV
  obtain ⟨a1, a2, a3⟩ := hs
  obtain ⟨v, V', e1, r1⟩ := a3 F D τ q V fc hF hD (hA.sub h3 h4 (fun b b1 b2 _ => ⟨fun e => by cases e; omega, rfl⟩)) hV
  have hY : ∀ V, (Y τ q V).2.2.2.1 l = some (.inr (15, W)) := fun V => (Y_o hq).trans hW
  refine ⟨v, V', F, ?_, by omega, r1⟩
  unfold x15_worth
  rw [gQ_of (q := some a) (hY V) (by simp) (w1.trans hp)]
  simp only [ob_s]
  rw [e1]
  simp only [ob_s, tk_00]
  rw [gQ_of (hY V') (by simp) w2]
  rfl
theorem rs.bin {op : Nat} {u u' : sD} {f : Nat → Int32} {v1 v2 v3 : Int32} {V V1 V2 V3 : Nat → Value} (h2 : 2 ≤ op) (h6 : op ≤ 6) (h : rs (u f) v1 V V1) (h' : rs (u' f) v2 V1 V2) (h3 : rs (rk op v1 v2) v3 V2 V3) : rs (opd op u u' f) v3 V V3 := by
  obtain ⟨k1, r1⟩ := h
  obtain ⟨k2, r2⟩ := h'
  obtain ⟨k3, r3⟩ := h3
  refine ⟨fun k hk => (k3 k hk).trans ((k2 k hk).trans (k1 k hk)), ?_⟩
  have e3 : V3 5 = .int 1 ∨ V3 5 = V2 5 := by
    revert r3
    cases rk op v1 v2 with
    | none => exact Or.inl
    | some x => exact fun r => Or.inr r.2
  have e2 : V2 5 = .int 1 ∨ V2 5 = V1 5 := by
    revert r2
    cases u' f with
    | none => exact Or.inl
    | some x => exact fun r => Or.inr r.2
  rw [opd_rk h2 h6]
  revert r1
  cases u f with
  | none =>
    intro r1
    have r1 : V1 5 = .int 1 := r1
    show V3 5 = .int 1
    rcases e3 with e | e
    · exact e
    · rcases e2 with e' | e'
      · exact e.trans e'
      · exact e.trans (e'.trans r1)
  | some x =>
    intro ⟨r1, r1'⟩
    subst r1
    revert r2
    cases u' f with
    | none =>
      intro r2
      have r2 : V2 5 = .int 1 := r2
      show V3 5 = .int 1
      rcases e3 with e | e
      · exact e
      · exact e.trans r2
    | some y =>
      intro ⟨r2, r2'⟩
      subst r2
      show (match rk op v1 v2 with
        | some x => v3 = x ∧ V3 5 = V 5
        | none => V3 5 = .int 1)
      revert r3
      cases rk op v1 v2 with
      | none => exact id
      | some z => exact fun r => ⟨r.1, r.2.trans (r2'.trans r1')⟩
theorem Ch_step {P P2 : Pl} {lo hi hi2 lo3 hi3 dd f l l2 a2 op n : Nat} {u u2 : sD} {Wl Wl2 W2 : Nat → Value} (h : ChX P lo hi dd f l u n) (hn : n < 500) (ho2 : 2 ≤ op) (ho6 : op ≤ 6) (hPl : P l = some (.inr (15, Wl))) (hP : ∀ b, lo ≤ b → b < hi → b ≠ l → P2 b = P b) (hl : P2 l = some (.inr (15, Wl2))) (w0 : Wl2 0 = Wl 0) (w1 : Wl2 1 = Wl 1) (w2 : Wl2 2 = .ref l2)
    (h1 : hi ≤ l2) (h2 : l2 < hi2) (hl2 : P2 l2 = some (.inr (15, W2))) (s0 : W2 0 = .int (sgn op)) (s1 : W2 1 = .ref a2) (hs : SmX P2 lo3 hi3 dd a2 u2) (h3 : hi ≤ lo3) (h4 : hi3 ≤ hi2) (h5 : l2 < lo3 ∨ hi3 ≤ l2) : ChX P2 lo hi2 dd f l2 (opd op u u2) (n + 1) := by
  obtain ⟨c1, c2, c3, c4, ⟨Wf, c5⟩, Wl', c6, c7⟩ := h
  have : Wl' = Wl := by
    have := hPl.symm.trans c6
    simpa using this.symm
  subst this
  refine ⟨c1, by omega, by omega, h2, ?_, W2, hl2, ?_⟩
  · by_cases hfl : f = l
    · exact ⟨Wl2, by rw [hfl]; exact hl⟩
    · exact ⟨Wf, (hP f c1 c2 hfl).trans c5⟩
  · intro F D τ q V fc nx W hF hD hA hq hW k0 k1 k2 hV
    obtain ⟨gl1, gl2⟩ := hA l (by omega) (by omega) (fun e => by cases e; omega) 15 Wl2 hl (by decide) (by decide)
    obtain ⟨v, V1, fu, e1, f1, r1⟩ := c7 F D τ q V fc (some l2) Wl2 hF hD (hA.sub (Nat.le_refl _) (by omega) (fun b b1 b2 b3 => ⟨fun e => by cases e; omega, hP b b1 b2 (fun e => b3 (by rw [e]))⟩)) gl1 gl2 w0 w1 w2 hV
    obtain ⟨a1, a2', a3⟩ := hs
    obtain ⟨v2, V2, e2, r2⟩ := a3 F D τ q V1 fc hF hD (hA.sub (by omega) h4 (fun b b1 b2 _ => ⟨fun e => by cases e; omega, rfl⟩)) (hV.to r1.1)
    obtain ⟨v3, V3, e3, r3⟩ := worked_e (F := F) (q := q) (x := v) (y := v2) (τ := τ) (V := V2) ho2 ho6
    obtain ⟨fu, rfl⟩ : ∃ g, fu = g + 1 := ⟨fu - 1, by omega⟩
    have hY : ∀ V, (Y τ q V).2.2.2.1 l2 = some (.inr (15, W)) := fun V => (Y_o hq).trans hW
    refine ⟨v3, V3, fu, ?_, by omega, rs.bin ho2 ho6 r1 r2 r3⟩
    rw [e1, lp_s]
    generalize lp (x15_worth_B14 F (xd_worth F D) q) fu = RR
    simp only [x15_worth_B14]
    rw [if_neg (by simp)]
    simp only [ob_s]
    rw [gI_of (hY V1) (by simp) (k0.trans s0)]
    simp only [ob_s]
    rw [gQ_of (q := some a2) (hY V1) (by simp) (k1.trans s1)]
    simp only [ob_s]
    rw [e2]
    simp only [ob_s, tk_00]
    rw [e3]
    simp only [ob_s, tk_00]
    rw [gQ_of (hY V3) (by simp) k2]
    rfl
theorem Ch_done {P : Pl} {lo hi dd f l n : Nat} {u : sD} {Wl : Nat → Value} (h : ChX P lo hi dd f l u n) (hn : n < 500) (hPl : P l = some (.inr (15, Wl))) (w2 : Wl 2 = va_rf none) : SmX P lo hi (dd + 1) f u := by
  obtain ⟨c1, c2, c3, c4, ⟨Wf, c5⟩, Wl', c6, c7⟩ := h
  have : Wl' = Wl := by
    have := hPl.symm.trans c6
    simpa using this.symm
  subst this
  refine ⟨c1, c2, fun F D τ q V fc hF hD hA hV => ?_⟩
  obtain ⟨D, rfl⟩ : ∃ d, D = d + 1 := ⟨D - 1, by omega⟩
  obtain ⟨gl1, gl2⟩ := hA l c3 c4 (by simp) 15 _ hPl (by decide) (by decide)
  obtain ⟨gf1, gf2⟩ := hA f c1 c2 (by simp) 15 _ c5 (by decide) (by decide)
  have hYf : (Y τ q V).2.2.2.1 f = some (.inr (15, Wf)) := (Y_o gf1).trans gf2
  obtain ⟨v, V1, fu, e1, f1, r1⟩ := c7 F D τ q V fc none _ hF (by omega) (hA.sub (Nat.le_refl _) (Nat.le_refl _) (fun b b1 b2 b3 => ⟨by simp, rfl⟩)) gl1 gl2 rfl rfl w2 hV
  obtain ⟨fu, rfl⟩ : ∃ g, fu = g + 1 := ⟨fu - 1, by omega⟩
  refine ⟨v, V1, ?_, r1⟩
  show (if isC (Y τ q V) f [16] = true then x16_worth F f q (Y τ q V) else if isC (Y τ q V) f [17] = true then x17_worth F f q (Y τ q V) else if isC (Y τ q V) f [15] = true then x15_worth F (xd_worth F D) f q (Y τ q V) else none) = _
  rw [if_neg (isC_no hYf (by simp)), if_neg (isC_no hYf (by simp)), if_pos (isC_of hYf (by simp)), e1, lp_s]
  simp only [x15_worth_B14]
  rw [if_pos trivial]
/-! conditions -/
def hs (u : Option Int32) (h : Int32) (V V' : Nat → Value) : Prop := (∀ k, k ≠ 5 → V' k = V k) ∧ match u with
  | some x => h = x ∧ (x = 0 ∨ x = 1)
  | none => h = 2
def HoX (P : Pl) (lo hi d a : Nat) (u : sD) : Prop := lo ≤ a ∧ a < hi ∧ ∀ (F D : Nat) (τ : XS) (q : Nat) (V : Nat → Value) (f : Nat → Int32), 1000 ≤ F → d ≤ D → Ag P lo hi q none τ.2.2.2.1 → Fa V f → ∃ v V', xd_holds F D a q (Y τ q V) = some (v, Y τ q V', 0, 0) ∧ hs (u f) v V V'
theorem HoX.to {P P' : Pl} {lo hi lo' hi' d d' a : Nat} {u : sD} (h : HoX P lo hi d a u) (h1 : lo' ≤ lo) (h2 : hi ≤ hi') (hd : d ≤ d') (hP : ∀ b, lo ≤ b → b < hi → P' b = P b) : HoX P' lo' hi' d' a u := by
  obtain ⟨a1, a2, a3⟩ := h
  exact ⟨by omega, by omega, fun F D τ q V f hF hD hA hV => a3 F D τ q V f hF (by omega) (hA.sub h1 h2 (fun b b1 b2 _ => ⟨by simp, hP b b1 b2⟩)) hV⟩
/-- a comparison's sign -/
def csg (op : Nat) : Int32 := if op = 7 then 60 else if op = 8 then 62 else 61
theorem Ho_cmp {P : Pl} {lo hi lo1 hi1 lo2 hi2 a a1 a2 op d : Nat} {W : Nat → Value} {u1 u2 : sD} (hd : d ≤ 20) (h7 : 7 ≤ op) (h9 : op ≤ 9) (h1 : lo ≤ a) (h2 : a < hi) (h : P a = some (.inr (18, W))) (w0 : W 0 = .ref a1) (w1 : W 1 = .ref a2) (w2 : W 2 = .int (csg op)) (s1 : SmX P lo1 hi1 d a1 u1) (s2 : SmX P lo2 hi2 d a2 u2) (l1 : lo ≤ lo1) (l2 : hi1 ≤ hi) (l3 : lo ≤ lo2) (l4 : hi2 ≤ hi) : HoX P lo hi 1 a (cmd op u1 u2) := by
  refine ⟨h1, h2, fun F D τ q V f hF hD hA hV => ?_⟩
  obtain ⟨D, rfl⟩ : ∃ d, D = d + 1 := ⟨D - 1, by omega⟩
  obtain ⟨g1, g2⟩ := hA a h1 h2 (by simp) 18 W h (by decide) (by decide)
  have hY : ∀ V, (Y τ q V).2.2.2.1 a = some (.inr (18, W)) := fun V => (Y_o g1).trans g2
  obtain ⟨_, _, s1⟩ := s1
  obtain ⟨_, _, s2⟩ := s2
  have hV0 : Fa (updV V 5 (.int 0)) f := hV.to (fun k hk => if_neg hk)
  obtain ⟨v1, V1, e1, k1, r1⟩ := s1 F 20 τ q (updV V 5 (.int 0)) f hF hd (hA.sub l1 l2 (fun b b1 b2 _ => ⟨by simp, rfl⟩)) hV0
  obtain ⟨v2, V2, e2, k2, r2⟩ := s2 F 20 τ q V1 f hF hd (hA.sub l3 l4 (fun b b1 b2 _ => ⟨by simp, rfl⟩)) (hV0.to k1)
  have hk : ∀ k, k ≠ 5 → V2 k = V k := fun k hk => (k2 k hk).trans ((k1 k hk).trans (if_neg hk))
  have lt_le : ∀ a b : Int32, (a ≤ b) = ¬ (b < a) := by
    intro a b
    rw [Int32.le_iff_toInt_le, Int32.lt_iff_toInt_lt]
    exact propext (by omega)
  have hst : xd_holds F (D + 1) a q (Y τ q V) = x18_holds_77 F q (if op = 7 then bI (v1 < v2) else if op = 8 then bI (v2 < v1) else bI (v1 = v2)) (Y τ q V2) := by
    show (if isC (Y τ q V) a [18] = true then x18_holds F a q (Y τ q V) else _) = _
    rw [if_pos (isC_of (hY V) (by simp))]
    unfold x18_holds
    rw [Y_w]
    simp only [ob_s]
    rw [gQ_of (q := some a1) (hY _) (by simp) w0]
    simp only [ob_s]
    rw [e1]
    simp only [ob_s, tk_00]
    rw [gQ_of (q := some a2) (hY _) (by simp) w1]
    simp only [ob_s]
    rw [e2]
    simp only [ob_s, tk_00]
    rw [gI_of (hY _) (by simp) w2]
    simp only [ob_s, lt_le]
    unfold bI
    rcases (by omega : op = 7 ∨ op = 8 ∨ op = 9) with rfl | rfl | rfl
    · rw [if_pos (by rfl), if_pos rfl]
      by_cases hc : v1 < v2
      · rw [if_neg (fun e => e hc), if_pos hc]
      · rw [if_pos hc, if_neg hc]
    · rw [if_neg (show ¬ csg 8 = 60 by decide), if_pos (show csg 8 = 62 from rfl), if_neg (show ¬ (8 : Nat) = 7 by decide), if_pos (show (8 : Nat) = 8 from rfl)]
      by_cases hc : v2 < v1
      · rw [if_neg (fun e => e hc), if_pos hc]
      · rw [if_pos hc, if_neg hc]
    · rw [if_neg (show ¬ csg 9 = 60 by decide), if_neg (show ¬ csg 9 = 62 by decide), if_neg (show ¬ (9 : Nat) = 7 by decide), if_neg (show ¬ (9 : Nat) = 8 by decide)]
      by_cases hc : v1 = v2
      · rw [if_pos hc, if_pos hc]
      · rw [if_neg hc, if_neg hc]
  have h77 : ∀ w x : Int32, V2 5 = .int w → x18_holds_77 F q x (Y τ q V2) = if w = 0 then (if x = 0 then some (0, Y τ q V2, 0, 0) else some (1, Y τ q V2, 0, 0)) else some (2, Y τ q V2, 0, 0) := by
    intro w x hw
    unfold x18_holds_77
    rw [gI_of Y_q (by simp) hw]
    rfl
  have h50 : (updV V 5 (.int 0)) 5 = .int 0 := if_pos rfl
  have e25 : V2 5 = .int 1 ∨ V2 5 = V1 5 := by
    revert r2
    cases u2 f with
    | none => exact Or.inl
    | some x => exact fun r => Or.inr r.2
  rw [hst]
  unfold cmd
  revert r1
  cases u1 f with
  | none =>
    intro r1
    have r1 : V1 5 = .int 1 := r1
    have : V2 5 = .int 1 := by
      rcases e25 with e | e
      · exact e
      · exact e.trans r1
    rw [h77 1 _ this, if_neg (by decide)]
    exact ⟨2, V2, rfl, hk, rfl⟩
  | some x =>
    intro ⟨r1, r1'⟩
    subst r1
    revert r2
    cases u2 f with
    | none =>
      intro r2
      have r2 : V2 5 = .int 1 := r2
      rw [h77 1 _ r2, if_neg (by decide)]
      exact ⟨2, V2, rfl, hk, rfl⟩
    | some y =>
      intro ⟨r2, r2'⟩
      subst r2
      rw [h77 0 _ (r2'.trans (r1'.trans h50)), if_pos rfl]
      simp only [ob_s]
      have hb : ∀ z : Int32, (z = 0 ∨ z = 1) → (if z = 0 then some ((0 : Int32), Y τ q V2, 0, 0) else some (1, Y τ q V2, 0, 0)) = some (z, Y τ q V2, 0, 0) := by
        intro z hz
        rcases hz with rfl | rfl
        · rw [if_pos rfl]
        · rw [if_neg (by decide)]
      have hbI : ∀ (p : Prop) [Decidable p], bI p = 0 ∨ bI p = 1 := by
        intro p _
        by_cases hp : p
        · exact Or.inr (bI_t hp)
        · exact Or.inl (bI_f hp)
      have hz : (if op = 7 then bI (v1 < v2) else if op = 8 then bI (v2 < v1) else bI (v1 = v2)) = 0 ∨ (if op = 7 then bI (v1 < v2) else if op = 8 then bI (v2 < v1) else bI (v1 = v2)) = 1 := by
        split
        · exact hbI _
        · split
          · exact hbI _
          · exact hbI _
      exact ⟨_, V2, hb _ hz, hk, rfl, hz⟩
theorem Ho_not {P : Pl} {lo hi lo1 hi1 a a1 d : Nat} {W : Nat → Value} {u : sD} (h1 : lo ≤ a) (h2 : a < hi) (h : P a = some (.inr (13, W))) (w0 : W 0 = .ref a1) (s1 : HoX P lo1 hi1 d a1 u) (l1 : lo ≤ lo1) (l2 : hi1 ≤ hi) : HoX P lo hi (d + 1) a (ntd u) := by
  refine ⟨h1, h2, fun F D τ q V f hF hD hA hV => ?_⟩
  obtain ⟨D, rfl⟩ : ∃ d, D = d + 1 := ⟨D - 1, by omega⟩
  obtain ⟨g1, g2⟩ := hA a h1 h2 (by simp) 13 W h (by decide) (by decide)
  have hY : ∀ V, (Y τ q V).2.2.2.1 a = some (.inr (13, W)) := fun V => (Y_o g1).trans g2
  obtain ⟨_, _, s1⟩ := s1
  obtain ⟨v1, V1, e1, k1, r1⟩ := s1 F D τ q V f hF (by omega) (hA.sub l1 l2 (fun b b1 b2 _ => ⟨by simp, rfl⟩)) hV
  have hst : xd_holds F (D + 1) a q (Y τ q V) = if v1 = 2 then some (2, Y τ q V1, 0, 0) else some (1 - v1, Y τ q V1, 0, 0) := by
    show (if isC (Y τ q V) a [18] = true then x18_holds F a q (Y τ q V) else if isC (Y τ q V) a [13] = true then x13_holds F (xd_holds F D) a q (Y τ q V) else _) = _
    rw [if_neg (isC_no (hY V) (by simp)), if_pos (isC_of (hY V) (by simp))]
    unfold x13_holds
    rw [gQ_of (q := some a1) (hY _) (by simp) w0]
    simp only [ob_s]
    rw [e1]
    simp only [ob_s, tk_00]
  rw [hst]
  unfold ntd
  revert r1
  cases u f with
  | none =>
    intro r1
    have r1 : v1 = 2 := r1
    rw [if_pos r1]
    exact ⟨2, V1, rfl, k1, rfl⟩
  | some x =>
    intro ⟨r1, r2⟩
    subst r1
    rw [if_neg (by rcases r2 with rfl | rfl <;> decide)]
    exact ⟨_, V1, rfl, k1, rfl, by rcases r2 with rfl | rfl <;> decide⟩
/-- a row of conditions, decided by dec -/
def dec (op : Nat) : Int32 := if op = 12 then 1 else 0
def cs2 (F D f q : Nat) (τ : XS) (V : Nat → Value) (nx : Option Nat) (n op : Nat) (u : Option Int32) (X : XR Int32) : Prop := ∃ V', (∀ k, k ≠ 5 → V' k = V k) ∧ match u with
  | none => X = some (2, Y τ q V', 0, 0)
  | some x => (x = 0 ∨ x = 1) ∧ ((x = dec op ∧ X = some (x, Y τ q V', 0, 0)) ∨ (x ≠ dec op ∧ ∃ fu, F ≤ fu + n ∧ X = lp (x12_holds_B2 F (xd_holds F D) f q) fu (nx, Y τ q V')))
def ChS (P : Pl) (lo hi dd f l op : Nat) (u : sD) (n : Nat) : Prop := lo ≤ f ∧ f < hi ∧ lo ≤ l ∧ l < hi ∧ (∃ W, P f = some (.inr (12, W)) ∧ W 1 = .int (dec op)) ∧ ∃ Wl, P l = some (.inr (12, Wl)) ∧
  ∀ (F D : Nat) (τ : XS) (q : Nat) (V : Nat → Value) (fc : Nat → Int32) (nx : Option Nat) (W : Nat → Value), 1000 ≤ F → dd ≤ D → Ag P lo hi q (some l) τ.2.2.2.1 → l ≠ q → τ.2.2.2.1 l = some (.inr (12, W)) → W 0 = Wl 0 → W 1 = Wl 1 → W 2 = va_rf nx → Fa V fc →
    cs2 F D f q τ V nx n op (u fc) (lp (x12_holds_B2 F (xd_holds F D) f q) F (some f, Y τ q V))
/-- one turn of the loop -/
theorem B2_step {F D f q l a fu : Nat} {τ : XS} {V V1 : Nat → Value} {W Wf : Nat → Value} {nx : Option Nat} {v op : Nat} {h : Int32} (hl : l ≠ q) (hf : f ≠ q) (hW : τ.2.2.2.1 l = some (.inr (12, W))) (hWf : τ.2.2.2.1 f = some (.inr (12, Wf))) (w0 : W 0 = .ref a) (w2 : W 2 = va_rf nx) (f1 : Wf 1 = .int (dec op)) (e1 : xd_holds F D a q (Y τ q V) = some (h, Y τ q V1, 0, 0)) : lp (x12_holds_B2 F (xd_holds F D) f q) (fu + 1) (some l, Y τ q V) = if h = 2 then some (h, Y τ q V1, 0, 0) else if h = dec op then some (h, Y τ q V1, 0, 0) else lp (x12_holds_B2 F (xd_holds F D) f q) fu (nx, Y τ q V1) := by
  have hY : ∀ V, (Y τ q V).2.2.2.1 l = some (.inr (12, W)) := fun V => (Y_o hl).trans hW
  have hYf : ∀ V, (Y τ q V).2.2.2.1 f = some (.inr (12, Wf)) := fun V => (Y_o hf).trans hWf
  rw [lp_s]
  generalize lp (x12_holds_B2 F (xd_holds F D) f q) fu = RR
  simp only [x12_holds_B2]
  rw [if_neg (by simp)]
  simp only [ob_s]
  rw [gQ_of (q := some a) (hY _) (by simp) w0]
  simp only [ob_s]
  rw [e1]
  simp only [ob_s, tk_00]
  rw [gI_of (hYf _) (by simp) f1, gQ_of (hY _) (by simp) w2]
  simp only [ob_s]
theorem cs2_step {F D f q fu n op : Nat} {τ : XS} {V V1 : Nat → Value} {nx : Option Nat} {u : Option Int32} {h : Int32} {X : XR Int32} (hf : F ≤ fu + n) (hh : hs u h V V1) (hX : X = if h = 2 then some (h, Y τ q V1, 0, 0) else if h = dec op then some (h, Y τ q V1, 0, 0) else lp (x12_holds_B2 F (xd_holds F D) f q) fu (nx, Y τ q V1)) : cs2 F D f q τ V nx n op u X := by
  obtain ⟨k1, r1⟩ := hh
  refine ⟨V1, k1, ?_⟩
  revert r1
  cases u with
  | none =>
    intro r1
    have r1 : h = 2 := r1
    rw [if_pos r1, r1] at hX
    exact hX
  | some x =>
    intro ⟨r1, r2⟩
    subst r1
    rw [if_neg (by rcases r2 with rfl | rfl <;> decide)] at hX
    refine ⟨r2, ?_⟩
    by_cases hd : h = dec op
    · rw [if_pos hd] at hX
      exact Or.inl ⟨hd, hX⟩
    · rw [if_neg hd] at hX
      exact Or.inr ⟨hd, fu, hf, hX⟩
theorem ChS_base {P : Pl} {lo hi lo2 hi2 dd l a op : Nat} {u : sD} {Wl : Nat → Value} (h1 : lo ≤ l) (h2 : l < hi) (hl : P l = some (.inr (12, Wl))) (hp : Wl 0 = .ref a) (hd1 : Wl 1 = .int (dec op)) (hs : HoX P lo2 hi2 dd a u) (h3 : lo ≤ lo2) (h4 : hi2 ≤ hi) (h5 : l < lo2 ∨ hi2 ≤ l) : ChS P lo hi dd l l op u 1 := by
  refine ⟨h1, h2, h1, h2, ⟨Wl, hl, hd1⟩, Wl, hl, ?_⟩
  intro F D τ q V fc nx W hF hD hA hq hW w0 w1 w2 hV
  obtain ⟨a1, a2, a3⟩ := hs
  obtain ⟨v, V', e1, r1⟩ := a3 F D τ q V fc hF hD (hA.sub h3 h4 (fun b b1 b2 _ => ⟨fun e => by cases e; omega, rfl⟩)) hV
  obtain ⟨F', rfl⟩ : ∃ g, F = g + 1 := ⟨F - 1, by omega⟩
  exact cs2_step (Nat.le_refl _) r1 (B2_step (v := 0) hq hq hW hW (w0.trans hp) w2 (w1.trans hd1) e1)
theorem ChS_step {P P2 : Pl} {lo hi hi2 lo3 hi3 dd f l l2 a2 op n : Nat} {u u2 : sD} {Wl Wl2 W2 : Nat → Value} (h : ChS P lo hi dd f l op u n) (hn : n < 500) (hPl : P l = some (.inr (12, Wl))) (hP : ∀ b, lo ≤ b → b < hi → b ≠ l → P2 b = P b) (hl : P2 l = some (.inr (12, Wl2))) (w0 : Wl2 0 = Wl 0) (w1 : Wl2 1 = Wl 1) (w2 : Wl2 2 = .ref l2)
    (h1 : hi ≤ l2) (h2 : l2 < hi2) (hl2 : P2 l2 = some (.inr (12, W2))) (s0 : W2 0 = .ref a2) (hs : HoX P2 lo3 hi3 dd a2 u2) (h3 : hi ≤ lo3) (h4 : hi3 ≤ hi2) (h5 : l2 < lo3 ∨ hi3 ≤ l2) : ChS P2 lo hi2 dd f l2 op (jd op u u2) (n + 1) := by
  obtain ⟨c1, c2, c3, c4, ⟨Wf, c5, c5'⟩, Wl', c6, c7⟩ := h
  have : Wl' = Wl := by
    have := hPl.symm.trans c6
    simpa using this.symm
  subst this
  have hf2 : ∃ W, P2 f = some (.inr (12, W)) ∧ W 1 = .int (dec op) := by
    by_cases hfl : f = l
    · refine ⟨Wl2, by rw [hfl]; exact hl, ?_⟩
      rw [w1]
      have := c5.symm.trans ((congrArg P hfl).trans c6)
      have : Wf = Wl' := by simpa using this
      rw [← this]
      exact c5'
    · exact ⟨Wf, (hP f c1 c2 hfl).trans c5, c5'⟩
  refine ⟨c1, by omega, by omega, h2, hf2, W2, hl2, ?_⟩
  intro F D τ q V fc nx W hF hD hA hq hW k0 k1 k2 hV
  obtain ⟨gl1, gl2⟩ := hA l (by omega) (by omega) (fun e => by cases e; omega) 12 Wl2 hl (by decide) (by decide)
  obtain ⟨Wf2, hf3, hf4⟩ := hf2
  obtain ⟨gf1, gf2⟩ := hA f (by omega) (by omega) (fun e => by cases e; omega) 12 Wf2 hf3 (by decide) (by decide)
  obtain ⟨V1, kk, r1⟩ := c7 F D τ q V fc (some l2) Wl2 hF hD (hA.sub (Nat.le_refl _) (by omega) (fun b b1 b2 b3 => ⟨fun e => by cases e; omega, hP b b1 b2 (fun e => b3 (by rw [e]))⟩)) gl1 gl2 w0 w1 w2 hV
  unfold jd
  revert r1
  cases u fc with
  | none => exact fun r1 => ⟨V1, kk, r1⟩
  | some x =>
    intro ⟨r0, r1⟩
    simp only [ob_s]
    rcases r1 with ⟨r2, r3⟩ | ⟨r2, fu, f1, r3⟩
    · rw [if_pos (show x = (if op = 12 then 1 else 0) from r2)]
      exact ⟨V1, kk, r0, Or.inl ⟨r2, r3⟩⟩
    · rw [if_neg (show ¬ x = (if op = 12 then 1 else 0) from r2)]
      obtain ⟨a1, a2', a3⟩ := hs
      obtain ⟨v2, V2, e2, rr2⟩ := a3 F D τ q V1 fc hF hD (hA.sub (by omega) h4 (fun b b1 b2 _ => ⟨fun e => by cases e; omega, rfl⟩)) (hV.to kk)
      obtain ⟨fu, rfl⟩ : ∃ g, fu = g + 1 := ⟨fu - 1, by omega⟩
      obtain ⟨V3, k3, r4⟩ := cs2_step (F := F) (D := D) (f := f) (q := q) (fu := fu) (n := n + 1) (op := op) (τ := τ) (V := V1) (V1 := V2) (nx := nx) (by omega) rr2 (B2_step (v := 0) hq gf1 hW gf2 (k0.trans s0) k2 hf4 e2)
      rw [r3]
      exact ⟨V3, fun k hk => (k3 k hk).trans (kk k hk), r4⟩
theorem ChS_done {P : Pl} {lo hi dd f l n op : Nat} {u : sD} {Wl : Nat → Value} (h : ChS P lo hi dd f l op u n) (hn : n < 500) (hPl : P l = some (.inr (12, Wl))) (w2 : Wl 2 = va_rf none) : HoX P lo hi (dd + 1) f u := by
  obtain ⟨c1, c2, c3, c4, ⟨Wf, c5, c5'⟩, Wl', c6, c7⟩ := h
  have : Wl' = Wl := by
    have := hPl.symm.trans c6
    simpa using this.symm
  subst this
  refine ⟨c1, c2, fun F D τ q V fc hF hD hA hV => ?_⟩
  obtain ⟨D, rfl⟩ : ∃ d, D = d + 1 := ⟨D - 1, by omega⟩
  obtain ⟨gl1, gl2⟩ := hA l c3 c4 (by simp) 12 _ hPl (by decide) (by decide)
  obtain ⟨gf1, gf2⟩ := hA f c1 c2 (by simp) 12 _ c5 (by decide) (by decide)
  have hYf : ∀ V, (Y τ q V).2.2.2.1 f = some (.inr (12, Wf)) := fun V => (Y_o gf1).trans gf2
  obtain ⟨V1, kk, r1⟩ := c7 F D τ q V fc none _ hF (by omega) (hA.sub (Nat.le_refl _) (Nat.le_refl _) (fun b b1 b2 b3 => ⟨by simp, rfl⟩)) gl1 gl2 rfl rfl w2 hV
  have hst : xd_holds F (D + 1) f q (Y τ q V) = lp (x12_holds_B2 F (xd_holds F D) f q) F (some f, Y τ q V) := by
    show (if isC (Y τ q V) f [18] = true then x18_holds F f q (Y τ q V) else if isC (Y τ q V) f [13] = true then x13_holds F (xd_holds F D) f q (Y τ q V) else if isC (Y τ q V) f [12] = true then x12_holds F (xd_holds F D) f q (Y τ q V) else none) = _
    rw [if_neg (isC_no (hYf V) (by simp)), if_neg (isC_no (hYf V) (by simp)), if_pos (isC_of (hYf V) (by simp))]
    rfl
  rw [hst]
  revert r1
  cases u fc with
  | none =>
    intro r1
    exact ⟨2, V1, r1, kk, rfl⟩
  | some x =>
    intro ⟨r0, r1⟩
    rcases r1 with ⟨r2, r3⟩ | ⟨r2, fu, f1, r3⟩
    · exact ⟨x, V1, r3, kk, rfl, r0⟩
    · obtain ⟨fu, rfl⟩ : ∃ g, fu = g + 1 := ⟨fu - 1, by omega⟩
      refine ⟨x, V1, ?_, kk, rfl, r0⟩
      rw [r3, lp_s]
      simp only [x12_holds_B2]
      rw [if_pos trivial, gI_of (hYf _) (by simp) c5']
      simp only [ob_s]
      have : 1 - dec op = x := by
        unfold dec at r2 ⊢
        split at r2
        · rename_i h12
          rcases r0 with rfl | rfl
          · rw [if_pos h12]; rfl
          · exact absurd rfl r2
        · rename_i h12
          rcases r0 with rfl | rfl
          · exact absurd rfl r2
          · rw [if_neg h12]; rfl
      rw [this]
