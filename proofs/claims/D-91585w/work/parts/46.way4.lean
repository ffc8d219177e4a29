section WAYZ
variable {F : Nat} {τ : XS} {σ : MS} {W H n : Nat}
theorem nn_of {x : Int32} (h : 0 ≤ x.toInt) : ∃ n : Nat, n < 2147483648 ∧ x = nI n ∧ (n : Int) = x.toInt := by
  have h3 := x.toInt_lt
  have h4 := c_i h
  exact ⟨x.toNatClampNeg, by omega, (ni_eq h).symm, h4⟩
def lay (L : Nat → Int32) (y : Int32) : Nat → Int32
  | 0 => 0
  | k + 1 => if y < L k then lay L y k + 0 else lay L y k + 1
theorem lay_c {L L' : Nat → Int32} (h : Ag8 L L') (y : Int32) : ∀ k, k ≤ 8 → lay L y k = lay L' y k
  | 0, _ => rfl
  | k + 1, hk => by
    unfold lay
    rw [lay_c h y k (by omega), h k (by omega)]
theorem laid_x (hF : 1000 ≤ F) (y : Int32) : x0_laidBy F y τ = some (lay (τ.1.2 26) y 8, τ, 0, 0) := by
  unfold x0_laidBy
  refine lp_to (fun a => ∃ k : Nat, k ≤ 8 ∧ a = (lay (τ.1.2 26) y k, nI k, τ)) (fun a => 8 - cN a.2.1) (fun o => o = some (lay (τ.1.2 26) y 8, τ, 0, 0)) ?_ F _ ⟨0, by omega, rfl⟩ (by show 8 - cN 0 < F; omega)
  intro RX a hi ih
  obtain ⟨k, hk, rfl⟩ := hi
  unfold x0_laidBy_B4
  simp only [Int32.le_iff_toInt_le, li_8, ni_i (show k < 2147483648 by omega)]
  by_cases hend : k = 8
  · subst hend
    rw [if_pos (by omega)]
  · rw [if_neg (by omega)]
    simp only [okI_nI (show k < 8 by omega) (show 8 < 2147483648 by omega), if_true, ni_c (show k < 2147483648 by omega)]
    have hm : 8 - cN (nI k + 1) < 8 - cN (nI k) := by rw [← nI_succ, cN_nI (by omega), cN_nI (by omega)]; omega
    by_cases c : y < τ.1.2 26 k
    · rw [if_pos c]
      exact ih _ ⟨k + 1, by omega, by rw [nI_succ, lay, if_pos c]⟩ hm
    · rw [if_neg c]
      exact ih _ ⟨k + 1, by omega, by rw [nI_succ, lay, if_neg c]⟩ hm
theorem laid_m (hF : 1000 ≤ F) (K : Int32 × Int32 × MS → Option (Int32 × MS)) (x1 y : Int32) : lp (m_way_B38 F K x1 y) F (0, 0, σ) = K (lay (σ.2 71) y 8, nI 8, σ) := by
  refine lp_to (fun a => ∃ k : Nat, k ≤ 8 ∧ a = (lay (σ.2 71) y k, nI k, σ)) (fun a => 8 - cN a.2.1) (fun o => o = K (lay (σ.2 71) y 8, nI 8, σ)) ?_ F _ ⟨0, by omega, rfl⟩ (by show 8 - cN 0 < F; omega)
  intro RX a hi ih
  obtain ⟨k, hk, rfl⟩ := hi
  unfold m_way_B38
  simp only [Int32.le_iff_toInt_le, li_8, ni_i (show k < 2147483648 by omega)]
  by_cases hend : k = 8
  · subst hend
    rw [if_pos (by omega)]
  · rw [if_neg (by omega)]
    simp only [okI_nI (show k < 8 by omega) (show 8 < 2147483648 by omega), if_true, ni_c (show k < 2147483648 by omega)]
    have hm : 8 - cN (nI k + 1) < 8 - cN (nI k) := by rw [← nI_succ, cN_nI (by omega), cN_nI (by omega)]; omega
    by_cases c : y < σ.2 71 k
    · rw [if_pos c]
      exact ih _ ⟨k + 1, by omega, by rw [nI_succ, lay, if_pos c]⟩ hm
    · rw [if_neg c]
      exact ih _ ⟨k + 1, by omega, by rw [nI_succ, lay, if_neg c]⟩ hm
theorem way_m73 (hF : 1000 ≤ F) (hn : σ.1 0 * σ.1 1 = nI n) (hnb : n ≤ 100) (K : Int32 × MS → Option (Int32 × MS)) {x1 : Nat} (hx : x1 < 40) (x3 : Int32) {s : Nat} (hs : σ.2 72 x1 = nI s) (hsn : s < n) (f : Nat → Int32) : ∃ b g, lp (m_way_B73 F K (nI x1) x3) F (0, aS σ 74 f) = K (b, aS σ 74 g) ∧ ∀ c, c < n → g c = if c = s then 0 else -1 := by
  refine lp_to (fun a => ∃ (k : Nat) (g : Nat → Int32), k ≤ n ∧ a = (nI k, aS σ 74 g) ∧ ∀ c, c < k → g c = if c = s then 0 else -1) (fun a => n - cN a.1) (fun o => ∃ b g, o = K (b, aS σ 74 g) ∧ ∀ c, c < n → g c = if c = s then 0 else -1) ?_ F _ ⟨0, f, by omega, rfl, fun c hc => by omega⟩ (by show n - cN 0 < F; omega)
  intro RX a hi ih
  obtain ⟨k, g, hk, rfl, hg⟩ := hi
  unfold m_way_B73
  have x0 : ∀ f, (aS σ 74 f).1 0 * (aS σ 74 f).1 1 = nI n := fun f => hn
  have x72 : ∀ f, (aS σ 74 f).2 72 = σ.2 72 := fun f => rfl
  simp only [x0, x72, Int32.le_iff_toInt_le, ni_i (show k < 2147483648 by omega), ni_i (show n < 2147483648 by omega)]
  by_cases hend : k = n
  · subst hend
    rw [if_pos (by omega)]
    exact ⟨_, g, rfl, hg⟩
  · rw [if_neg (by omega)]
    simp only [okI_nI (show x1 < 40 by omega) (show 40 < 2147483648 by omega), okI_nI (show k < 100 by omega) (show 100 < 2147483648 by omega), if_true, ni_c (show k < 2147483648 by omega), ni_c (show x1 < 2147483648 by omega), hs, ni_ii (show k < 2147483648 by omega) (show s < 2147483648 by omega), nx_e, sA_aS]
    have hm : n - cN (nI k + 1) < n - cN (nI k) := by rw [← nI_succ, cN_nI (by omega), cN_nI (by omega)]; omega
    have hgo : ∀ v : Int32, v = (if k = s then 0 else -1) → ∃ b g', RX (nI k + 1, aS σ 74 (upd g k v)) = K (b, aS σ 74 g') ∧ ∀ c, c < n → g' c = if c = s then 0 else -1 := by
      intro v hv
      refine ih _ ⟨k + 1, _, by omega, by rw [nI_succ], fun c hc => ?_⟩ hm
      by_cases hck : c = k
      · rw [hck, ← hv]; exact if_pos rfl
      · rw [show upd g k v c = g c from if_neg hck]
        exact hg c (by omega)
    by_cases c : k = s
    · rw [if_pos c]
      exact hgo 0 (by rw [if_pos c])
    · rw [if_neg c]
      exact hgo (-1) (by rw [if_neg c])
theorem R.yX (h : R τ σ) (f q g : Nat → Int32) : R (yX τ f q) (aS σ 74 g) := ⟨h.s, h.a, h.sc, h.pl, h.dg, h.me, h.ru, h.fi, h.th, h.wa, h.dr, h.si, h.wo, h.as, h.wf⟩
theorem op_way (hF : 1000 ≤ F) (h : R τ σ) (x1 : Int32) : Op σ (x0_way F x1 τ) (m_way F x1 σ) := by
  obtain ⟨v, w, h1, h2, b, E, L, E', L', hb, rfl, rfl, hE, hL, hB⟩ := settle_j hF h
  obtain ⟨-, ⟨N, hN, hNb⟩, -, -, hh⟩ := h.as
  rw [hN, cN_nI (by omega)] at hh
  obtain ⟨s1, s2, s3, s4, -⟩ := h.sc
  obtain ⟨W, Wb, hW, Wi⟩ := nn_of (x := σ.1 0) (by omega)
  obtain ⟨H, Hb, hH, Hi⟩ := nn_of (x := σ.1 1) (by omega)
  obtain ⟨w1, w2, w3⟩ := wh_b h
  have hWH : σ.1 0 * σ.1 1 = nI (W * H) := by rw [hW, hH, ni_mul]
  have hWHb : W * H ≤ 100 := by
    have : ((W * H : Nat) : Int) = (σ.1 0).toInt * (σ.1 1).toInt := by rw [← Wi, ← Hi]; exact Int.natCast_mul W H
    omega
  have hWHc : ((W * H : Nat) : Int) = (σ.1 0).toInt * (σ.1 1).toInt := by rw [← Wi, ← Hi]; exact Int.natCast_mul W H
  simp only [x0_way, m_way, x0_in_e, ob_s, bI_0, ite_not, h1, h2, tk_00, h.e35, Int32.le_iff_toInt_le, Int32.lt_iff_toInt_lt, li_0]
  have hsw : ∀ {α : Type} (X Y : α), (if x1.toInt < 0 then X else if (σ.1 90).toInt ≤ x1.toInt then X else Y) = if 0 ≤ x1.toInt ∧ x1.toInt < (σ.1 90).toInt then Y else X := by
    intro α X Y
    by_cases c1 : x1.toInt < 0
    · rw [if_pos c1, if_neg (by omega)]
    · rw [if_neg c1]
      by_cases c2 : (σ.1 90).toInt ≤ x1.toInt
      · rw [if_pos c2, if_neg (by omega)]
      · rw [if_neg c2, if_pos (by omega)]
  rw [hsw]
  refine Op.ite (fun c1 => ?_) (fun _ => Op.same h rfl rfl)
  refine Op.ite (fun _ => Op.mk rfl rfl (h.eXM E L E' L') (Nat.le_succ _) (by decide) (by decide)) (fun hb0 => ?_)
  rw [hN, ni_i (by omega)] at c1
  obtain ⟨x, xb, rfl, xi⟩ := nn_of c1.1
  have hxN : x < N := by rw [ni_i xb] at c1; omega
  obtain ⟨q1, q2, q3, q4⟩ := hh x hxN
  obtain ⟨s, sb, hs, si⟩ := nn_of q1
  obtain ⟨y, yb, hy, yi⟩ := nn_of q3
  have hb1 : b = 1 := by
    rcases (show b = 0 ∨ b = 1 by simpa [okB] using hb) with z | z
    · exact absurd z hb0
    · exact z
  have x29 : ∀ E L, (eX τ E L).1.2 29 = σ.2 72 := fun E L => h.a29
  have x30 : ∀ E L, (eX τ E L).1.2 30 = σ.2 73 := fun E L => h.a30
  have m72 : ∀ E L, (eM σ E L).2 72 = σ.2 72 := fun E L => rfl
  have m73 : ∀ E L, (eM σ E L).2 73 = σ.2 73 := fun E L => rfl
  have x25 : ∀ E L, (eX τ E L).1.2 25 = E := fun E L => rfl
  have x26 : ∀ E L, (eX τ E L).1.2 26 = L := fun E L => rfl
  have m70 : ∀ E L, (eM σ E L).2 70 = E := fun E L => rfl
  have m71 : ∀ E L, (eM σ E L).2 71 = L := fun E L => rfl
  have y29 : ∀ f q, (yX (eX τ E L) f q).1.2 29 = σ.2 72 := fun f q => h.a29
  have y32 : ∀ f q, (yX (eX τ E L) f q).1.2 32 = q := fun f q => rfl
  simp only [x30, m73, okI_nI (show x < 40 by omega) (show 40 < 2147483648 by omega), if_true, ni_c xb, hy, okI_nI (show y < 8 by omega) (show 8 < 2147483648 by omega), ni_c yb, nx_e, x25, m70, laid_x hF, ob_s, tk_00, laid_m hF, x26, m71, ← hE y (by omega), ← lay_c hL (E y) 8 (Nat.le_refl _), show okI 0 100 = true from rfl]
  generalize lay L (E y) 8 = lv
  have hsn : s < W * H := by omega
  have ex : eX τ E L = yX (eX τ E L) ((eX τ E L).1.2 31) ((eX τ E L).1.2 32) := (yX_id _).symm
  have em : eM σ E' L' = aS (eM σ E' L') 74 ((eM σ E' L').2 74) := (aS_id _ _).symm
  have t0 : (eX τ E L).1.1 0 = nI W := h.e0.trans hW
  have t1 : (eX τ E L).1.1 1 = nI H := h.e1.trans hH
  rw [show lp (x0_way_B38 F _ (nI x) lv) F (0, eX τ E L) = lp (x0_way_B38 F _ (nI x) lv) F (0, yX (eX τ E L) ((eX τ E L).1.2 31) ((eX τ E L).1.2 32)) by rw [← ex], way_x38 hF (by rw [t0, t1, ni_mul]) hWHb]
  simp only [yX_q, y29, y32, hs]
  have u0 : ∀ (q : Nat → Int32) (v : Int32), upd q (0 : Int32).toNatClampNeg v (0 : Int32).toNatClampNeg = v := fun q v => if_pos rfl
  simp only [u0, okI_nI (show s < 100 by omega) (show 100 < 2147483648 by omega), if_true, ni_c sb, yX_f]
  generalize hq0 : upd ((eX τ E L).1.2 32) (0 : Int32).toNatClampNeg (nI s) = q0
  generalize hf0 : upd (fl (W * H) (-1) ((eX τ E L).1.2 31)) s 0 = f0
  have hf0s : ∀ c, c < W * H → f0 c = if c = s then 0 else -1 := by
    intro c hc
    rw [← hf0]
    unfold upd fl
    by_cases hcs : c = s
    · rw [if_pos hcs, if_pos hcs]
    · rw [if_neg hcs, if_neg hcs, if_pos hc]
  have hcnt : cnt f0 (W * H) = 1 := by
    rw [← hf0, cnt_u (if_pos hsn) (by decide) hsn, cnt_f (f := fl (W * H) (-1) ((eX τ E L).1.2 31)) (fun c hc => if_pos hc)]
  obtain ⟨r, f', q', e1, e2⟩ := way_x93 (τ := eX τ E L) (n := W * H) hF t0 t1 rfl hWHb (by omega) (by omega) lv hsn f0 q0 hf0s (by rw [← hq0]; rfl) hcnt
  rw [e1]
  have mn : (eM σ E' L').1 0 * (eM σ E' L').1 1 = nI (W * H) := hWH
  rw [show lp (m_way_B73 F _ (nI x) lv) F (0, eM σ E' L') = lp (m_way_B73 F _ (nI x) lv) F (0, aS (eM σ E' L') 74 ((eM σ E' L').2 74)) by rw [← em]]
  obtain ⟨b', g, e3, e4⟩ := way_m73 (σ := eM σ E' L') hF mn hWHb (fun a2 => (m_isBorder F (a2.2.2 72 x) a2.2).bind (fun r2 => if r2.1 = 0 then (lp (m_way_B134 F lv) F (1, r2.2)) else (some (0, r2.2)))) (show x < 40 by omega) lv hs hsn ((eM σ E' L').2 74)
  rw [e3]
  have g72 : (aS (eM σ E' L') 74 g).2 72 = σ.2 72 := rfl
  simp only [g72, hs, m_isBorder_e (σ := aS (eM σ E' L') 74 g) (show (aS (eM σ E' L') 74 g).1 0 = nI W from hW) (show (aS (eM σ E' L') 74 g).1 1 = nI H from hH) (show 4 ≤ W ∧ W ≤ 10 by omega) (show 4 ≤ H ∧ H ≤ 10 by omega) sb, ob_s, bI_0, ite_not]
  have hwk : (fun c => lv < (eX τ E L).1.2 3 c) = fun c => lv < (eM σ E' L').2 0 c := by
    have : (eX τ E L).1.2 3 = (eM σ E' L').2 0 := h.a3
    rw [this]
  rw [hwk] at e2
  have d0 : ∀ c, dT (W * H) W s (fun c => lv < (eM σ E' L').2 0 c) 0 c = if c = s then 0 else -1 := fun c => by rw [dT]
  by_cases cb : bor W H s
  · rw [if_pos cb]
    have hw0 : wR (W * H) W H s (fun c => lv < (eM σ E' L').2 0 c) 0 := Or.inl ⟨0, by omega, rfl, ⟨s, hsn, cb, by rw [d0, if_pos rfl]; rfl⟩, fun j hj => by omega⟩
    rw [wR_u e2 hw0]
    exact Op.mk rfl rfl ((h.eXM E L E' L').yX f' q' g) (Nat.le_succ _) (by decide) (by decide)
  · rw [if_neg cb]
    obtain ⟨r', g', e5, e6⟩ := way_m134 (σ := eM σ E' L') hF hW hH mn hWHb (by omega) (by omega) (by omega) lv (s := s) g (fun c hc => by
      rw [d0, e4 c hc]
      by_cases hcs : c = s
      · rw [if_pos hcs, if_pos hcs]; exact li_0
      · rw [if_neg hcs, if_neg hcs]; exact li_m1) (fun c hc hbc => by
      rw [d0]
      by_cases hcs : c = s
      · subst hcs; exact absurd hbc cb
      · rw [if_neg hcs]; omega)
    rw [e5, wR_u e2 e6]
    exact Op.mk rfl rfl ((h.eXM E L E' L').yX f' q' g') (Nat.le_succ _) (by decide) (by decide)
end WAYZ
