section JOIN8
variable {F : Nat} {τ : XS} {σ : MS}
theorem R.rj {n : Nat} (hn : n ≤ 8) (h : R τ σ) (ρ : Nat → Int32) : R (xS (rX τ ρ) 22 (nI n)) (rM σ (nI n) ρ) := by
  obtain ⟨s1, s2, s3, s4, s5, s6, s7, s8, s9⟩ := h.sc
  exact ⟨⟨h.s.1, h.s.2.1, h.s.2.2.1, h.s.2.2.2.1, h.s.2.2.2.2.1, h.s.2.2.2.2.2.1, h.s.2.2.2.2.2.2.1, h.s.2.2.2.2.2.2.2.1, h.s.2.2.2.2.2.2.2.2.1, h.s.2.2.2.2.2.2.2.2.2.1, rfl, h.s.2.2.2.2.2.2.2.2.2.2.2.1, h.s.2.2.2.2.2.2.2.2.2.2.2.2.1, h.s.2.2.2.2.2.2.2.2.2.2.2.2.2.1, h.s.2.2.2.2.2.2.2.2.2.2.2.2.2.2.1, h.s.2.2.2.2.2.2.2.2.2.2.2.2.2.2.2.1, h.s.2.2.2.2.2.2.2.2.2.2.2.2.2.2.2.2⟩, ⟨h.a.1, h.a.2.1, rfl, h.a.2.2.2.1, h.a.2.2.2.2.1, h.a.2.2.2.2.2.1, h.a.2.2.2.2.2.2.1, h.a.2.2.2.2.2.2.2.1, h.a.2.2.2.2.2.2.2.2⟩, ⟨s1, s2, s3, s4, s5, s6, s7, ⟨n, rfl, hn⟩, s9⟩, h.pl, h.dg, h.me, h.ru, h.fi, h.th, h.wa, h.dr, h.si, h.wo, h.as, h.wf⟩
theorem op_join (hF : 1000 ≤ F) (h : R τ σ) (x1 : Int32) : Op σ (x0_join F x1 τ) (m_join F x1 σ) := by
  obtain ⟨N, hN, hNb⟩ := h.fi.1
  obtain ⟨T, hT, hTb⟩ := h.th.1
  simp only [x0_join, m_join, m_in_e, ob_s, bI_0, ite_not, nx_e, h.e5]
  simp only [Int32.le_iff_toInt_le, Int32.lt_iff_toInt_lt, li_0, li_8]
  have hsw : ∀ {α : Type} (X Y : α), (if x1.toInt < 0 then X else if 8 < x1.toInt then X else Y) = if 0 ≤ x1.toInt ∧ x1.toInt ≤ 8 then Y else X := by
    intro α X Y
    by_cases c1 : x1.toInt < 0
    · rw [if_pos c1, if_neg (by omega)]
    · rw [if_neg c1]
      by_cases c2 : 8 < x1.toInt
      · rw [if_pos c2, if_neg (by omega)]
      · rw [if_neg c2, if_pos (by omega)]
  rw [hsw]
  refine Op.ite (fun c1 => ?_) (fun _ => Op.same h rfl rfl)
  refine Op.ite (fun c3 => ?_) (fun _ => Op.same h rfl rfl)
  obtain ⟨n, nb, rfl, ni⟩ := nn_of c1.1
  rw [ni_i nb] at c1
  have h1 := h.t0
  obtain ⟨v, w, e1, e2, b, q, q', rfl, rfl, hb⟩ := asks_j hF h1 (N := N) hN hNb (n := n) (by omega)
  rw [e1, e2]
  simp only [ob_s, tk_00]
  have h2 := h1.zX (nI n) q q'
  rcases hb with rfl | ⟨rfl, hb⟩
  · rw [if_pos (rfl : (0 : Int32) = 0), if_pos (rfl : (0 : Int32) = 0)]
    exact Op.mk rfl rfl h2 (Nat.le_succ _) (by decide) (by decide)
  rw [if_neg (show ¬ (1 : Int32) = 0 by decide), if_neg (show ¬ (1 : Int32) = 0 by decide)]
  obtain ⟨p, hp⟩ := Classical.axiomOfChoice (r := fun (i : Nat) (f : Nat) => i < n → f < N ∧ q i = nI f) (fun i => by
    by_cases hi : i < n
    · obtain ⟨-, f, q1, q2⟩ := hb i hi
      exact ⟨f, fun _ => ⟨q1, q2⟩⟩
    · exact ⟨0, fun z => absurd z hi⟩)
  generalize hτb : zX (xS τ 5 0) (nI n) q = τb at *
  generalize hσb : aS (sS σ 28 0) 52 q' = σb at *
  have bN : σb.1 57 = nI N := by rw [← hσb]; exact hN
  have bT : σb.1 68 = nI T := by rw [← hσb]; exact hT
  have b18 : τb.1.1 18 = nI T := h2.e18.trans bT
  have b21 : τb.1.1 21 = nI n := by rw [← hτb]; rfl
  have b9 : ∀ i, i < n → τb.1.2 9 i = nI (p i) := fun i hi => by rw [← hτb]; exact (hp i hi).2
  have b52 : ∀ i, i < n → σb.2 52 i = nI (p i) := fun i hi => by rw [← hσb]; exact (hb i hi).1.symm.trans (hp i hi).2
  obtain ⟨W, hW⟩ := wants2 hF h2 bN hNb
  have hn : n ≤ 8 := by omega
  obtain ⟨p1, p2⟩ := pw8 hn
  -- who may be joined with what
  have ha : ∀ i x, ((i < n ∧ x < T) ∧ jnl σb W p i x) → jna σb p i x ≤ 8 := by
    rintro i x ⟨⟨hi, hx⟩, -⟩
    obtain ⟨-, -, -, f0, f1⟩ := finds_r h2 bN hNb (hp i hi).1
    obtain ⟨-, -, -, t0, t1⟩ := things_r h2 bT hTb hx
    exact (ag_n ⟨f0, f1⟩ ⟨t0, t1⟩).2
  obtain ⟨px, hpx⟩ : ∃ px : Nat → Nat → Nat, px = fun i x => @ite _ ((i < n ∧ x < T) ∧ jnl σb W p i x) (Classical.propDecidable _) (100 + jna σb p i x) 0 := ⟨_, rfl⟩
  obtain ⟨pm, hpm⟩ : ∃ pm : Nat → Nat → Int, pm = fun i x => @ite _ ((i < n ∧ x < T) ∧ jnl σb W p i x) (Classical.propDecidable _) (jna σb p i x : Int) (-1) := ⟨_, rfl⟩
  have hpx1 : ∀ i x, (((i < n ∧ x < T) ∧ jnl σb W p i x) → px i x = 100 + jna σb p i x) ∧ (¬ ((i < n ∧ x < T) ∧ jnl σb W p i x) → px i x = 0) := by
    intro i x
    rw [hpx]
    exact ⟨fun q => if_pos q, fun q => if_neg q⟩
  have hpm1 : ∀ i x, (((i < n ∧ x < T) ∧ jnl σb W p i x) → pm i x = jna σb p i x) ∧ (¬ ((i < n ∧ x < T) ∧ jnl σb W p i x) → pm i x = -1) := by
    intro i x
    rw [hpm]
    exact ⟨fun q => if_pos q, fun q => if_neg q⟩
  have hpx2 : ∀ i, i < n → ∀ y, y < T → jnp σb W p i y = px i y := by
    intro i hi y hy
    by_cases q : jnl σb W p i y
    · rw [(hpx1 i y).1 ⟨⟨hi, hy⟩, q⟩, jnp, if_pos q]
    · rw [(hpx1 i y).2 (fun z => q z.2), jnp, if_neg q]
  have hpm2 : ∀ i, i < n → ∀ y, y < T → jnm σb W p i y = pm i y := by
    intro i hi y hy
    by_cases q : jnl σb W p i y
    · rw [(hpm1 i y).1 ⟨⟨hi, hy⟩, q⟩, jnm, if_pos q]
    · rw [(hpm1 i y).2 (fun z => q z.2), jnm, if_neg q]
  -- AshCity's side
  obtain ⟨b1, τ2, cc, ss, x1, x2, x3, x4, x5⟩ := join_x38 hF h2 hn bN hNb bT hTb (fun f hf => (hW f hf).1) (fun i hi => (hp i hi).1) b9 (fun a1 => (x0_most F ((1 <<< (nI n &&& 31)) - 1) 0 a1.2).bind (fun r2 => tk r2.2.2.1 r2.2.2.2 (lp (x0_join_B164 F (nI n)) F ((1 <<< (nI n &&& 31)) - 1, 0, r2.1, 0, 0, r2.2.1)))) F 0 τb (by omega) (by omega) (Kjx.rf h2) (fun i' hi' => by omega)
  rw [show nI 0 = 0 from rfl] at x1
  rw [x1]
  have hfull : (1 : Int32) <<< (nI n &&& 31) - 1 = nI (2 ^ n - 1) := by rw [zz_3 hn, show (1 : Int32) = nI 1 from rfl, sb_n p1]
  simp only [hfull]
  have hx3 : ∀ i', i' < n → ∀ y, y < T → τ2.1.2 (11 + i') y = nI (px i' y) := fun i' hi' y hy => by rw [x3 i' hi' y hy, hpx2 i' hi' y hy]
  have hprb : ∀ i' x, px i' x ≤ 108 := by
    intro i' x
    by_cases q : (i' < n ∧ x < T) ∧ jnl σb W p i' x
    · rw [(hpx1 i' x).1 q]; have := ha i' x q; omega
    · rw [(hpx1 i' x).2 q]; omega
  obtain ⟨g', e3⟩ := most_x (τ := τ2) (x2 := 0) (U := fun _ => False) hF hn hTb (by rw [x2.1]; exact b21) (by rw [x2.1]; exact b18) (fun x hx i' hi' => ⟨hx3 i' hi' x hx, hprb i' x⟩) (fun x hx => by
    rw [lgc 0 (show x < 60 by omega), b64_0]
    simp) (fun k s hs => vx_b hn ha hpx1 k s hs) (show 2 ^ n - 1 < 2 ^ n by omega) (τ2.1.2 20)
  rw [show qX τ2 (τ2.1.2 20) = τ2 by unfold qX; rw [aS_id]] at e3
  obtain ⟨c, g, hbs, hv, hc8, hg8⟩ := vx_val (U := fun _ => False) hn ha hpx1 T (show 2 ^ n - 1 < 256 by omega)
  have hst : stx n (2 ^ n - 1) = fun j => 0 ≤ j ∧ j < n := by
    funext j
    apply propext
    unfold stx
    rw [Nat.testBit_two_pow_sub_one]
    simp
  rw [hst] at hbs
  rw [e3]
  simp only [ob_s, tk_00, hv]
  -- the reference's side
  obtain ⟨b2, σ2, m1, m2, m3⟩ := join_m38 hF h2 hn bN hNb bT hTb (fun f hf => (hW f hf).2) (fun i hi => (hp i hi).1) b52 (fun a1 => lp (m_join_B107 F (fun a2 => (m_bestFrom F 0 (nI n) a2.2).bind (fun r3 => lp (m_join_B147 F (nI n) (r3.1 / 1000)) F (r3.1, 0, sS r3.2 69 (nI n)))) (nI n)) F (0, a1.2))
  rw [m1]
  obtain ⟨b3, σ3, n1, n2, n3, n4⟩ := join_m107 hF (fun a2 => (m_bestFrom F 0 (nI n) a2.2).bind (fun r3 => lp (m_join_B147 F (nI n) (r3.1 / 1000)) F (r3.1, 0, sS r3.2 69 (nI n)))) (nI n) m2
  simp only [n1]
  have hm3 : ∀ i', i' < n → ∀ y, y < T → (σ3.2 57 (60 * i' + y)).toInt = pm i' y := fun i' hi' y hy => by rw [n3, m3 i' hi' y hy, hpm2 i' hi' y hy]
  have hU3 : ∀ y, y < T → (¬ σ3.2 56 y = 0 ↔ False) := fun y hy => by
    rw [n4 y (by omega)]
    simp
  have hpmb : ∀ i' x, -1 ≤ pm i' x ∧ pm i' x ≤ 8 := by
    intro i' x
    by_cases q : (i' < n ∧ x < T) ∧ jnl σb W p i' x
    · rw [(hpm1 i' x).1 q]; have := ha i' x q; omega
    · rw [(hpm1 i' x).2 q]; omega
  obtain ⟨r, g4, e5, e6⟩ := best_m (σ := σ3) (fi := 0) (U := fun _ => False) hF hn (by omega) hTb (by rw [n2.1]; exact bT) (fun x hx i' hi' => ⟨hm3 i' hi' x hx, hpmb i' x⟩) hU3 (fun k s hs => vm_b hn ha hpm1 k s hs) (σ3.2 54)
  rw [aS_id, show nI 0 = 0 from rfl] at e5
  obtain ⟨c', g5, hbs', hv', -, -⟩ := vm_val (fi := 0) (U := fun _ => False) hn ha hpm1 T
  obtain ⟨u1, u2⟩ := Bs_u hbs hbs'
  subst u1
  subst u2
  have hr : r = nI (1000 * c + g) := by rw [i_eq, e6, hv', ni_i (by omega)]
  have hdiv : nI (1000 * c + g) / 1000 = nI c := by
    rw [show (1000 : Int32) = nI 1000 from rfl, dv_n (by omega) (by omega) (by omega)]
    congr 1
    omega
  simp only [e5, ob_s, hr, hdiv]
  have kx2 : Kjx τb (qX τ2 g') := by
    refine ⟨x2.1, fun j a b => ?_, x2.2.2.1, x2.2.2.2.1, x2.2.2.2.2⟩
    rw [← x2.2.1 j a b]
    exact if_neg b
  have km2 : Kj σb (aS σ3 54 g4) := by
    refine ⟨n2.1, fun j a b c d e f => ?_⟩
    rw [← n2.2 j a b c d e f]
    exact if_neg d
  have hρ : (qX τ2 g').1.2 19 = (aS σ3 54 g4).2 53 := by
    rw [kx2.2.1 19 (by omega) (by omega), km2.2 53 (by decide) (by decide) (by decide) (by decide) (by decide) (by decide)]
    exact h2.a19
  have es : rX (qX τ2 g') ((qX τ2 g').1.2 19) = qX τ2 g' := by unfold rX; rw [aS_id]
  have em : rM (aS σ3 54 g4) (nI n) ((aS σ3 54 g4).2 53) = sS (aS σ3 54 g4) 69 (nI n) := by
    unfold rM
    rw [show (aS σ3 54 g4).2 53 = (sS (aS σ3 54 g4) 69 (nI n)).2 53 from rfl, aS_id]
  obtain ⟨v, w', r1, r2, τ5, σ5, ρ, rfl, rfl, k5, k6⟩ := join_gr hF ha hpx1 hpm1 hn hTb b21 b18 bT F 0 (fun _ => False) c g 0 (2 ^ n - 1) 0 ((qX τ2 g').1.2 19) (qX τ2 g') (aS σ3 54 g4) (by omega) (by omega) hbs (by omega : 0 + c = c) (by omega) hst (fun y hy => by rw [b64_0]; simp) hU3 kx2 km2 (fun i' hi' y hy => by
    rw [show (qX τ2 g').1.2 (11 + i') = τ2.1.2 (11 + i') from if_neg (by omega)]
    exact hx3 i' hi' y hy) hm3
  rw [es, show nI 0 = 0 from rfl] at r1
  rw [hρ, em, show nI 0 = 0 from rfl] at r2
  rw [r1, r2]
  refine Op.mk (tk_s _ _ _ _ _ _) rfl ((h2.kj k5 k6).rj hn ρ) ?_ (by omega) (by omega)
  show cN (σ5.1 3) + cN (σ5.1 57) ≤ pf σ + 1
  rw [k6.1, ← hσb]
  exact Nat.le_succ _
end JOIN8
