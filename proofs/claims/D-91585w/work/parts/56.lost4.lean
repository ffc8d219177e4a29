section LOST4
variable {F : Nat} {τ : XS} {σ : MS}
theorem Kx.fresh (hw : WFp τ) {τ' : XS} (k : Kx τ τ') {e0 e : pE} (h : τ'.2.2.2.1 τ.2.2.2.2 = some e0) : Kx τ (xP τ' τ.2.2.2.2 e) := by
  obtain ⟨k1, k2, k3, k4⟩ := k
  refine ⟨k1, k2, fun a e1 h1 => ?_, k4.up h⟩
  obtain ⟨e2, q1, q2⟩ := k3 a e1 h1
  have := hw a e1 h1
  exact ⟨e2, (if_neg (by omega)).trans q1, q2⟩
theorem lost_best (hF : 1000 ≤ F) {W : Nat → Int32} {T z n : Nat} {p : Nat → Nat} (hn : n ≤ 100) (hw : ∀ i, i < n → LW F τ σ W T (p i)) (hq : ∀ i, i < n → σ.2 52 i = nI (p i)) {τ' : XS} {σ0 : MS} (km0 : Km σ σ0) {g : Nat → Int32} (hg : τ'.2.2.2.1 z = some (.inl (0, 10, .inl g))) (hG : ∀ d, d < 10 → g d = nI (cn (fun i => loP σ W T (p i) ∧ wbP σ W T (nI d) (p i)) n)) :
    ∃ v w, lp (x0_lost_B148 F z) F (-1, 0, τ') = some v ∧ lp (m_lost_B99 F (nI n)) F (-1, 0, 0, σ0) = some w ∧ ∃ r σ2, v = (r, τ', 0, 0) ∧ w = (r, σ2) ∧ Km σ σ2 := by
  have hb : ∀ d, cn (fun i => loP σ W T (p i) ∧ wbP σ W T (nI d) (p i)) n ≤ 100 := fun d => Nat.le_trans (cn_le _ _) hn
  generalize hC : (fun d : Nat => cn (fun i => loP σ W T (p i) ∧ wbP σ W T (nI d) (p i)) n) = C at *
  have hC' : ∀ d : Nat, cn (fun i => loP σ W T (p i) ∧ wbP σ W T (nI d) (p i)) n = C d := fun d => by rw [← hC]
  refine lp_join (BX := x0_lost_B148 F z) (BM := m_lost_B99 F (nI n)) (fun a b => ∃ (d : Nat) (best : Int32) (bc : Nat) (σ' : MS), d ≤ 10 ∧ a = (best, nI d, τ') ∧ b = (best, nI bc, nI d, σ') ∧ Km σ σ' ∧ ((best = -1 ∧ bc = 0) ∨ ∃ e, e < 10 ∧ best = nI e ∧ bc = C e ∧ 0 < C e)) (fun a _ => 10 - cN a.2.1) (fun v w => ∃ r σ2, v = (r, τ', 0, 0) ∧ w = (r, σ2) ∧ Km σ σ2) ?_ F _ _ ⟨0, -1, 0, σ0, by omega, rfl, rfl, km0, Or.inl ⟨rfl, rfl⟩⟩ (by show 10 - cN 0 < F; omega)
  intro RX RM a b hi ih
  obtain ⟨d, best, bc, σ', hd, rfl, rfl, km, hbest⟩ := hi
  unfold x0_lost_B148 m_lost_B99
  simp only [Int32.le_iff_toInt_le, li_10, ni_i (show d < 2147483648 by omega)]
  refine jn_ite (fun _ => ⟨_, _, rfl, rfl, best, σ', rfl, rfl, km⟩) (fun c1 => ?_)
  obtain ⟨b, σ2, e1, k2⟩ := lost_m112 hF hn hw hq (fun a1 => if nI bc < a1.1 then (RM (nI d, a1.1, nI d + 1, a1.2.2)) else (RM (best, nI bc, nI d + 1, a1.2.2))) best (nI bc) (nI d) km
  rw [e1, hC']
  have hbd : C d ≤ 100 := by rw [← hC']; exact hb d
  have hbcb : bc ≤ 100 := by
    rcases hbest with ⟨-, q⟩ | ⟨e, -, -, q, -⟩
    · omega
    · rw [q, ← hC']; exact hb e
  have hm : 10 - cN (nI d + 1) < 10 - cN (nI d) := by rw [← nI_succ, cN_nI (by omega), cN_nI (by omega)]; omega
  have hstay : ∃ v w, RX (best, nI d + 1, τ') = some v ∧ RM (best, nI bc, nI d + 1, σ2) = some w ∧ ∃ r σ2, v = (r, τ', 0, 0) ∧ w = (r, σ2) ∧ Km σ σ2 :=
    ih _ _ ⟨d + 1, best, bc, σ2, by omega, by rw [nI_succ], by rw [nI_succ d], k2, hbest⟩ hm
  have htake : 0 < C d → ∃ v w, RX (nI d, nI d + 1, τ') = some v ∧ RM (nI d, nI (C d), nI d + 1, σ2) = some w ∧ ∃ r σ2, v = (r, τ', 0, 0) ∧ w = (r, σ2) ∧ Km σ σ2 :=
    fun hp => ih _ _ ⟨d + 1, nI d, C d, σ2, by omega, by rw [nI_succ d], by rw [nI_succ d], k2, Or.inr ⟨d, by omega, rfl, rfl, hp⟩⟩ hm
  have gd : g d = nI (C d) := by rw [hG d (by omega), hC']
  simp only [gA_of hg, ob_s, okI_nI (show d < 10 by omega) (show 10 < 2147483648 by omega), if_true, ni_c (show d < 2147483648 by omega), gd, ni_i (show C d < 2147483648 by omega), li_0, Int32.lt_iff_toInt_lt, ni_i (show bc < 2147483648 by omega)]
  by_cases c2 : (C d : Int) ≤ 0
  · rw [if_pos c2, if_neg (by omega)]
    exact hstay
  · rw [if_neg c2]
    rcases hbest with ⟨rfl, hbc⟩ | ⟨e, he, rfl, hbc, hpos⟩
    · rw [if_pos (rfl : (-1 : Int32) = -1), if_pos (by omega)]
      exact htake (by omega)
    · have hne : ¬ nI e = -1 := by rw [i_eq, li_m1, ni_i (by omega)]; omega
      have ge : g e = nI (C e) := by rw [hG e he, hC']
      have hbe : C e ≤ 100 := by rw [← hC']; exact hb e
      rw [if_neg hne]
      simp only [okI_nI (show e < 10 by omega) (show 10 < 2147483648 by omega), if_true, ni_c (show e < 2147483648 by omega), ge, ni_i (show C e < 2147483648 by omega)]
      by_cases c3 : (C d : Int) ≤ (C e : Int)
      · rw [if_pos c3, if_neg (by omega)]
        exact hstay
      · rw [if_neg c3, if_pos (by omega)]
        exact htake (by omega)
theorem R.t0 (h : R τ σ) : R (xS τ 5 0) (sS σ 28 0) := by
  obtain ⟨s1, s2, s3, s4, s5, s6, s7, s8, s9⟩ := h.sc
  exact ⟨⟨h.s.1, h.s.2.1, h.s.2.2.1, h.s.2.2.2.1, h.s.2.2.2.2.1, rfl, h.s.2.2.2.2.2.2.1, h.s.2.2.2.2.2.2.2.1, h.s.2.2.2.2.2.2.2.2.1, h.s.2.2.2.2.2.2.2.2.2.1, h.s.2.2.2.2.2.2.2.2.2.2.1, h.s.2.2.2.2.2.2.2.2.2.2.2.1, h.s.2.2.2.2.2.2.2.2.2.2.2.2.1, h.s.2.2.2.2.2.2.2.2.2.2.2.2.2.1, h.s.2.2.2.2.2.2.2.2.2.2.2.2.2.2.1, h.s.2.2.2.2.2.2.2.2.2.2.2.2.2.2.2.1, h.s.2.2.2.2.2.2.2.2.2.2.2.2.2.2.2.2⟩, h.a, ⟨s1, s2, s3, s4, s5, s6, ⟨0, rfl, by omega⟩, s8, s9⟩, h.pl, h.dg, h.me, h.ru, h.fi, h.th, h.wa, h.dr, h.si, h.wo, h.as, h.wf⟩
theorem R.zX (h : R τ σ) (v : Int32) (q q' : Nat → Int32) : R (zX τ v q) (aS σ 52 q') := ⟨h.s, h.a, h.sc, h.pl, h.dg, h.me, h.ru, h.fi, h.th, h.wa, h.dr, h.si, h.wo, h.as, h.wf⟩
theorem op_lost (hF : 1000 ≤ F) (h : R τ σ) (x1 x2 : Int32) : Op σ (x0_lost F x1 x2 τ) (m_lost F x1 x2 σ) := by
  obtain ⟨N, hN, hNb⟩ := h.fi.1
  obtain ⟨T, hT, hTb⟩ := h.th.1
  obtain ⟨-, -, -, -, -, -, ⟨tp, htp, htpb⟩, -⟩ := h.sc
  simp only [x0_lost, m_lost, x0_in_e, m_in_e, ob_s, bI_0, ite_not, nx_e, h.e5]
  simp only [Int32.le_iff_toInt_le, Int32.lt_iff_toInt_lt, li_0, li_1, li_2, li_100]
  have hsw : ∀ {α : Type} (X Y : α), (if x1.toInt < 0 then X else if 100 < x1.toInt then X else Y) = if 0 ≤ x1.toInt ∧ x1.toInt ≤ 100 then Y else X := by
    intro α X Y
    by_cases c1 : x1.toInt < 0
    · rw [if_pos c1, if_neg (by omega)]
    · rw [if_neg c1]
      by_cases c2 : 100 < x1.toInt
      · rw [if_pos c2, if_neg (by omega)]
      · rw [if_neg c2, if_pos (by omega)]
  rw [hsw]
  refine Op.ite (fun c1 => ?_) (fun _ => Op.same h rfl rfl)
  by_cases c2 : 0 ≤ x2.toInt ∧ x2.toInt < 2
  · rw [if_pos c2, if_pos (show 0 ≤ x2.toInt ∧ x2.toInt ≤ 1 by omega)]
    refine Op.ite (fun c3 => ?_) (fun _ => Op.same h rfl rfl)
    obtain ⟨n, nb, rfl, ni⟩ := nn_of c1.1
    rw [ni_i nb] at c1
    have h1 := h.t0
    obtain ⟨v, w, e1, e2, b, q, q', rfl, rfl, hb⟩ := asks_j hF h1 (N := N) hN hNb (n := n) (by omega)
    rw [e1, e2]
    simp only [ob_s, tk_00]
    have h2 := h1.zX (nI n) q q'
    have hpf : ∀ s' : MS, Km (aS (sS σ 28 0) 52 q') s' → pf s' ≤ pf σ + 1 := by
      intro s' km
      unfold pf
      rw [km.1]
      exact Nat.le_succ _
    rcases hb with rfl | ⟨rfl, hb⟩
    · rw [if_pos (rfl : (0 : Int32) = 0), if_pos (rfl : (0 : Int32) = 0)]
      exact Op.mk rfl rfl h2 (hpf _ Km.rf) (by decide) (by decide)
    · rw [if_neg (show ¬ (1 : Int32) = 0 by decide), if_neg (show ¬ (1 : Int32) = 0 by decide)]
      obtain ⟨p, hp⟩ := Classical.axiomOfChoice (r := fun (i : Nat) (f : Nat) => i < n → f < N ∧ q i = nI f) (fun i => by
        by_cases hi : i < n
        · obtain ⟨-, f, q1, q2⟩ := hb i hi
          exact ⟨f, fun _ => ⟨q1, q2⟩⟩
        · exact ⟨0, fun z => absurd z hi⟩)
      obtain ⟨W, hW⟩ := lost_w hF h2 (N := N) (T := T) hN hNb hT hTb
      have hw : ∀ i, i < n → LW F (zX (xS τ 5 0) (nI n) q) (aS (sS σ 28 0) 52 q') W T (p i) := fun i hi => hW _ (hp i hi).1
      have hwf : WFp (zX (xS τ 5 0) (nI n) q) := h2.wf
      have hz : ∀ τ' : XS, ∀ e, Kx (zX (xS τ 5 0) (nI n) q) τ' → (∃ g, τ'.2.2.2.1 (zX (xS τ 5 0) (nI n) q).2.2.2.2 = some (.inl (0, 10, .inl g))) → Kx (zX (xS τ 5 0) (nI n) q) (xP τ' (zX (xS τ 5 0) (nI n) q).2.2.2.2 e) := by
        intro τ' e k ⟨g, hg⟩
        exact k.fresh hwf hg
      have k0 : Kx (zX (xS τ 5 0) (nI n) q) (xN (zX (xS τ 5 0) (nI n) q) (.inl (0, 10, .inl (fun _ => 0)))) := (Kx.rf h2.h).new _
      obtain ⟨b1, τ2, g2, c, s, q1, q2, q3, q4, q5, q6⟩ := lost_x55 hF (show n ≤ 100 by omega) hw (fun i hi => (hp i hi).2) (fun i hi => by have := (hp i hi).1; omega) hz (fun a1 => if x2 = 0 then (some (a1.1, a1.2.2, 0, 0)) else (lp (x0_lost_B148 F (zX (xS τ 5 0) (nI n) q).2.2.2.2) F ((-1), 0, a1.2.2))) x2 F 0 (xN (zX (xS τ 5 0) (nI n) q) (.inl (0, 10, .inl (fun _ => 0)))) (fun _ => 0) (by omega) (by omega) k0 (if_pos rfl) (fun d hd => rfl)
      obtain ⟨b2, σ2, m1, m2⟩ := lost_m50 (τ := zX (xS τ 5 0) (nI n) q) (σ := aS (sS σ 28 0) 52 q') hF (show n ≤ 100 by omega) hw (fun i hi => (hb i hi).1.symm.trans (hp i hi).2) (fun a1 => if x2 = 0 then (some (a1.1, a1.2.2)) else (lp (m_lost_B99 F (nI n)) F ((-1), 0, 0, a1.2.2))) x2
      have z0 : ∀ P, nI (cn P 0) = 0 := fun P => rfl
      rw [z0, show nI 0 = 0 from rfl] at q1
      rw [q1, m1, tk_tk]
      by_cases c4 : x2 = 0
      · rw [if_pos c4, if_pos c4]
        exact Op.mk (tk_s _ _ _ _ _ _) rfl (h2.kk q2 m2) (hpf _ m2) (by omega) (by omega)
      · rw [if_neg c4, if_neg c4]
        obtain ⟨v, w, r1, r2, r, σ3, rfl, rfl, k3⟩ := lost_best hF (show n ≤ 100 by omega) hw (fun i hi => (hb i hi).1.symm.trans (hp i hi).2) m2 q3 q4
        rw [r1, r2]
        exact Op.mk (tk_s _ _ _ _ _ _) rfl (h2.kk q2 k3) (hpf _ k3) (by omega) (by omega)
  · rw [if_neg c2, if_neg (show ¬ (0 ≤ x2.toInt ∧ x2.toInt ≤ 1) by omega)]
    exact Op.same h rfl rfl
end LOST4
