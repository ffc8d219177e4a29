section WAYY
variable {F : Nat} {τ : XS} {σ : MS} {W H n : Nat}
def xI (n W H s : Nat) (wk : Nat → Prop) (k lo hd mid t : Nat) (f q : Nat → Int32) : Prop :=
  (k ≤ lo ∧ lo ≤ hd ∧ hd ≤ mid ∧ mid ≤ t ∧ lo < mid ∧ t = cnt f n) ∧
  (∀ i, lo ≤ i → i < mid → ∃ c, c < n ∧ q i = nI c ∧ dT n W s wk k c = k) ∧
  (∀ c, c < n → dT n W s wk k c = k → ∃ i, lo ≤ i ∧ i < mid ∧ q i = nI c) ∧
  (∀ c, c < n → (¬ dT n W s wk k c = -1 → (f c).toInt = dT n W s wk k c) ∧ (dT n W s wk k c = -1 → ((wk c ∧ ∃ i, lo ≤ i ∧ i < hd ∧ ∃ e, e < n ∧ q i = nI e ∧ bes W e c) → f c = nI (k + 1)) ∧ (¬ (wk c ∧ ∃ i, lo ≤ i ∧ i < hd ∧ ∃ e, e < n ∧ q i = nI e ∧ bes W e c) → f c = -1))) ∧
  (∀ i, mid ≤ i → i < t → ∃ c, c < n ∧ q i = nI c ∧ dT n W s wk k c = -1 ∧ f c = nI (k + 1)) ∧
  (∀ c, c < n → dT n W s wk k c = -1 → f c = nI (k + 1) → ∃ i, mid ≤ i ∧ i < t ∧ q i = nI c) ∧
  (∀ i, lo ≤ i → i < hd → ∀ c, c < n → q i = nI c → ¬ bor W H c) ∧
  ∀ j, j < k → ∀ c, c < n → bor W H c → ¬ dT n W s wk j c = j
theorem xI_nx {s : Nat} {wk : Nat → Prop} {k lo mid t : Nat} {f q : Nat → Int32} (hnb : n ≤ 100) (h : xI n W H s wk k lo mid mid t f q) :
    (∀ c, c < n → ((f c).toInt = dT n W s wk (k + 1) c)) ∧ (∀ c, c < n → (dT n W s wk (k + 1) c = ((k + 1 : Nat) : Int) ↔ dT n W s wk k c = -1 ∧ f c = nI (k + 1))) ∧ ∀ j, j < k + 1 → ∀ c, c < n → bor W H c → ¬ dT n W s wk j c = j := by
  obtain ⟨⟨a1, a2, a3, a4, a5, a6⟩, h1, h2, h3, h4, h5, h6, h7⟩ := h
  have hcl := cnt_le f n
  have hex : ∀ c, (∃ i, lo ≤ i ∧ i < mid ∧ ∃ e, e < n ∧ q i = nI e ∧ bes W e c) ↔ ∃ e, e < n ∧ dT n W s wk k e = k ∧ bes W e c := by
    intro c
    constructor
    · rintro ⟨i, z1, z2, e, z3, z4, z5⟩
      obtain ⟨e', y1, y2, y3⟩ := h1 i z1 z2
      have : e = e' := ni_inj (by omega) (by omega) (z4.symm.trans y2)
      subst this
      exact ⟨e, z3, y3, z5⟩
    · rintro ⟨e, z1, z2, z3⟩
      obtain ⟨i, y1, y2, y3⟩ := h2 e z1 z2
      exact ⟨i, y1, y2, e, z1, y3, z3⟩
  have hv : ∀ c, c < n → (dT n W s wk (k + 1) c = ((k + 1 : Nat) : Int) ↔ dT n W s wk k c = -1 ∧ f c = nI (k + 1)) := by
    intro c hc
    rw [dT_n]
    constructor
    · rintro ⟨z1, z2, z3⟩
      exact ⟨z1, ((h3 c hc).2 z1).1 ⟨z2, (hex c).mpr z3⟩⟩
    · rintro ⟨z1, z2⟩
      by_cases hq : wk c ∧ ∃ i, lo ≤ i ∧ i < mid ∧ ∃ e, e < n ∧ q i = nI e ∧ bes W e c
      · exact ⟨z1, hq.1, (hex c).mp hq.2⟩
      · have := ((h3 c hc).2 z1).2 hq
        rw [z2, i_eq, li_m1, ni_i (by omega)] at this
        omega
  refine ⟨fun c hc => ?_, hv, fun j hj c hc hb => ?_⟩
  · by_cases hd : dT n W s wk k c = -1
    · by_cases hf : f c = nI (k + 1)
      · rw [(hv c hc).mpr ⟨hd, hf⟩, hf, ni_i (by omega)]
      · have hq : ¬ (wk c ∧ ∃ i, lo ≤ i ∧ i < mid ∧ ∃ e, e < n ∧ q i = nI e ∧ bes W e c) := fun z => hf (((h3 c hc).2 hd).1 z)
        rw [((h3 c hc).2 hd).2 hq, li_m1, dT_f (fun z => hq ⟨z.2.1, (hex c).mpr z.2.2⟩), hd]
    · rw [dT_k hd]
      exact (h3 c hc).1 hd
  · by_cases hjk : j = k
    · subst hjk
      intro hd
      obtain ⟨i, y1, y2, y3⟩ := h2 c hc hd
      exact h6 i y1 y2 c hc y3 hb
    · exact h7 j (by omega) c hc hb
theorem xI_up {s : Nat} {wk : Nat → Prop} {k lo mid t : Nat} {f q : Nat → Int32} (hnb : n ≤ 100) (h : xI n W H s wk k lo mid mid t f q) (hmt : mid < t) : xI n W H s wk (k + 1) mid mid t t f q := by
  obtain ⟨n1, n2, n3⟩ := xI_nx hnb h
  obtain ⟨⟨a1, a2, a3, a4, a5, a6⟩, h1, h2, h3, h4, h5, h6, h7⟩ := h
  refine ⟨⟨by omega, Nat.le_refl _, by omega, Nat.le_refl _, hmt, a6⟩, fun i z1 z2 => ?_, fun c hc hd => ?_, fun c hc => ⟨fun _ => n1 c hc, fun hd => ⟨fun z => ?_, fun _ => ?_⟩⟩, fun i z1 z2 => by omega, fun c hc hd hf => ?_, fun i z1 z2 => by omega, n3⟩
  · obtain ⟨c, y1, y2, y3, y4⟩ := h4 i z1 z2
    exact ⟨c, y1, y2, (n2 c y1).mpr ⟨y3, y4⟩⟩
  · obtain ⟨z1, z2⟩ := (n2 c hc).mp hd
    exact h5 c hc z1 z2
  · obtain ⟨-, i, z1, z2, -⟩ := z
    omega
  · rw [i_eq, n1 c hc, hd, li_m1]
  · exfalso
    have hcl := cnt_le f n
    have := n1 c hc
    rw [hf, hd, ni_i (by omega)] at this
    omega
theorem way_x93 (hF : 1000 ≤ F) (h0 : τ.1.1 0 = nI W) (h1 : τ.1.1 1 = nI H) (hWH : n = W * H) (hnb : n ≤ 100) (hW : 4 ≤ W ∧ W ≤ 10) (hH : 4 ≤ H ∧ H ≤ 10) (x2 : Int32) {s : Nat} (hs : s < n) (f q : Nat → Int32) (hf : ∀ c, c < n → f c = if c = s then 0 else -1) (hq : q 0 = nI s) (hc1 : cnt f n = 1) :
    ∃ r f' q', lp (x0_way_B93 F x2) F (1, 0, yX τ f q) = some (r, yX τ f' q', 0, 0) ∧ wR n W H s (fun c => x2 < τ.1.2 3 c) r := by
  refine lp_to (fun a => ∃ (k lo hd mid t : Nat) (f q : Nat → Int32), a = (nI t, nI hd, yX τ f q) ∧ xI n W H s (fun c => x2 < τ.1.2 3 c) k lo hd mid t f q) (fun a => n - cN a.2.1) (fun o => ∃ r f' q', o = some (r, yX τ f' q', 0, 0) ∧ wR n W H s (fun c => x2 < τ.1.2 3 c) r) ?_ F _ ⟨0, 0, 0, 1, 1, f, q, rfl, ⟨by omega, by omega, by omega, by omega, by omega, hc1.symm⟩, ?_, ?_, ?_, fun i z1 z2 => by omega, ?_, fun i z1 z2 => by omega, fun j hj => by omega⟩ (by show n - cN 0 < F; omega)
  · intro RX a hi ih
    obtain ⟨k, lo, hd, mid, t, f, q, rfl, hI⟩ := hi
    have hpro : ∀ k lo hd mid, hd < mid → xI n W H s (fun c => x2 < τ.1.2 3 c) k lo hd mid t f q → (∀ a', (∃ (k lo hd mid t : Nat) (f q : Nat → Int32), a' = (nI t, nI hd, yX τ f q) ∧ xI n W H s (fun c => x2 < τ.1.2 3 c) k lo hd mid t f q) → n - cN a'.2.1 < n - hd → ∃ r f' q', RX a' = some (r, yX τ f' q', 0, 0) ∧ wR n W H s (fun c => x2 < τ.1.2 3 c) r) → ∃ r f' q', x0_way_B93 F x2 RX (nI t, nI hd, yX τ f q) = some (r, yX τ f' q', 0, 0) ∧ wR n W H s (fun c => x2 < τ.1.2 3 c) r := by
      clear hI ih
      intro k lo hd mid hlt hI ih
      obtain ⟨⟨a1, a2, a3, a4, a5, a6⟩, g1, g2, g3, g4, g5, g6, g7⟩ := hI
      have hcl := cnt_le f n
      obtain ⟨y, hy, hqy, hdy⟩ := g1 hd a2 hlt
      have hfy : f y = nI k := by
        rw [i_eq, (g3 y hy).1 (by omega), hdy, ni_i (by omega)]
      have e31 : ∀ f q, (yX τ f q).1.2 31 = f := fun _ _ => rfl
      have e32 : ∀ f q, (yX τ f q).1.2 32 = q := fun _ _ => rfl
      unfold x0_way_B93
      simp only [Int32.le_iff_toInt_le, ni_i (show t < 2147483648 by omega), ni_i (show hd < 2147483648 by omega)]
      rw [if_neg (by omega)]
      simp only [e31, e32, okI_nI (show hd < 100 by omega) (show 100 < 2147483648 by omega), if_true, ni_c (show hd < 2147483648 by omega), hqy, nx_e, x0_isBorder_e (τ := yX τ f q) h0 h1 hW hH (show y < 2147483648 by omega), ob_s, tk_00, bI_0, ite_not, okI_nI (show y < 100 by omega) (show 100 < 2147483648 by omega), ni_c (show y < 2147483648 by omega)]
      by_cases cb : bor W H y
      · rw [if_pos cb]
        exact ⟨_, f, q, rfl, Or.inl ⟨k, by omega, hfy, ⟨y, hy, cb, hdy⟩, g7⟩⟩
      · rw [if_neg cb]
        obtain ⟨t', b, f', q', e1, B0, B1, B2, B3, B4, B5⟩ := way_x128 hF h0 h1 hWH hnb hW hH (fun a1 => RX (a1.1, nI hd + 1, a1.2.2)) x2 (nI hd) hy (by omega) f q hfy a6
        rw [e1]
        have hnm : ∀ m : Nat, m < 1000 → ¬ nI m = -1 := by
          intro m hm e
          rw [i_eq, li_m1, ni_i (by omega)] at e
          omega
        refine ih _ ⟨k, lo, hd + 1, mid, t', f', q', by rw [nI_succ hd], ⟨a1, by omega, by omega, by omega, a5, B5⟩, ?_, ?_, ?_, ?_, ?_, ?_, g7⟩ ?_
        · intro i z1 z2
          rw [B2 i (by omega)]
          exact g1 i z1 z2
        · intro c hc hd'
          obtain ⟨i, z1, z2, z3⟩ := g2 c hc hd'
          exact ⟨i, z1, z2, by rw [B2 i (by omega)]; exact z3⟩
        · intro c hc
          have key : (∃ i, lo ≤ i ∧ i < hd + 1 ∧ ∃ e, e < n ∧ q' i = nI e ∧ bes W e c) ↔ (∃ i, lo ≤ i ∧ i < hd ∧ ∃ e, e < n ∧ q i = nI e ∧ bes W e c) ∨ bes W y c := by
            constructor
            · rintro ⟨i, z1, z2, e, z3, z4, z5⟩
              rw [B2 i (by omega)] at z4
              by_cases hih : i = hd
              · right
                rw [hih, hqy] at z4
                have : y = e := ni_inj (by omega) (by omega) z4
                rw [this]
                exact z5
              · exact Or.inl ⟨i, z1, by omega, e, z3, z4, z5⟩
            · rintro (⟨i, z1, z2, e, z3, z4, z5⟩ | z)
              · exact ⟨i, z1, by omega, e, z3, by rw [B2 i (by omega)]; exact z4, z5⟩
              · exact ⟨hd, a2, by omega, y, hy, by rw [B2 hd (by omega)]; exact hqy, z⟩
          refine ⟨fun hd' => ?_, fun hd' => ?_⟩
          · have hfc := (g3 c hc).1 hd'
            rw [(B0 c hc).2 (fun z => hd' (by rw [← hfc, z.1, li_m1]))]
            exact hfc
          · rw [key]
            by_cases ho : (x2 < τ.1.2 3 c) ∧ ∃ i, lo ≤ i ∧ i < hd ∧ ∃ e, e < n ∧ q i = nI e ∧ bes W e c
            · have hfc := ((g3 c hc).2 hd').1 ho
              have hfc' : f' c = nI (k + 1) := by
                rw [(B0 c hc).2 (fun z => hnm (k + 1) (by omega) (by rw [← hfc]; exact z.1))]
                exact hfc
              exact ⟨fun _ => hfc', fun z => absurd ⟨ho.1, Or.inl ho.2⟩ z⟩
            · have hfc := ((g3 c hc).2 hd').2 ho
              refine ⟨fun z => ?_, fun z => ?_⟩
              · refine (B0 c hc).1 ⟨hfc, z.1, ?_⟩
                rcases z.2 with z2 | z2
                · exact absurd ⟨z.1, z2⟩ ho
                · exact z2
              · rw [(B0 c hc).2 (fun y => z ⟨y.2.1, Or.inr y.2.2⟩)]
                exact hfc
        · intro i z1 z2
          by_cases hit : i < t
          · obtain ⟨c, y1, y2, y3, y4⟩ := g4 i z1 hit
            refine ⟨c, y1, by rw [B2 i hit]; exact y2, y3, ?_⟩
            rw [(B0 c y1).2 (fun z => hnm (k + 1) (by omega) (by rw [← y4]; exact z.1))]
            exact y4
          · obtain ⟨c, y1, y2, y3, y4⟩ := B3 i (by omega) z2
            refine ⟨c, y1, y2, ?_, y4⟩
            refine Classical.byContradiction (fun hne => ?_)
            have := (g3 c y1).1 hne
            rw [y3, li_m1] at this
            exact hne this.symm
        · intro c hc hd' hf'
          by_cases hfc : f c = -1
          · obtain ⟨j, z1, z2, z3⟩ := B4 c hc hfc hf'
            exact ⟨j, by omega, z2, z3⟩
          · rw [(B0 c hc).2 (fun z => hfc z.1)] at hf'
            obtain ⟨i, z1, z2, z3⟩ := g5 c hc hd' hf'
            exact ⟨i, z1, by omega, by rw [B2 i z2]; exact z3⟩
        · intro i z1 z2 c hc hqc
          rw [B2 i (by omega)] at hqc
          by_cases hih : i = hd
          · rw [hih, hqy] at hqc
            have : y = c := ni_inj (by omega) (by omega) hqc
            rw [← this]
            exact cb
          · exact g6 i z1 (by omega) c hc hqc
        · show n - cN (nI hd + 1) < n - hd
          rw [← nI_succ, cN_nI (by omega)]
          omega
    have hcl := cnt_le f n
    have hb1 := hI.1
    have ih' : ∀ a', (∃ (k lo hd mid t : Nat) (f q : Nat → Int32), a' = (nI t, nI hd, yX τ f q) ∧ xI n W H s (fun c => x2 < τ.1.2 3 c) k lo hd mid t f q) → n - cN a'.2.1 < n - hd → ∃ r f' q', RX a' = some (r, yX τ f' q', 0, 0) ∧ wR n W H s (fun c => x2 < τ.1.2 3 c) r := by
      intro a' z1 z2
      refine ih a' z1 ?_
      show n - cN a'.2.1 < n - cN (nI hd)
      rw [cN_nI (by omega)]
      exact z2
    by_cases h1 : hd < mid
    · exact hpro k lo hd mid h1 hI ih'
    · have he : hd = mid := by omega
      subst he
      by_cases h2 : hd < t
      · exact hpro (k + 1) hd hd t h2 (xI_up hnb hI h2) ih'
      · unfold x0_way_B93
        simp only [Int32.le_iff_toInt_le, ni_i (show t < 2147483648 by omega), ni_i (show hd < 2147483648 by omega)]
        rw [if_pos (by omega)]
        obtain ⟨n1, n2, n3⟩ := xI_nx hnb hI
        obtain ⟨-, -, -, -, -, g5, -, -⟩ := hI
        have hno : ∀ j, ∀ c, c < n → ¬ dT n W s (fun c => x2 < τ.1.2 3 c) (k + 1 + j) c = ((k + 1 + j : Nat) : Int) := by
          intro j
          induction j with
          | zero =>
            intro c hc hd'
            obtain ⟨z1, z2⟩ := (n2 c hc).mp hd'
            obtain ⟨i, y1, y2, -⟩ := g5 c hc z1 z2
            omega
          | succ j ihj =>
            intro c hc hd'
            obtain ⟨-, -, e, z1, z2, -⟩ := dT_n.mp hd'
            exact ihj e z1 z2
        refine ⟨_, f, q, rfl, Or.inr ⟨rfl, fun j hj c hc hb => ?_⟩⟩
        by_cases hjk : j < k + 1
        · exact n3 j hjk c hc hb
        · have := hno (j - (k + 1)) c hc
          rw [show k + 1 + (j - (k + 1)) = j by omega] at this
          exact this
  · intro i z1 z2
    have : i = 0 := by omega
    subst this
    refine ⟨s, hs, hq, ?_⟩
    unfold dT
    rw [if_pos rfl]
    rfl
  · intro c hc hd'
    have hcs : c = s := by
      refine Classical.byContradiction (fun hne => ?_)
      unfold dT at hd'
      rw [if_neg hne] at hd'
      omega
    exact ⟨0, by omega, by omega, by rw [hcs]; exact hq⟩
  · intro c hc
    unfold dT
    rw [hf c hc]
    by_cases hcs : c = s
    · rw [if_pos hcs, if_pos hcs]
      exact ⟨fun _ => li_0, fun z => by omega⟩
    · rw [if_neg hcs, if_neg hcs]
      refine ⟨fun z => absurd rfl z, fun _ => ⟨fun z => ?_, fun _ => rfl⟩⟩
      obtain ⟨-, i, y1, y2, -⟩ := z
      omega
  · intro c hc hd' hfc
    exfalso
    rw [hf c hc] at hfc
    by_cases hcs : c = s
    · rw [if_pos hcs] at hfc
      exact absurd hfc (by decide)
    · rw [if_neg hcs] at hfc
      exact absurd hfc (by decide)
end WAYY
