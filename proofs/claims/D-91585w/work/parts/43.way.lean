/-! way: the least number of steps to the border -/
theorem jr_n {a b : Nat} (ha : a < 2147483648) (hb : b < 2147483648) (h : 0 < b) : jrem (nI a) (nI b) = nI (a % b) := by
  rw [i_eq, i_rem (by rw [ni_i ha]; omega) (by rw [ni_i hb]; omega), ni_i ha, ni_i hb, ni_i (Nat.lt_of_le_of_lt (Nat.mod_le a b) ha)]
  exact (Int.natCast_emod a b).symm
theorem dv_n {a b : Nat} (ha : a < 2147483648) (hb : b < 2147483648) (h : 0 < b) : nI a / nI b = nI (a / b) := by
  rw [i_eq, i_div (by rw [ni_i ha]; omega) (by rw [ni_i hb]; omega), ni_i ha, ni_i hb, ni_i (Nat.lt_of_le_of_lt (Nat.div_le_self a b) ha)]
  exact (Int.natCast_ediv a b).symm
theorem ni_ii {a b : Nat} (ha : a < 2147483648) (hb : b < 2147483648) : (nI a = nI b) = (a = b) := propext ⟨ni_inj ha hb, fun e => by rw [e]⟩
theorem ni_si {a b : Nat} (ha : a < 1000) (hb : b < 1000) : (nI a - nI b).toInt = (a : Int) - (b : Int) := by
  rw [i_sub (by rw [ni_i (by omega), ni_i (by omega)]; omega) (by rw [ni_i (by omega), ni_i (by omega)]; omega), ni_i (by omega), ni_i (by omega)]
abbrev bes (W a b : Nat) : Prop := a % W ≤ b % W + 1 ∧ b % W ≤ a % W + 1 ∧ a / W ≤ b / W + 1 ∧ b / W ≤ a / W + 1
abbrev bor (W H c : Nat) : Prop := c % W = 0 ∨ c % W = W - 1 ∨ c / W = 0 ∨ c / W = H - 1
noncomputable def dT (n W s : Nat) (wk : Nat → Prop) : Nat → Nat → Int
  | 0, c => if c = s then 0 else -1
  | k + 1, c => @ite _ (dT n W s wk k c = -1 ∧ wk c ∧ ∃ e, e < n ∧ dT n W s wk k e = k ∧ bes W e c) (Classical.propDecidable _) (k + 1) (dT n W s wk k c)
section DT
variable {n W s : Nat} {wk : Nat → Prop}
theorem dT_t {k c : Nat} (h : dT n W s wk k c = -1 ∧ wk c ∧ ∃ e, e < n ∧ dT n W s wk k e = k ∧ bes W e c) : dT n W s wk (k + 1) c = k + 1 := by
  unfold dT
  exact if_pos h
theorem dT_f {k c : Nat} (h : ¬ (dT n W s wk k c = -1 ∧ wk c ∧ ∃ e, e < n ∧ dT n W s wk k e = k ∧ bes W e c)) : dT n W s wk (k + 1) c = dT n W s wk k c := by
  rw [dT]
  exact if_neg h
theorem dT_b (k c : Nat) : -1 ≤ dT n W s wk k c ∧ dT n W s wk k c ≤ k := by
  induction k with
  | zero =>
    unfold dT
    split <;> omega
  | succ k ih =>
    by_cases h : dT n W s wk k c = -1 ∧ wk c ∧ ∃ e, e < n ∧ dT n W s wk k e = k ∧ bes W e c
    · rw [dT_t h]; omega
    · rw [dT_f h]; omega
theorem dT_n {k c : Nat} : dT n W s wk (k + 1) c = ((k + 1 : Nat) : Int) ↔ dT n W s wk k c = -1 ∧ wk c ∧ ∃ e, e < n ∧ dT n W s wk k e = k ∧ bes W e c := by
  by_cases h : dT n W s wk k c = -1 ∧ wk c ∧ ∃ e, e < n ∧ dT n W s wk k e = k ∧ bes W e c
  · rw [dT_t h]
    exact ⟨fun _ => h, fun _ => by omega⟩
  · rw [dT_f h]
    have := dT_b (n := n) (W := W) (s := s) (wk := wk) k c
    exact ⟨fun q => by omega, fun q => absurd q h⟩
theorem dT_k {k c : Nat} (h : ¬ dT n W s wk k c = -1) : dT n W s wk (k + 1) c = dT n W s wk k c := dT_f (fun q => h q.1)
theorem dT_e {k e : Nat} : dT n W s wk (k + 1) e = (k : Int) ↔ dT n W s wk k e = k := by
  by_cases h : dT n W s wk k e = -1 ∧ wk e ∧ ∃ e', e' < n ∧ dT n W s wk k e' = k ∧ bes W e' e
  · rw [dT_t h, h.1]
    exact ⟨fun q => by omega, fun q => by omega⟩
  · rw [dT_f h]
end DT
/-- the answer -/
def wR (n W H s : Nat) (wk : Nat → Prop) (r : Int32) : Prop := (∃ k, k < n ∧ r = nI k ∧ (∃ c, c < n ∧ bor W H c ∧ dT n W s wk k c = k) ∧ ∀ j, j < k → ∀ c, c < n → bor W H c → ¬ dT n W s wk j c = j) ∨ (r = -2 ∧ ∀ j, j < n → ∀ c, c < n → bor W H c → ¬ dT n W s wk j c = j)
theorem wR_u {n W H s : Nat} {wk : Nat → Prop} {r r' : Int32} (h : wR n W H s wk r) (h' : wR n W H s wk r') : r = r' := by
  rcases h with ⟨k, hk, rfl, ⟨c, hc, hb, hd⟩, hl⟩ | ⟨rfl, hl⟩
  · rcases h' with ⟨k', hk', rfl, ⟨c', hc', hb', hd'⟩, hl'⟩ | ⟨rfl, hl'⟩
    · by_cases h1 : k < k'
      · exact absurd hd (hl' k h1 c hc hb)
      · by_cases h2 : k' < k
        · exact absurd hd' (hl k' h2 c' hc' hb')
        · rw [show k = k' by omega]
    · exact absurd hd (hl' k hk c hc hb)
  · rcases h' with ⟨k', hk', rfl, ⟨c', hc', hb', hd'⟩, hl'⟩ | ⟨rfl, hl'⟩
    · exact absurd hd' (hl k' hk' c' hc' hb')
    · rfl
section WAYM
variable {F : Nat} {τ : XS} {σ : MS} {W H n : Nat}
theorem m_isBorder_e (h0 : σ.1 0 = nI W) (h1 : σ.1 1 = nI H) (hW : 4 ≤ W ∧ W ≤ 10) (hH : 4 ≤ H ∧ H ≤ 10) {c : Nat} (hc : c < 2147483648) : m_isBorder F (nI c) σ = some (bI (bor W H c), σ) := by
  have a1 := Nat.lt_of_le_of_lt (Nat.mod_le c W) hc
  have a2 := Nat.lt_of_le_of_lt (Nat.div_le_self c W) hc
  have hz : ¬ nI W = 0 := by rw [i_eq, ni_i (by omega), li_0]; omega
  have w1 : nI W - 1 = nI (W - 1) := by rw [show W = (W - 1) + 1 by omega, dn_s]; rfl
  have w2 : nI H - 1 = nI (H - 1) := by rw [show H = (H - 1) + 1 by omega, dn_s]; rfl
  have z0 : (0 : Int32) = nI 0 := rfl
  simp only [m_isBorder, h0, h1, hz, not_false_eq_true, if_true, jr_n hc (show W < 2147483648 by omega) (by omega), dv_n hc (show W < 2147483648 by omega) (by omega), w1, w2]
  simp only [i_eq, ni_i a1, ni_i a2, ni_i (show W - 1 < 2147483648 by omega), ni_i (show H - 1 < 2147483648 by omega), li_0]
  split
  · rw [bI_t (by omega)]
  · split
    · rw [bI_t (by omega)]
    · split
      · rw [bI_t (by omega)]
      · split
        · rw [bI_t (by omega)]
        · rw [bI_f (by omega)]
theorem x0_isBorder_e (h0 : τ.1.1 0 = nI W) (h1 : τ.1.1 1 = nI H) (hW : 4 ≤ W ∧ W ≤ 10) (hH : 4 ≤ H ∧ H ≤ 10) {c : Nat} (hc : c < 2147483648) : x0_isBorder F (nI c) τ = some (bI (bor W H c), τ, 0, 0) := by
  have a1 := Nat.lt_of_le_of_lt (Nat.mod_le c W) hc
  have a2 := Nat.lt_of_le_of_lt (Nat.div_le_self c W) hc
  have hz : ¬ nI W = 0 := by rw [i_eq, ni_i (by omega), li_0]; omega
  have w1 : nI W - 1 = nI (W - 1) := by rw [show W = (W - 1) + 1 by omega, dn_s]; rfl
  have w2 : nI H - 1 = nI (H - 1) := by rw [show H = (H - 1) + 1 by omega, dn_s]; rfl
  simp only [x0_isBorder, h0, h1, hz, not_false_eq_true, if_true, jr_n hc (show W < 2147483648 by omega) (by omega), dv_n hc (show W < 2147483648 by omega) (by omega), w1, w2]
  simp only [i_eq, ni_i a1, ni_i a2, ni_i (show W - 1 < 2147483648 by omega), ni_i (show H - 1 < 2147483648 by omega), li_0]
  split
  · rw [bI_t (by omega)]
  · split
    · rw [bI_t (by omega)]
    · split
      · rw [bI_t (by omega)]
      · split
        · rw [bI_t (by omega)]
        · rw [bI_f (by omega)]
theorem m_areBeside_e (h0 : σ.1 0 = nI W) (hW : 4 ≤ W ∧ W ≤ 10) {a b : Nat} (ha : a < 1000) (hb : b < 1000) : m_areBeside F (nI a) (nI b) σ = some (bI (bes W a b), σ) := by
  have hz : ¬ nI W = 0 := by rw [i_eq, ni_i (by omega), li_0]; omega
  have a1 := Nat.mod_le a W
  have a2 := Nat.div_le_self a W
  have b1 := Nat.mod_le b W
  have b2 := Nat.div_le_self b W
  have e1 : (nI (a % W) - nI (b % W)).toInt = ((a % W : Nat) : Int) - ((b % W : Nat) : Int) := ni_si (by omega) (by omega)
  have e2 : (nI (a / W) - nI (b / W)).toInt = ((a / W : Nat) : Int) - ((b / W : Nat) : Int) := ni_si (by omega) (by omega)
  simp only [m_areBeside, h0, hz, not_false_eq_true, if_true, jr_n (show a < 2147483648 by omega) (show W < 2147483648 by omega) (by omega), dv_n (show a < 2147483648 by omega) (show W < 2147483648 by omega) (by omega), jr_n (show b < 2147483648 by omega) (show W < 2147483648 by omega) (by omega), dv_n (show b < 2147483648 by omega) (show W < 2147483648 by omega) (by omega), m_in_e, ob_s, bI_0, ite_not, e1, e2, li_1, li_m1]
  split
  · split
    · rw [bI_t (by omega)]
    · rw [bI_f (by omega)]
  · rw [bI_f (by omega)]
theorem way_m193 (hF : 1000 ≤ F) (h0 : σ.1 0 = nI W) (hn : σ.1 0 * σ.1 1 = nI n) (hnb : n ≤ 100) (hW : 4 ≤ W ∧ W ≤ 10) (K : Int32 × MS → Option (Int32 × MS)) (x3 : Int32) {k c : Nat} (hk : k < 1000) (hc : c < n) (f : Nat → Int32) (hf : f c = -1) :
    ∃ b g, lp (m_way_B193 F K x3 (nI (k + 1)) (nI c)) F (0, aS σ 74 f) = K (b, aS σ 74 g) ∧ ((g = f ∧ ∀ e, e < n → ¬ (f e = nI k ∧ bes W e c)) ∨ (g = upd f c (nI (k + 1)) ∧ ∃ e, e < n ∧ f e = nI k ∧ bes W e c)) := by
  refine lp_to (fun a => ∃ (e : Nat) (g : Nat → Int32), e ≤ n ∧ a = (nI e, aS σ 74 g) ∧ ((g = f ∧ ∀ e', e' < e → ¬ (f e' = nI k ∧ bes W e' c)) ∨ (g = upd f c (nI (k + 1)) ∧ ∃ e', e' < n ∧ f e' = nI k ∧ bes W e' c))) (fun a => n - cN a.1) (fun o => ∃ b g, o = K (b, aS σ 74 g) ∧ ((g = f ∧ ∀ e, e < n → ¬ (f e = nI k ∧ bes W e c)) ∨ (g = upd f c (nI (k + 1)) ∧ ∃ e, e < n ∧ f e = nI k ∧ bes W e c))) ?_ F _ ⟨0, f, by omega, rfl, Or.inl ⟨rfl, fun e he => by omega⟩⟩ (by show n - cN 0 < F; omega)
  intro RX a hi ih
  obtain ⟨e, g, he, rfl, hg⟩ := hi
  unfold m_way_B193
  have x0 : ∀ f, (aS σ 74 f).1 0 * (aS σ 74 f).1 1 = nI n := fun f => hn
  have x0' : ∀ f, (aS σ 74 f).1 0 = nI W := fun f => h0
  have x74 : ∀ f, (aS σ 74 f).2 74 = f := fun f => rfl
  simp only [x0, x74, Int32.le_iff_toInt_le, ni_i (show e < 2147483648 by omega), ni_i (show n < 2147483648 by omega), okI_nI (show c < 100 by omega) (show 100 < 2147483648 by omega), if_true, ni_c (show c < 2147483648 by omega), dn_s]
  by_cases hend : e = n
  · subst hend
    rw [if_pos (by omega)]
    exact ⟨_, g, rfl, hg⟩
  · rw [if_neg (by omega)]
    rcases hg with ⟨rfl, hno⟩ | ⟨rfl, hex⟩
    · simp only [hf, if_true, okI_nI (show e < 100 by omega) (show 100 < 2147483648 by omega), ni_c (show e < 2147483648 by omega), m_areBeside_e (x0' _) hW (show e < 1000 by omega) (show c < 1000 by omega), ob_s, bI_0, ite_not, sA_aS, nx_e]
      have hmeas : n - cN (nI e + 1) < n - cN (nI e) := by rw [← nI_succ, cN_nI (by omega), cN_nI (by omega)]; omega
      have hstay : ¬ (g e = nI k ∧ bes W e c) → ∃ b g', RX (nI e + 1, aS σ 74 g) = K (b, aS σ 74 g') ∧ ((g' = g ∧ ∀ e, e < n → ¬ (g e = nI k ∧ bes W e c)) ∨ (g' = upd g c (nI (k + 1)) ∧ ∃ e, e < n ∧ g e = nI k ∧ bes W e c)) := by
        intro hne
        refine ih _ ⟨e + 1, g, by omega, by rw [nI_succ], Or.inl ⟨rfl, fun e' he' => ?_⟩⟩ hmeas
        by_cases hee : e' = e
        · rw [hee]; exact hne
        · exact hno e' (by omega)
      by_cases c1 : g e = nI k
      · rw [if_pos c1]
        by_cases c2 : bes W e c
        · rw [if_pos c2]
          exact ih _ ⟨e + 1, upd g c (nI (k + 1)), by omega, by rw [nI_succ e], Or.inr ⟨rfl, e, by omega, c1, c2⟩⟩ hmeas
        · rw [if_neg c2]
          exact hstay (fun q => c2 q.2)
      · rw [if_neg c1]
        exact hstay (fun q => c1 q.1)
    · have hv : ¬ upd f c (nI (k + 1)) c = -1 := by
        simp only [upd, if_true, i_eq, ni_i (show k + 1 < 2147483648 by omega), li_m1]
        omega
      rw [if_neg hv]
      exact ⟨_, _, rfl, Or.inr ⟨rfl, hex⟩⟩
theorem way_m151 (hF : 1000 ≤ F) (h0 : σ.1 0 = nI W) (h1 : σ.1 1 = nI H) (hn : σ.1 0 * σ.1 1 = nI n) (hnb : n ≤ 100) (hW : 4 ≤ W ∧ W ≤ 10) (hH : 4 ≤ H ∧ H ≤ 10) (K : Int32 × MS → Option (Int32 × MS)) (x3 : Int32) {s k : Nat} (hk : k < 1000) (f : Nat → Int32) (hf : ∀ c, c < n → (f c).toInt = dT n W s (fun c => x3 < σ.2 0 c) k c) :
    ((∃ c, c < n ∧ bor W H c ∧ dT n W s (fun c => x3 < σ.2 0 c) (k + 1) c = ((k + 1 : Nat) : Int)) ∧ ∃ g, lp (m_way_B151 F K x3 (nI (k + 1))) F (0, aS σ 74 f) = some (nI (k + 1), aS σ 74 g)) ∨ ((∀ c, c < n → bor W H c → ¬ dT n W s (fun c => x3 < σ.2 0 c) (k + 1) c = ((k + 1 : Nat) : Int)) ∧ ∃ b g, lp (m_way_B151 F K x3 (nI (k + 1))) F (0, aS σ 74 f) = K (b, aS σ 74 g) ∧ ∀ c, c < n → (g c).toInt = dT n W s (fun c => x3 < σ.2 0 c) (k + 1) c) := by
  refine lp_to (fun a => ∃ (c : Nat) (g : Nat → Int32), c ≤ n ∧ a = (nI c, aS σ 74 g) ∧ (∀ c', c' < n → (c' < c → (g c').toInt = dT n W s (fun c => x3 < σ.2 0 c) (k + 1) c') ∧ (¬ c' < c → (g c').toInt = dT n W s (fun c => x3 < σ.2 0 c) k c')) ∧ ∀ c', c' < c → bor W H c' → ¬ dT n W s (fun c => x3 < σ.2 0 c) (k + 1) c' = ((k + 1 : Nat) : Int)) (fun a => n - cN a.1) (fun o => ((∃ c, c < n ∧ bor W H c ∧ dT n W s (fun c => x3 < σ.2 0 c) (k + 1) c = ((k + 1 : Nat) : Int)) ∧ ∃ g, o = some (nI (k + 1), aS σ 74 g)) ∨ ((∀ c, c < n → bor W H c → ¬ dT n W s (fun c => x3 < σ.2 0 c) (k + 1) c = ((k + 1 : Nat) : Int)) ∧ ∃ b g, o = K (b, aS σ 74 g) ∧ ∀ c, c < n → (g c).toInt = dT n W s (fun c => x3 < σ.2 0 c) (k + 1) c)) ?_ F _ ⟨0, f, by omega, rfl, fun c' hc' => ⟨fun q => by omega, fun _ => hf c' hc'⟩, fun c' hc' => by omega⟩ (by show n - cN 0 < F; omega)
  intro RX a hi ih
  obtain ⟨c, g, hc, rfl, hg, hno⟩ := hi
  unfold m_way_B151
  have x0 : ∀ f, (aS σ 74 f).1 0 * (aS σ 74 f).1 1 = nI n := fun f => hn
  have x74 : ∀ f, (aS σ 74 f).2 74 = f := fun f => rfl
  have xh : ∀ f, (aS σ 74 f).2 0 = σ.2 0 := fun f => rfl
  simp only [x0, x74, xh, Int32.le_iff_toInt_le, ni_i (show c < 2147483648 by omega), ni_i (show n < 2147483648 by omega)]
  by_cases hend : c = n
  · subst hend
    rw [if_pos (by omega)]
    exact Or.inr ⟨hno, _, g, rfl, fun c' hc' => (hg c' hc').1 hc'⟩
  · rw [if_neg (by omega)]
    have hcn : c < n := by omega
    have hgc := (hg c hcn).2 (by omega)
    have hmeas : n - cN (nI c + 1) < n - cN (nI c) := by rw [← nI_succ, cN_nI (by omega), cN_nI (by omega)]; omega
    simp only [okI_nI (show c < 100 by omega) (show 100 < 2147483648 by omega), if_true, ni_c (show c < 2147483648 by omega)]
    -- go on with the array g'
    have hgo : ∀ g' : Nat → Int32, (∀ c', ¬ c' = c → g' c' = g c') → (g' c).toInt = dT n W s (fun c => x3 < σ.2 0 c) (k + 1) c → (bor W H c → ¬ dT n W s (fun c => x3 < σ.2 0 c) (k + 1) c = ((k + 1 : Nat) : Int)) → ((∃ c, c < n ∧ bor W H c ∧ dT n W s (fun c => x3 < σ.2 0 c) (k + 1) c = ((k + 1 : Nat) : Int)) ∧ ∃ g, RX (nI c + 1, aS σ 74 g') = some (nI (k + 1), aS σ 74 g)) ∨ ((∀ c, c < n → bor W H c → ¬ dT n W s (fun c => x3 < σ.2 0 c) (k + 1) c = ((k + 1 : Nat) : Int)) ∧ ∃ b g, RX (nI c + 1, aS σ 74 g') = K (b, aS σ 74 g) ∧ ∀ c, c < n → (g c).toInt = dT n W s (fun c => x3 < σ.2 0 c) (k + 1) c) := by
      intro g' e1 e2 e3
      refine ih _ ⟨c + 1, g', by omega, by rw [nI_succ], fun c' hc' => ⟨fun q => ?_, fun q => ?_⟩, fun c' hc' => ?_⟩ hmeas
      · by_cases hcc : c' = c
        · rw [hcc]; exact e2
        · rw [e1 c' hcc]; exact (hg c' hc').1 (by omega)
      · rw [e1 c' (by omega)]; exact (hg c' hc').2 (by omega)
      · by_cases hcc : c' = c
        · rw [hcc]; exact e3
        · exact hno c' (by omega)
    have hb := dT_b (n := n) (W := W) (s := s) (wk := fun c => x3 < σ.2 0 c) k c
    by_cases c1 : g c = -1
    · have hd : dT n W s (fun c => x3 < σ.2 0 c) k c = -1 := by rw [← hgc, c1]; exact li_m1
      rw [if_pos c1]
      by_cases c2 : x3 < σ.2 0 c
      · rw [if_pos c2]
        obtain ⟨b, g', e1, e2⟩ := way_m193 hF h0 hn hnb hW (fun a1 => m_way_258 F K RX x3 (nI (k + 1)) (nI c) a1.2) x3 hk hcn g c1
        rw [e1]
        have hex : (∃ e, e < n ∧ g e = nI k ∧ bes W e c) ↔ ∃ e, e < n ∧ dT n W s (fun c => x3 < σ.2 0 c) k e = k ∧ bes W e c := by
          have key : ∀ e, e < n → (g e = nI k ↔ dT n W s (fun c => x3 < σ.2 0 c) k e = k) := by
            intro e he
            rw [i_eq, ni_i (show k < 2147483648 by omega)]
            by_cases hec : e < c
            · rw [(hg e he).1 hec]; exact dT_e
            · rw [(hg e he).2 hec]
          exact ⟨fun ⟨e, q1, q2, q3⟩ => ⟨e, q1, (key e q1).mp q2, q3⟩, fun ⟨e, q1, q2, q3⟩ => ⟨e, q1, (key e q1).mpr q2, q3⟩⟩
        simp only [m_way_258, okI_nI (show c < 100 by omega) (show 100 < 2147483648 by omega), if_true, ni_c (show c < 2147483648 by omega), x74, m_isBorder_e (σ := aS σ 74 g') h0 h1 hW hH (show c < 2147483648 by omega), ob_s, bI_0, ite_not]
        rcases e2 with ⟨rfl, e2⟩ | ⟨rfl, e2⟩
        · have hf1 : dT n W s (fun c => x3 < σ.2 0 c) (k + 1) c = dT n W s (fun c => x3 < σ.2 0 c) k c := dT_f (fun q => by
            obtain ⟨e, q1, q2, q3⟩ := hex.mpr q.2.2
            exact e2 e q1 ⟨q2, q3⟩)
          rw [if_neg (by rw [c1, i_eq, li_m1, ni_i (show k + 1 < 2147483648 by omega)]; omega)]
          exact hgo g' (fun _ _ => rfl) (by rw [hf1]; exact hgc) (fun _ => by rw [hf1, hd]; omega)
        · have hf1 : dT n W s (fun c => x3 < σ.2 0 c) (k + 1) c = k + 1 := dT_t ⟨hd, c2, hex.mp e2⟩
          have hu : upd g c (nI (k + 1)) c = nI (k + 1) := if_pos rfl
          rw [if_pos hu]
          by_cases c3 : bor W H c
          · rw [if_pos c3]
            exact Or.inl ⟨⟨c, hcn, c3, by rw [hf1]; omega⟩, _, rfl⟩
          · rw [if_neg c3]
            exact hgo _ (fun c' hc' => if_neg hc') (by rw [hu, hf1, ni_i (by omega)]; omega) (fun q => absurd q c3)
      · rw [if_neg c2]
        have hf1 : dT n W s (fun c => x3 < σ.2 0 c) (k + 1) c = dT n W s (fun c => x3 < σ.2 0 c) k c := dT_f (fun q => c2 q.2.1)
        exact hgo g (fun _ _ => rfl) (by rw [hf1]; exact hgc) (fun _ => by rw [hf1, hd]; omega)
    · have hd : ¬ dT n W s (fun c => x3 < σ.2 0 c) k c = -1 := by
        rw [← hgc]
        intro q
        exact c1 (by rw [i_eq, q, li_m1])
      rw [if_neg c1]
      exact hgo g (fun _ _ => rfl) (by rw [dT_k hd]; exact hgc) (fun _ => by rw [dT_k hd]; omega)
theorem way_m134 (hF : 1000 ≤ F) (h0 : σ.1 0 = nI W) (h1 : σ.1 1 = nI H) (hn : σ.1 0 * σ.1 1 = nI n) (hnb : n ≤ 100) (hn1 : 1 ≤ n) (hW : 4 ≤ W ∧ W ≤ 10) (hH : 4 ≤ H ∧ H ≤ 10) (x3 : Int32) {s : Nat} (f : Nat → Int32) (hf : ∀ c, c < n → (f c).toInt = dT n W s (fun c => x3 < σ.2 0 c) 0 c) (hs : ∀ c, c < n → bor W H c → ¬ dT n W s (fun c => x3 < σ.2 0 c) 0 c = 0) :
    ∃ r g, lp (m_way_B134 F x3) F (1, aS σ 74 f) = some (r, aS σ 74 g) ∧ wR n W H s (fun c => x3 < σ.2 0 c) r := by
  refine lp_to (fun a => ∃ (k : Nat) (g : Nat → Int32), k + 1 ≤ n ∧ a = (nI (k + 1), aS σ 74 g) ∧ (∀ c, c < n → (g c).toInt = dT n W s (fun c => x3 < σ.2 0 c) k c) ∧ ∀ j, j ≤ k → ∀ c, c < n → bor W H c → ¬ dT n W s (fun c => x3 < σ.2 0 c) j c = j) (fun a => n - cN a.1) (fun o => ∃ r g, o = some (r, aS σ 74 g) ∧ wR n W H s (fun c => x3 < σ.2 0 c) r) ?_ F _ ⟨0, f, by omega, rfl, hf, fun j hj c hc hb => by
    have : j = 0 := by omega
    subst this
    exact hs c hc hb⟩ (by show n - cN 1 < F; omega)
  intro RX a hi ih
  obtain ⟨k, g, hk, rfl, hg, hno⟩ := hi
  unfold m_way_B134
  have x0 : ∀ f, (aS σ 74 f).1 0 * (aS σ 74 f).1 1 = nI n := fun f => hn
  simp only [x0, Int32.le_iff_toInt_le, ni_i (show k + 1 < 2147483648 by omega), ni_i (show n < 2147483648 by omega)]
  by_cases hend : k + 1 = n
  · rw [if_pos (by omega)]
    exact ⟨_, _, rfl, Or.inr ⟨rfl, fun j hj => hno j (by omega)⟩⟩
  · rw [if_neg (by omega)]
    rcases way_m151 hF h0 h1 hn hnb hW hH (fun a1 => RX (nI (k + 1) + 1, a1.2)) x3 (k := k) (by omega) g hg with ⟨h2, g', h3⟩ | ⟨h2, b, g', h3, h4⟩
    · rw [h3]
      exact ⟨_, _, rfl, Or.inl ⟨k + 1, by omega, rfl, h2, fun j hj => hno j (by omega)⟩⟩
    · rw [h3]
      refine ih _ ⟨k + 1, g', by omega, by rw [nI_succ (k + 1)], h4, fun j hj => ?_⟩ ?_
      · by_cases hjk : j = k + 1
        · rw [hjk]; exact h2
        · exact hno j (by omega)
      · show n - cN (nI (k + 1) + 1) < n - cN (nI (k + 1))
        rw [← nI_succ, cN_nI (by omega), cN_nI (by omega)]
        omega
end WAYM
