/-! asking -/
def aV (a b c d e : Int32) : Nat → Value := updV (updV (updV (updV (updV (fun q => defaultValue (tyX19 q)) 0 (.int a)) 1 (.int b)) 2 (.int c)) 3 (.int d)) 4 (.int e)
def askX (τ : XS) (a b c d e : Int32) : XS := xN τ (.inr (19, aV a b c d e))
def fF (g : Nat → Int32) (a b c d e : Int32) : Nat → Int32 := upd (upd (upd (upd (upd g 0 a) 1 b) 2 c) 3 d) 4 e
def askM (σ : MS) (a b c d e : Int32) : MS := aS σ 39 (fF (σ.2 39) a b c d e)
def Ke (τ : XS) (σ : MS) (τ' : XS) (σ' : MS) : Prop := Rh τ' σ' ∧ PM M0 τ.2.2.2.1 τ'.2.2.2.1 ∧ τ'.1 = τ.1 ∧ τ'.2.1 = τ.2.1 ∧ σ'.1 = σ.1 ∧ ∀ j, ¬ j = 37 → ¬ j = 38 → ¬ j = 39 → σ'.2 j = σ.2 j
section ASKS
variable {F : Nat} {τ : XS} {σ : MS}
theorem Ke.rf (h : Rh τ σ) : Ke τ σ τ σ := ⟨h, PM.rf _, rfl, rfl, rfl, fun _ _ _ _ => rfl⟩
theorem Ke.tr {τ1 τ2 : XS} {σ1 σ2 : MS} (h1 : Ke τ σ τ1 σ1) (h2 : Ke τ1 σ1 τ2 σ2) : Ke τ σ τ2 σ2 :=
  ⟨h2.1, h1.2.1.tr h2.2.1, h2.2.2.1.trans h1.2.2.1, h2.2.2.2.1.trans h1.2.2.2.1, h2.2.2.2.2.1.trans h1.2.2.2.2.1, fun j a b c => (h2.2.2.2.2.2 j a b c).trans (h1.2.2.2.2.2 j a b c)⟩
theorem Ke.toR {τ' : XS} {σ' : MS} (h : R τ σ) (k : Ke τ σ τ' σ') : R τ' σ' := by
  obtain ⟨k1, k2, k3, k4, k5, k6⟩ := k
  have h1 := h.sc.2.2.2.2.2.2.2.2
  unfold Rh at k1
  rw [← h1, ← k5, sS_id] at k1
  exact k1
theorem ask_x (a b c d e : Int32) : x19_init F τ.2.2.2.2 a b c d e (xN τ (.inr (19, fun q => defaultValue (tyX19 q)))) = some (0, askX τ a b c d e, 0, 0) := by
  simp only [x19_init, pF_xN (c := 19) (cs := [19]) (List.mem_singleton.mpr rfl), ob_s]
  rfl
theorem ask_m (a b c d e : Int32) : m_setsFacts F a b c d (-1) σ = some (0, askM σ a b c d (-1)) := by
  simp only [m_setsFacts, show okI 0 5 = true from rfl, show okI 1 5 = true from rfl, show okI 2 5 = true from rfl, show okI 3 5 = true from rfl, show okI 4 5 = true from rfl, if_true, nx_e]
  rw [show sA σ 39 (0 : Int32).toNatClampNeg a = sA (aS σ 39 (σ.2 39)) 39 (0 : Int32).toNatClampNeg a by rw [aS_id]]
  simp only [sA_aS]
  rfl
theorem ask_mp (a b c d : Int32) {p : Nat} (hp : p < 30) : m_setsFacts F a b c d (nI p) σ = some (0, askM σ a b c d (σ.2 2 p)) := by
  have hn : ¬ nI p = -1 := by rw [i_eq, li_m1, ni_i (by omega)]; omega
  simp only [m_setsFacts, show okI 0 5 = true from rfl, show okI 1 5 = true from rfl, show okI 2 5 = true from rfl, show okI 3 5 = true from rfl, show okI 4 5 = true from rfl, if_true, nx_e, if_neg hn, okI_nI hp (show 30 < 2147483648 by omega), ni_c (show p < 2147483648 by omega)]
  rw [show sA σ 39 (0 : Int32).toNatClampNeg a = sA (aS σ 39 (σ.2 39)) 39 (0 : Int32).toNatClampNeg a by rw [aS_id]]
  simp only [sA_aS]
  rfl
theorem ask_R (h : Rh τ σ) (a b c d e : Int32) : Rh (askX τ a b c d e) (askM σ a b c d e) ∧ AQ (askX τ a b c d e).2.2.2.1 τ.2.2.2.2 ((askM σ a b c d e).2 39) := by
  constructor
  · have h2 := R.new h (.inr (19, aV a b c d e))
    exact ⟨h2.s, h2.a, h2.sc, h2.pl, h2.dg, h2.me, h2.ru, h2.fi, h2.th, h2.wa, h2.dr, h2.si, h2.wo, h2.as, h2.wf⟩
  · exact ⟨aV a b c d e, if_pos rfl, rfl, rfl, rfl, rfl, rfl⟩
theorem ask_K (h : Rh τ σ) (a b c d e : Int32) {τ' : XS} {σ' : MS} (k : Kp (askX τ a b c d e) (askM σ a b c d e) τ' σ') : Ke τ σ τ' σ' := by
  have h1 := (ask_R h a b c d e).1.up k
  obtain ⟨k1, k2, k3, k4, k5, k6, k7⟩ := k
  exact ⟨h1, (PM.new h.wf).tr k4, k1, k2, k6, fun j x y z => (k7 j x y).trans (if_neg z)⟩
theorem numO_j (hF : 1000 ≤ F) (h : Rh τ σ) (l w a b c d e : Int32) : ∃ v τ' σ', x0_numberOf F l τ.2.2.2.2 w (askX τ a b c d e) = some (v, τ', 0, 0) ∧ m_numberBy F l w (askM σ a b c d e) = some (v, σ') ∧ Ke τ σ τ' σ' := by
  obtain ⟨h1, h2⟩ := ask_R h a b c d e
  obtain ⟨_, _, e1, e2, v, τ', σ', rfl, rfl, hk⟩ := numberOf_j hF h1 h2 l w
  exact ⟨v, τ', σ', e1, e2, ask_K h a b c d e hk⟩
theorem numS_j (hF : 1000 ≤ F) (h : Rh τ σ) (a b c d e : Int32) : ∃ v τ' σ', x0_numberings F τ.2.2.2.2 (askX τ a b c d e) = some (v, τ', 0, 0) ∧ m_numberings F (askM σ a b c d e) = some (v, σ') ∧ Ke τ σ τ' σ' := by
  obtain ⟨h1, h2⟩ := ask_R h a b c d e
  obtain ⟨_, _, e1, e2, v, τ', σ', rfl, rfl, hk⟩ := numberings_j hF h1 h2
  exact ⟨v, τ', σ', e1, e2, ask_K h a b c d e hk⟩
theorem Ke.op {X : XR Int32} {Y : Option (Int32 × MS)} {τ' : XS} {σ' : MS} {v : Int32} {c s : Nat} (h : R τ σ) (k : Ke τ σ τ' σ') (hx : X = some (v, τ', c, s)) (hy : Y = some (v, σ')) (hc : c ≤ 2000) (hs : s ≤ 10000) : Op σ X Y := by
  refine Op.mk hx hy (k.toR h) ?_ hc hs
  unfold pf
  rw [k.2.2.2.2.1]
  exact Nat.le_succ _
theorem num_92 (hF : 1000 ≤ F) (h : R τ σ) (x1 a b c d e : Int32) : Op σ (tk 1 6 (x0_number_92 F x1 e d c b a τ.2.2.2.2 τ.2.2.2.2 (xN τ (.inr (19, fun q => defaultValue (tyX19 q)))))) (if x1 = 0 then ((m_numberBy F 97 8 (askM σ a b c d e)).bind (fun r5 => some (r5.1, r5.2))) else (if x1 = 1 then ((m_numberBy F 118 0 (askM σ a b c d e)).bind (fun r4 => some (r4.1, r4.2))) else (if x1 = 2 then ((m_numberBy F 102 7 (askM σ a b c d e)).bind (fun r3 => some (r3.1, r3.2))) else ((m_numberings F (askM σ a b c d e)).bind (fun r2 => some (r2.1, r2.2)))))) := by
  simp only [x0_number_92, ask_x, ob_s, tk_00]
  by_cases c1 : x1 = 0
  · rw [if_pos c1, if_pos c1]
    obtain ⟨v, τ', σ', e1, e2, hk⟩ := numO_j hF h.h 97 8 a b c d e
    rw [e1, e2]
    exact hk.op h rfl rfl (Nat.le_of_ble_eq_true rfl) (Nat.le_of_ble_eq_true rfl)
  · rw [if_neg c1, if_neg c1]
    by_cases c2 : x1 = 1
    · rw [if_pos c2, if_pos c2]
      obtain ⟨v, τ', σ', e1, e2, hk⟩ := numO_j hF h.h 118 0 a b c d e
      rw [e1, e2]
      exact hk.op h rfl rfl (Nat.le_of_ble_eq_true rfl) (Nat.le_of_ble_eq_true rfl)
    · rw [if_neg c2, if_neg c2]
      by_cases c3 : x1 = 2
      · rw [if_pos c3, if_pos c3]
        obtain ⟨v, τ', σ', e1, e2, hk⟩ := numO_j hF h.h 102 7 a b c d e
        rw [e1, e2]
        exact hk.op h rfl rfl (Nat.le_of_ble_eq_true rfl) (Nat.le_of_ble_eq_true rfl)
      · rw [if_neg c3, if_neg c3]
        obtain ⟨v, τ', σ', e1, e2, hk⟩ := numS_j hF h.h a b c d e
        rw [e1, e2]
        exact hk.op h rfl rfl (Nat.le_of_ble_eq_true rfl) (Nat.le_of_ble_eq_true rfl)
theorem num_62 (hF : 1000 ≤ F) (h : R τ σ) (x1 x2 x3 x4 x5 x6 : Int32) (h6 : x6 = -1 ∨ (0 ≤ x6.toInt ∧ x6.toInt < (σ.1 3).toInt)) : Op σ (x0_number_62 F x1 x2 x3 x4 x5 x6 τ) (m_number_66 F x1 x2 x3 x4 x5 x6 σ) := by
  unfold x0_number_62 m_number_66
  simp only [nx_e]
  rcases h6 with h6 | h6
  · subst h6
    rw [if_pos (rfl : (-1 : Int32) = -1), ask_m x2 x3 x4 x5 (-1)]
    simp only [ob_s]
    exact num_92 hF h x1 x2 x3 x4 x5 (-1)
  · obtain ⟨p, pb, hp, pi⟩ := nn_of h6.1
    obtain ⟨⟨N, hN, hNb⟩, hpl, -⟩ := h.pl
    rw [hN, cN_nI (by omega)] at hpl
    rw [hN, ni_i (by omega)] at h6
    obtain ⟨⟨a, b, V, k1, k2, k3, k4, k5, k6⟩, hr⟩ := hpl p (by omega)
    subst hp
    have hn : ¬ nI p = -1 := by rw [i_eq, li_m1, ni_i pb]; omega
    have hk2 : (xN τ (.inr (19, fun q => defaultValue (tyX19 q)))).2.2.2.1 a = some (.inr (3, V)) := by
      have := h.wf a _ k2
      exact (if_neg (by omega)).trans k2
    rw [if_neg hn, ask_mp x2 x3 x4 x5 (show p < 30 by omega)]
    simp only [okI_nI (show p < 30 by omega) (show 30 < 2147483648 by omega), if_true, ni_c pb, xN_2, k1, ob_s, gI_of hk2 (List.mem_singleton.mpr rfl) k4]
    exact num_92 hF h x1 x2 x3 x4 x5 (σ.2 2 p)
theorem op_number (hF : 1000 ≤ F) (h : R τ σ) (x1 x2 x3 x4 x5 x6 : Int32) : Op σ (x0_number F x1 x2 x3 x4 x5 x6 τ) (m_number F x1 x2 x3 x4 x5 x6 σ) := by
  simp only [x0_number, m_number, x0_in_e, x0_isWeek_e, m_in_e, m_isWeek_e, x0_isPlace_e, m_isPlace_e, ob_s, tk_00, bI_0, ite_not, h.e3, li_0, li_3, li_4, li_7, li_8, li_255, li_256]
  have hq : ∀ {c d : Prop} [Decidable c] [Decidable d] {X Y : XR Int32} {X' Y' : Option (Int32 × MS)}, (c ↔ d) → (c → Op σ X X') → Op σ Y Y' → Op σ (if c then X else Y) (if d then X' else Y') := by
    intro c d _ _ X Y X' Y' hcd h1 h2
    by_cases hc : c
    · rw [if_pos hc, if_pos (hcd.mp hc)]; exact h1 hc
    · rw [if_neg hc, if_neg (fun q => hc (hcd.mpr q))]; exact h2
  refine hq (by omega) (fun _ => ?_) (Op.same h rfl rfl)
  refine hq (by omega) (fun _ => ?_) (Op.same h rfl rfl)
  refine hq (by omega) (fun _ => ?_) (Op.same h rfl rfl)
  refine hq (by omega) (fun _ => ?_) (Op.same h rfl rfl)
  refine hq (by omega) (fun _ => ?_) (Op.same h rfl rfl)
  by_cases c6 : x6 = -1
  · rw [if_pos c6, if_pos c6]
    exact num_62 hF h x1 x2 x3 x4 x5 x6 (Or.inl c6)
  · rw [if_neg c6, if_neg c6]
    exact hq Iff.rfl (fun q => num_62 hF h x1 x2 x3 x4 x5 x6 (Or.inr q)) (Op.same h rfl rfl)
end ASKS
