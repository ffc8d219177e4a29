section JOIN6
variable {F : Nat} {τ : XS} {σ : MS}
theorem join_m160 (hF : 1000 ≤ F) {lk : Nat → Nat → Prop} {ag : Nat → Nat → Nat} {pr : Nat → Nat → Int} (ha : ∀ i x, lk i x → ag i x ≤ 8) (hp : ∀ i x, (lk i x → pr i x = ag i x) ∧ (¬ lk i x → pr i x = -1)) {n T i c g : Nat} (hn : n ≤ 8) (hT : T ≤ 60) (hi : i < n) {U : Nat → Prop} (hb : Bs lk ag U T (fun j => i ≤ j ∧ j < n) c g) (h68 : σ.1 68 = nI T) (K : Int32 × Int32 × MS → Option (Int32 × MS)) (x3 nn : Int32) (ρ : Nat → Int32) {σ0 : MS} (k0 : Kj σ σ0) (hpr : ∀ i', i' < n → ∀ y, y < T → (σ0.2 57 (60 * i' + y)).toInt = pr i' y) (hU : ∀ y, y < T → (¬ σ0.2 56 y = 0 ↔ U y)) :
    ∃ k b σ2, lp (m_join_B160 F K (nI n) (nI (1000 * c + g)) x3 (nI i)) F (60, 0, rM σ0 nn ρ) = K ((if k = T then 60 else nI k), b, rM σ2 nn ρ) ∧ Kj σ σ2 ∧ (∀ i', i' < n → ∀ y, y < T → (σ2.2 57 (60 * i' + y)).toInt = pr i' y) ∧ (∀ y, y < T → (¬ σ2.2 56 y = 0 ↔ (U y ∨ (k < T ∧ y = k)))) ∧ (∀ j, j < k → ¬ Dk lk ag U T n i c g j) ∧ k ≤ T ∧ (k = T ∨ Dk lk ag U T n i c g k) := by
  have hs8 : ∀ j, (i ≤ j ∧ j < n) → j < 8 := fun j hj => by omega
  have b1 := Mx_8 ha hs8 hb.1
  have hprb : ∀ i' x, -1 ≤ pr i' x ∧ pr i' x ≤ 8 := by
    intro i' x
    by_cases q : lk i' x
    · rw [(hp i' x).1 q]; have := ha i' x q; omega
    · rw [(hp i' x).2 q]; omega
  refine lp_to (fun a => ∃ (k : Nat) (σ' : MS), Kj σ σ' ∧ (∀ i', i' < n → ∀ y, y < T → (σ'.2 57 (60 * i' + y)).toInt = pr i' y) ∧ ((k ≤ T ∧ a = (60, nI k, rM σ' nn ρ) ∧ (∀ y, y < T → (¬ σ'.2 56 y = 0 ↔ U y)) ∧ ∀ j, j < k → ¬ Dk lk ag U T n i c g j) ∨ (k < T ∧ a = (nI k, nI k + 1, rM σ' nn ρ) ∧ (∀ y, y < T → (¬ σ'.2 56 y = 0 ↔ (U y ∨ y = k))) ∧ (∀ j, j < k → ¬ Dk lk ag U T n i c g j) ∧ Dk lk ag U T n i c g k))) (fun a => T - cN a.2.1) (fun o => ∃ k b σ2, o = K ((if k = T then 60 else nI k), b, rM σ2 nn ρ) ∧ Kj σ σ2 ∧ (∀ i', i' < n → ∀ y, y < T → (σ2.2 57 (60 * i' + y)).toInt = pr i' y) ∧ (∀ y, y < T → (¬ σ2.2 56 y = 0 ↔ (U y ∨ (k < T ∧ y = k)))) ∧ (∀ j, j < k → ¬ Dk lk ag U T n i c g j) ∧ k ≤ T ∧ (k = T ∨ Dk lk ag U T n i c g k)) ?_ F _ ⟨0, σ0, k0, hpr, Or.inl ⟨by omega, rfl, hU, fun j hj => by omega⟩⟩ (by show T - cN 0 < F; omega)
  intro RX a hia ih
  obtain ⟨k, σ', kj, hpr', hcase⟩ := hia
  have e68 : (rM σ' nn ρ).1 68 = nI T := by
    show σ'.1 68 = nI T
    rw [kj.1]; exact h68
  have e57 : ∀ s, (rM s nn ρ).2 57 = s.2 57 := fun s => rfl
  have e56 : ∀ s, (rM s nn ρ).2 56 = s.2 56 := fun s => rfl
  unfold m_join_B160
  rcases hcase with ⟨hk, rfl, hU', hno⟩ | ⟨hk, rfl, hU', hno, hD⟩
  · simp only [e68, Int32.le_iff_toInt_le, ni_i (show k < 2147483648 by omega), ni_i (show T < 2147483648 by omega)]
    by_cases hend : k = T
    · subst hend
      rw [if_pos (by omega)]
      refine ⟨k, nI k, σ', by rw [if_pos rfl], kj, hpr', fun y hy => ?_, hno, Nat.le_refl _, Or.inl rfl⟩
      rw [hU' y hy]
      exact ⟨Or.inl, fun q => q.elim id (fun z => by omega)⟩
    rw [if_neg (by omega), if_pos trivial]
    have hm : T - cN (nI k + 1) < T - cN (nI k) := by rw [← nI_succ, cN_nI (by omega), cN_nI (by omega)]; omega
    have ix : (60 : Int32) * nI i + nI k = nI (60 * i + k) := by rw [show (60 : Int32) = nI 60 from rfl, ni_mul, ni_add]
    have hgo : ∀ σ3, Kj σ σ3 → (∀ i', i' < n → ∀ y, y < T → (σ3.2 57 (60 * i' + y)).toInt = pr i' y) → (∀ y, y < T → (¬ σ3.2 56 y = 0 ↔ U y)) → ¬ Dk lk ag U T n i c g k → ∃ k2 b σ2, RX (60, nI k + 1, rM σ3 nn ρ) = K ((if k2 = T then 60 else nI k2), b, rM σ2 nn ρ) ∧ Kj σ σ2 ∧ (∀ i', i' < n → ∀ y, y < T → (σ2.2 57 (60 * i' + y)).toInt = pr i' y) ∧ (∀ y, y < T → (¬ σ2.2 56 y = 0 ↔ (U y ∨ (k2 < T ∧ y = k2)))) ∧ (∀ j, j < k2 → ¬ Dk lk ag U T n i c g j) ∧ k2 ≤ T ∧ (k2 = T ∨ Dk lk ag U T n i c g k2) := by
      intro σ3 k3 h3 u3 hne
      refine ih _ ⟨k + 1, σ3, k3, h3, Or.inl ⟨by omega, by rw [nI_succ], u3, fun j hj => ?_⟩⟩ hm
      by_cases hjk : j = k
      · rw [hjk]; exact hne
      · exact hno j (by omega)
    have hav := hpr' i hi k (by omega)
    simp only [ix, okI_nI (show 60 * i + k < 480 by omega) (show 480 < 2147483648 by omega), okI_nI (show k < 60 by omega) (show 60 < 2147483648 by omega), if_true, ni_c (show 60 * i + k < 2147483648 by omega), ni_c (show k < 2147483648 by omega), e57, e56, nx_e, show vp_nar .boolean 1 = 1 from rfl, show vp_nar .boolean 0 = 0 from rfl, rM_w]
    generalize σ'.2 57 (60 * i + k) = av at *
    by_cases c1 : σ'.2 56 k = 0
    · rw [if_pos c1]
      have hu : ¬ U k := fun q => ((hU' k (by omega)).mpr q) c1
      by_cases c2 : av = -1
      · rw [if_pos c2]
        refine hgo σ' kj hpr' hU' (fun q => ?_)
        have := (hp i k).1 q.2.1
        rw [c2, li_m1] at hav
        omega
      rw [if_neg c2]
      have hl : lk i k := Classical.byContradiction (fun q => c2 (by rw [i_eq, hav, (hp i k).2 q, li_m1]))
      have kj1 : Kj σ (sA σ' 56 k 1) := kj.a (Or.inr (Or.inl rfl)) k 1
      have hU1 : ∀ y, y < T → (¬ (rM (sA σ' 56 k 1) nn ρ).2 56 y = 0 ↔ (U y ∨ y = k)) := by
        intro y hy
        show ¬ upd (σ'.2 56) k 1 y = 0 ↔ _
        by_cases hyk : y = k
        · rw [show upd (σ'.2 56) k 1 y = 1 from if_pos hyk]
          exact ⟨fun _ => Or.inr hyk, fun _ => by decide⟩
        · rw [show upd (σ'.2 56) k 1 y = σ'.2 56 y from if_neg hyk, hU' y hy]
          exact ⟨Or.inl, fun q => q.elim id (fun z => absurd z hyk)⟩
      obtain ⟨r, g', e1, e2⟩ := best_m (σ := rM (sA σ' 56 k 1) nn ρ) (fi := i + 1) (U := fun y => U y ∨ y = k) hF hn (by omega) hT (show σ'.1 68 = nI T by rw [kj.1]; exact h68) (fun x hx i' hi' => ⟨hpr' i' hi' x hx, hprb i' x⟩) hU1 (fun k' s hs => vm_b hn ha hp k' s hs) ((rM (sA σ' 56 k 1) nn ρ).2 54)
      rw [aS_id, rM_q] at e1
      obtain ⟨c', g2, hb', hv, hc', hg'⟩ := vm_val (fi := i + 1) (U := fun y => U y ∨ y = k) hn ha hp T
      obtain ⟨-, st2⟩ := Bs_step hn hi ha hb (show k < T by omega) hu hl hb'
      rw [show nI i + 1 = nI (i + 1) from (nI_succ i).symm, e1]
      have hpk := (hp i k).1 hl
      have hak := ha i k hl
      have hr : r.toInt = ((1000 * c' + g2 : Nat) : Int) := e2.trans hv
      have a1 : ((1000 : Int32) + av).toInt = 1000 + ag i k := by
        rw [i_add (by rw [hav, hpk, li_1000]; omega) (by rw [hav, hpk, li_1000]; omega), hav, hpk, li_1000]
      have a2 : ((1000 : Int32) + av + r).toInt = 1000 + ag i k + (1000 * c' + g2 : Nat) := by
        rw [i_add (by rw [a1, hr]; omega) (by rw [a1, hr]; omega), a1, hr]
      have hq : ((1000 : Int32) + av + r = nI (1000 * c + g)) = (1000 + ag i k + (1000 * c' + g2) = 1000 * c + g) := by
        rw [i_eq, a2, ni_i (by omega)]
        apply propext
        omega
      have kj2 : Kj σ (aS (sA σ' 56 k 1) 54 g') := by
        refine ⟨kj1.1, fun j a b c d e f => ?_⟩
        rw [← kj1.2 j a b c d e f]
        exact if_neg d
      simp only [ob_s, hq]
      by_cases c3 : 1000 + ag i k + (1000 * c' + g2) = 1000 * c + g
      · rw [if_pos c3]
        refine ih _ ⟨k, aS (sA σ' 56 k 1) 54 g', kj2, hpr', Or.inr ⟨by omega, rfl, hU1, hno, hu, hl, c', g2, hb', st2.mp c3⟩⟩ hm
      · rw [if_neg c3, rM_w]
        have kj3 : Kj σ (sA (aS (sA σ' 56 k 1) 54 g') 56 k 0) := kj2.a (Or.inr (Or.inl rfl)) k 0
        refine hgo _ kj3 hpr' (fun y hy => ?_) (fun q => ?_)
        · show ¬ upd (upd (σ'.2 56) k 1) k 0 y = 0 ↔ U y
          by_cases hyk : y = k
          · rw [show upd (upd (σ'.2 56) k 1) k 0 y = 0 from if_pos hyk, hyk]
            exact ⟨fun q => absurd rfl q, fun q => absurd q hu⟩
          · rw [show upd (upd (σ'.2 56) k 1) k 0 y = σ'.2 56 y from (if_neg hyk).trans (if_neg hyk)]
            exact hU' y hy
        · obtain ⟨-, -, c3', g3, q1, q2⟩ := q
          obtain ⟨u1, u2⟩ := Bs_u q1 hb'
          rw [u1, u2] at q2
          exact c3 (st2.mpr q2)
    · rw [if_neg c1]
      exact hgo σ' kj hpr' hU' (fun q => q.1 ((hU' k (by omega)).mp c1))
  · have hne : ¬ nI k = 60 := by
      rw [show (60 : Int32) = nI 60 from rfl, ni_ii (by omega) (by omega)]
      omega
    simp only [e68, if_neg hne, ite_self]
    refine ⟨k, nI k + 1, σ', by rw [if_neg (by omega)], kj, hpr', fun y hy => ?_, hno, by omega, Or.inr hD⟩
    rw [hU' y hy]
    exact ⟨fun q => q.imp id (fun z => ⟨hk, z⟩), fun q => q.imp id (fun z => z.2)⟩
end JOIN6
