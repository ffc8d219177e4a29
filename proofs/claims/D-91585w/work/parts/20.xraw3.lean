set_option maxRecDepth 100000
variable {γ : jG} {G : gG} {o B F c0 s0 : Nat} {τr : XS}
theorem dX12_holds_0 : decode cX12_holds 0 = .ok (.aload_n 0, 1) := by decide +kernel
theorem dX12_holds_1 : decode cX12_holds 1 = .ok (.astore_n 2, 1) := by decide +kernel
theorem dX12_holds_2 : decode cX12_holds 2 = .ok (.aload_n 2, 1) := by decide +kernel
theorem dX12_holds_3 : decode cX12_holds 3 = .ok (.ifnull 35, 3) := by decide +kernel
theorem dX12_holds_6 : decode cX12_holds 6 = .ok (.aload_n 2, 1) := by decide +kernel
theorem dX12_holds_7 : decode cX12_holds 7 = .ok (.getfield 7, 3) := by decide +kernel
theorem dX12_holds_10 : decode cX12_holds 10 = .ok (.aload_n 1, 1) := by decide +kernel
theorem dX12_holds_11 : decode cX12_holds 11 = .ok (.invokevirtual 17, 3) := by decide +kernel
theorem dX12_holds_14 : decode cX12_holds 14 = .ok (.istore_n 3, 1) := by decide +kernel
theorem dX12_holds_15 : decode cX12_holds 15 = .ok (.iload_n 3, 1) := by decide +kernel
theorem dX12_holds_16 : decode cX12_holds 16 = .ok (.iconst 2, 1) := by decide +kernel
theorem dX12_holds_17 : decode cX12_holds 17 = .ok (.if_icmp .eq 11, 3) := by decide +kernel
theorem dX12_holds_20 : decode cX12_holds 20 = .ok (.iload_n 3, 1) := by decide +kernel
theorem dX12_holds_21 : decode cX12_holds 21 = .ok (.aload_n 0, 1) := by decide +kernel
theorem dX12_holds_22 : decode cX12_holds 22 = .ok (.getfield 13, 3) := by decide +kernel
theorem dX12_holds_25 : decode cX12_holds 25 = .ok (.if_icmp .ne 5, 3) := by decide +kernel
theorem dX12_holds_28 : decode cX12_holds 28 = .ok (.iload_n 3, 1) := by decide +kernel
theorem dX12_holds_29 : decode cX12_holds 29 = .ok (.ireturn, 1) := by decide +kernel
theorem dX12_holds_30 : decode cX12_holds 30 = .ok (.aload_n 2, 1) := by decide +kernel
theorem dX12_holds_31 : decode cX12_holds 31 = .ok (.getfield 21, 3) := by decide +kernel
theorem dX12_holds_34 : decode cX12_holds 34 = .ok (.astore_n 2, 1) := by decide +kernel
theorem dX12_holds_35 : decode cX12_holds 35 = .ok (.goto (-33), 3) := by decide +kernel
theorem dX12_holds_38 : decode cX12_holds 38 = .ok (.iconst 1, 1) := by decide +kernel
theorem dX12_holds_39 : decode cX12_holds 39 = .ok (.aload_n 0, 1) := by decide +kernel
theorem dX12_holds_40 : decode cX12_holds 40 = .ok (.getfield 13, 3) := by decide +kernel
theorem dX12_holds_43 : decode cX12_holds 43 = .ok (.isub, 1) := by decide +kernel
theorem dX12_holds_44 : decode cX12_holds 44 = .ok (.ireturn, 1) := by decide +kernel
section
variable {v : Int32}
variable {dd : Nat}
noncomputable def x12_holds_B2 (F : Nat) (Wholds : Nat → Nat → XS → XR Int32) (x0 : Nat) (x1 : Nat) (R : Option Nat × XS → XR Int32) (a : Option Nat × XS) : XR Int32 :=
  if a.1 = none then ((gI a.2 x0 [12] 1).bind (fun v1 => some (1 - v1, a.2, 0, 0))) else ((a.1).bind (fun a1 => (gQ a.2 a1 [12] 0).bind (fun p1 => (p1).bind (fun a2 => (Wholds a2 x1 a.2).bind (fun r1 => tk r1.2.2.1 r1.2.2.2 (if r1.1 = 2 then (some (r1.1, r1.2.1, 0, 0)) else ((gI r1.2.1 x0 [12] 1).bind (fun v2 => if r1.1 = v2 then (some (r1.1, r1.2.1, 0, 0)) else ((a.1).bind (fun a3 => (gQ r1.2.1 a3 [12] 2).bind (fun p2 => R (p2, r1.2.1))))))))))))
theorem kx12_holds_B2 (M : XC γ cX12_holds 4 RX12 "holds" G o B (dd + 1) (some .int) (xQi G o B v τr) c0 s0) (hd : 0 ≤ dd) (Wholds : Nat → Nat → XS → XR Int32) (hWholds : MetW_holds (jl γ) G o B dd Wholds) (x0 : Nat) (x1 : Nat) : ∀ R : Option Nat × XS → XR Int32, (∀ a c s, R a = some (v, τr, c, s) → ∀ k n, k + c ≤ c0 ∧ n + s ≤ s0 → J γ (XW G o B a.2) k n 2 [(0, .ref x0), (1, .ref x1), (2, va_rf a.1)] []) → ∀ a c s, x12_holds_B2 F Wholds x0 x1 R a = some (v, τr, c, s) → ∀ k n, k + c ≤ c0 ∧ n + s ≤ s0 → J γ (XW G o B a.2) k n 2 [(0, .ref x0), (1, .ref x1), (2, va_rf a.1)] [] := by
  intro R hR a c s hf k n hkn
  unfold x12_holds_B2 at hf
  refine j_aloadq_n (pc := 2) M.1 dX12_holds_2 2 rfl ?_
  refine j_ifnull (pc := 3) (x := a.1) M.1 38 dX12_holds_3 rfl (fun b1 => ?_) (fun b1 => ?_)
  · replace hf := o_pos b1 hf
    refine j_iconst (pc := 38) M.1 dX12_holds_38 kc_iconst_1 ?_
    refine j_aload_n (pc := 39) M.1 dX12_holds_39 0 rfl ?_
    obtain ⟨v1, g1, hf⟩ := o_bind hf
    refine jx_getI (pc := 40) M xfl_X12_13 g1 dX12_holds_40 ?_
    refine j_isub (pc := 43) M.1 dX12_holds_43 ?_
    exact jx_iretF (pc := 44) M dX12_holds_44 hf hkn
  · replace hf := o_neg b1 hf
    refine j_aloadq_n (pc := 6) M.1 dX12_holds_6 2 rfl ?_
    obtain ⟨a1, hq1, hf⟩ := o_bind hf
    refine j_st (show _ = [.ref a1] by simp only [hq1, va_rf]) ?_
    obtain ⟨p1, g2, hf⟩ := o_bind hf
    refine jx_getQ (pc := 7) M xfl_X12_7 g2 dX12_holds_7 ?_
    refine j_aload_n (pc := 10) M.1 dX12_holds_10 1 rfl ?_
    obtain ⟨a2, hq2, hf⟩ := o_bind hf
    refine j_st (show _ = [.ref x1, .ref a2] by simp only [hq2, va_rf]) ?_
    obtain ⟨r1, g3, hf⟩ := o_bind hf
    obtain ⟨c1, s1, hf, hc1, hs1⟩ := o_tk hf
    replace hkn := kn_step hkn hc1 hs1
    refine jx_i M (x_runD (pc := 11) (As := [.ref x1]) (rest := []) M xcv_X12_17 (hWholds _ _ _ _ g3) (Nat.lt_succ_self _) rfl rfl rfl dX12_holds_11 (kn_le hkn)) ?_
    refine j_istore_n (pc := 14) M.1 [(3, .int r1.1), (0, .ref x0), (1, .ref x1), (2, va_rf a.1)] dX12_holds_14 rfl (by cases a.1 <;> rfl) ?_
    refine j_iload_n (pc := 15) M.1 dX12_holds_15 0 rfl ?_
    refine j_iconst (pc := 16) M.1 dX12_holds_16 kc_iconst_2 ?_
    refine j_icmp_eq (pc := 17) M.1 28 dX12_holds_17 rfl (fun b2 => ?_) (fun b2 => ?_)
    · replace hf := o_pos b2 hf
      refine j_iload_n (pc := 28) M.1 dX12_holds_28 0 rfl ?_
      exact jx_iretF (pc := 29) M dX12_holds_29 hf hkn
    · replace hf := o_neg b2 hf
      refine j_iload_n (pc := 20) M.1 dX12_holds_20 0 rfl ?_
      refine j_aload_n (pc := 21) M.1 dX12_holds_21 1 rfl ?_
      obtain ⟨v2, g4, hf⟩ := o_bind hf
      refine jx_getI (pc := 22) M xfl_X12_13 g4 dX12_holds_22 ?_
      refine j_icmp_ne (pc := 25) M.1 30 dX12_holds_25 rfl (fun b3 => ?_) (fun b3 => ?_)
      · replace hf := o_neg b3 hf
        refine j_aloadq_n (pc := 30) M.1 dX12_holds_30 3 rfl ?_
        obtain ⟨a3, hq3, hf⟩ := o_bind hf
        refine j_st (show _ = [.ref a3] by simp only [hq3, va_rf]) ?_
        obtain ⟨p2, g5, hf⟩ := o_bind hf
        refine jx_getQ (pc := 31) M xfl_X12_21 g5 dX12_holds_31 ?_
        refine j_astoreq_n (pc := 34) M.1 [(2, va_rf p2), (3, .int r1.1), (0, .ref x0), (1, .ref x1)] dX12_holds_34 rfl rfl ?_
        refine j_goto (pc := 35) M.1 2 dX12_holds_35 rfl ?_
        refine j_sub [2, 3, 0] (show lv_pick _ _ = [(0, .ref x0), (1, .ref x1), (2, va_rf p2)] from rfl) ?_
        have hy := hR _ _ _ hf _ _ hkn
        exact hy
      · replace hf := o_pos b3 hf
        refine j_iload_n (pc := 28) M.1 dX12_holds_28 0 rfl ?_
        exact jx_iretF (pc := 29) M dX12_holds_29 hf hkn
noncomputable def x12_holds (F : Nat) (Wholds : Nat → Nat → XS → XR Int32) (x0 : Nat) (x1 : Nat) (τ : XS) : XR Int32 :=
  lp (x12_holds_B2 F Wholds x0 x1) F (some x0, τ)
theorem met_x12_holds {l : Launch} {G : gG} {o B F : Nat} {dd : Nat} (hd : 0 ≤ dd) {Wholds : Nat → Nat → XS → XR Int32} (hWholds : MetW_holds l G o B dd Wholds) {x0 : Nat} {x1 : Nat} {τ : XS} {r : Int32 × XS × Nat × Nat} (hf : x12_holds F Wholds x0 x1 τ = some r) : MetX l G o B yX12_holds cX12_holds 4 (some .int) (dd + 1) [.ref x0, .ref x1] τ (xQi G o B r.1 r.2.1) r.2.2.1 r.2.2.2 := by
  obtain ⟨v, τr, c, s⟩ := r
  refine metX_of (own := RX12) (mn := "holds") (by decide) rfl rfl rfl (fun γ hγ M => ?_)
  subst hγ
  show J γ (XW G o B τ) 0 0 0 [(0, .ref x0), (1, .ref x1)] []
  have hkn : 0 + c ≤ c ∧ 0 + s ≤ s := ⟨by omega, by omega⟩
  unfold x12_holds at hf
  refine j_aload_n (pc := 0) M.1 dX12_holds_0 0 rfl ?_
  refine j_astore_n (pc := 1) M.1 [(2, .ref x0), (0, .ref x0), (1, .ref x1)] dX12_holds_1 rfl rfl ?_
  refine j_sub [1, 2, 0] (show lv_pick _ _ = [(0, .ref x0), (1, .ref x1), (2, va_rf (some x0))] from rfl) ?_
  refine lp_Wc (kx12_holds_B2 M hd Wholds hWholds x0 x1) F (some x0, τ) _ _ hf _ _ hkn
end
noncomputable def xd_holds (F : Nat) : Nat → Nat → Nat → XS → XR Int32 := fun D => Nat.rec (fun _ _ _ => none) (fun _ W a q τ => if isC τ a [18] = true then x18_holds F a q τ else if isC τ a [13] = true then x13_holds F W a q τ else if isC τ a [12] = true then x12_holds F W a q τ else none) D
theorem metW_holds {l : Launch} {G : gG} {o B F : Nat} : ∀ D : Nat, MetW_holds l G o B (D + 23) (xd_holds F D) := by
  intro D
  induction D with
  | zero => intro a q τ r hf; cases hf
  | succ D ih =>
    intro a q τ r hf
    replace hf : (if isC τ a [18] = true then x18_holds F a q τ else if isC τ a [13] = true then x13_holds F (xd_holds F D) a q τ else if isC τ a [12] = true then x12_holds F (xd_holds F D) a q τ else none) = some r := hf
    by_cases b0 : isC τ a [18] = true
    · exact ⟨0, _, rfl, b0, met_x18_holds (dd := D + 23) (by omega) (o_pos b0 hf)⟩
    replace hf := o_neg b0 hf
    by_cases b1 : isC τ a [13] = true
    · exact ⟨1, _, rfl, b1, met_x13_holds (dd := D + 23) (by omega) ih (o_pos b1 hf)⟩
    replace hf := o_neg b1 hf
    by_cases b2 : isC τ a [12] = true
    · exact ⟨2, _, rfl, b2, met_x12_holds (dd := D + 23) (by omega) ih (o_pos b2 hf)⟩
    replace hf := o_neg b2 hf
    cases hf
theorem metd_holds {l : Launch} {G : gG} {o B F : Nat} {a q : Nat} {τ : XS} {r : Int32 × XS × Nat × Nat} (hf : xd_holds F 20 a q τ = some r) : MetV l G o B 43 (some .int) al_holds a [.ref q] τ r := metW_holds 20 a q τ r hf
theorem dX10_holds_0 : decode cX10_holds 0 = .ok (.aload_n 0, 1) := by decide +kernel
theorem dX10_holds_1 : decode cX10_holds 1 = .ok (.getfield 13, 3) := by decide +kernel
theorem dX10_holds_4 : decode cX10_holds 4 = .ok (.ifnull 15, 3) := by decide +kernel
theorem dX10_holds_7 : decode cX10_holds 7 = .ok (.aload_n 0, 1) := by decide +kernel
theorem dX10_holds_8 : decode cX10_holds 8 = .ok (.getfield 13, 3) := by decide +kernel
theorem dX10_holds_11 : decode cX10_holds 11 = .ok (.aload_n 1, 1) := by decide +kernel
theorem dX10_holds_12 : decode cX10_holds 12 = .ok (.invokevirtual 17, 3) := by decide +kernel
theorem dX10_holds_15 : decode cX10_holds 15 = .ok (.iconst 1, 1) := by decide +kernel
theorem dX10_holds_16 : decode cX10_holds 16 = .ok (.if_icmp .ne 7, 3) := by decide +kernel
theorem dX10_holds_19 : decode cX10_holds 19 = .ok (.iconst 1, 1) := by decide +kernel
theorem dX10_holds_20 : decode cX10_holds 20 = .ok (.goto 4, 3) := by decide +kernel
theorem dX10_holds_23 : decode cX10_holds 23 = .ok (.iconst 0, 1) := by decide +kernel
theorem dX10_holds_24 : decode cX10_holds 24 = .ok (.ireturn, 1) := by decide +kernel
section
variable {v : Int32}
noncomputable def x10_holds (F : Nat) (x0 : Nat) (x1 : Nat) (τ : XS) : XR Int32 :=
  (gQ τ x0 [10] 3).bind (fun p1 => if p1 = none then (some (1, τ, 0, 0)) else ((gQ τ x0 [10] 3).bind (fun p2 => (p2).bind (fun a1 => (xd_holds F 20 a1 x1 τ).bind (fun r1 => tk r1.2.2.1 r1.2.2.2 (if r1.1 = 1 then (some (1, r1.2.1, 0, 0)) else (some (0, r1.2.1, 0, 0))))))))
theorem met_x10_holds {l : Launch} {G : gG} {o B F : Nat} {x0 : Nat} {x1 : Nat} {τ : XS} {r : Int32 × XS × Nat × Nat} (hf : x10_holds F x0 x1 τ = some r) : MetX l G o B yX10_holds cX10_holds 2 (some .boolean) 44 [.ref x0, .ref x1] τ (xQi G o B r.1 r.2.1) r.2.2.1 r.2.2.2 := by
  obtain ⟨v, τr, c, s⟩ := r
  refine metX_of (own := RX10) (mn := "holds") (by decide) rfl rfl rfl (fun γ hγ M => ?_)
  subst hγ
  show J γ (XW G o B τ) 0 0 0 [(0, .ref x0), (1, .ref x1)] []
  have hkn : 0 + c ≤ c ∧ 0 + s ≤ s := ⟨by omega, by omega⟩
  unfold x10_holds at hf
  refine j_aload_n (pc := 0) M.1 dX10_holds_0 0 rfl ?_
  obtain ⟨p1, g1, hf⟩ := o_bind hf
  refine jx_getQ (pc := 1) M xfl_X10_13 g1 dX10_holds_1 ?_
  refine j_ifnull (pc := 4) (x := p1) M.1 19 dX10_holds_4 rfl (fun b1 => ?_) (fun b1 => ?_)
  · replace hf := o_pos b1 hf
    refine j_iconst (pc := 19) M.1 dX10_holds_19 kc_iconst_1 ?_
    refine j_goto (pc := 20) M.1 24 dX10_holds_20 rfl ?_
    exact jx_zretF (pc := 24) M dX10_holds_24 rfl hf hkn
  · replace hf := o_neg b1 hf
    refine j_aload_n (pc := 7) M.1 dX10_holds_7 0 rfl ?_
    obtain ⟨p2, g2, hf⟩ := o_bind hf
    refine jx_getQ (pc := 8) M xfl_X10_13 g2 dX10_holds_8 ?_
    refine j_aload_n (pc := 11) M.1 dX10_holds_11 1 rfl ?_
    obtain ⟨a1, hq1, hf⟩ := o_bind hf
    refine j_st (show _ = [.ref x1, .ref a1] by simp only [hq1, va_rf]) ?_
    obtain ⟨r1, g3, hf⟩ := o_bind hf
    obtain ⟨c1, s1, hf, hc1, hs1⟩ := o_tk hf
    replace hkn := kn_step hkn hc1 hs1
    refine jx_i M (x_runD (pc := 12) (As := [.ref x1]) (rest := []) M xcv_X10_17 (metd_holds g3) (by decide) rfl rfl rfl dX10_holds_12 (kn_le hkn)) ?_
    refine j_iconst (pc := 15) M.1 dX10_holds_15 kc_iconst_1 ?_
    refine j_icmp_ne (pc := 16) M.1 23 dX10_holds_16 rfl (fun b2 => ?_) (fun b2 => ?_)
    · replace hf := o_neg b2 hf
      refine j_iconst (pc := 23) M.1 dX10_holds_23 kc_iconst_0 ?_
      exact jx_zretF (pc := 24) M dX10_holds_24 rfl hf hkn
    · replace hf := o_pos b2 hf
      refine j_iconst (pc := 19) M.1 dX10_holds_19 kc_iconst_1 ?_
      refine j_goto (pc := 20) M.1 24 dX10_holds_20 rfl ?_
      exact jx_zretF (pc := 24) M dX10_holds_24 rfl hf hkn
end
theorem dX9_isInForce_0 : decode cX9_isInForce 0 = .ok (.iload_n 1, 1) := by decide +kernel
theorem dX9_isInForce_1 : decode cX9_isInForce 1 = .ok (.aload_n 0, 1) := by decide +kernel
theorem dX9_isInForce_2 : decode cX9_isInForce 2 = .ok (.getfield 21, 3) := by decide +kernel
theorem dX9_isInForce_5 : decode cX9_isInForce 5 = .ok (.aload_n 0, 1) := by decide +kernel
theorem dX9_isInForce_6 : decode cX9_isInForce 6 = .ok (.getfield 25, 3) := by decide +kernel
theorem dX9_isInForce_9 : decode cX9_isInForce 9 = .ok (.invokestatic 152, 3) := by decide +kernel
theorem dX9_isInForce_12 : decode cX9_isInForce 12 = .ok (.ireturn, 1) := by decide +kernel
section
variable {v : Int32}
noncomputable def x9_isInForce (F : Nat) (x0 : Nat) (x1 : Int32) (τ : XS) : XR Int32 :=
  (gI τ x0 [9] 3).bind (fun v1 => (gI τ x0 [9] 4).bind (fun v2 => (x0_within F x1 v1 v2).bind (fun r1 => if okB r1 = true then some (r1, τ, 0, 0) else none)))
theorem met_x9_isInForce {l : Launch} {G : gG} {o B F : Nat} {x0 : Nat} {x1 : Int32} {τ : XS} {r : Int32 × XS × Nat × Nat} (hf : x9_isInForce F x0 x1 τ = some r) : MetX l G o B yX9_isInForce cX9_isInForce 2 (some .boolean) 2 [.ref x0, .int x1] τ (xQi G o B r.1 r.2.1) r.2.2.1 r.2.2.2 := by
  obtain ⟨v, τr, c, s⟩ := r
  refine metX_of (own := RX9) (mn := "isInForce") (by decide) rfl rfl rfl (fun γ hγ M => ?_)
  subst hγ
  show J γ (XW G o B τ) 0 0 0 [(0, .ref x0), (1, .int x1)] []
  have hkn : 0 + c ≤ c ∧ 0 + s ≤ s := ⟨by omega, by omega⟩
  unfold x9_isInForce at hf
  refine j_iload_n (pc := 0) M.1 dX9_isInForce_0 1 rfl ?_
  refine j_aload_n (pc := 1) M.1 dX9_isInForce_1 0 rfl ?_
  obtain ⟨v1, g1, hf⟩ := o_bind hf
  refine jx_getI (pc := 2) M xfl_X9_21 g1 dX9_isInForce_2 ?_
  refine j_aload_n (pc := 5) M.1 dX9_isInForce_5 0 rfl ?_
  obtain ⟨v2, g2, hf⟩ := o_bind hf
  refine jx_getI (pc := 6) M xfl_X9_25 g2 dX9_isInForce_6 ?_
  obtain ⟨r1, g3, hf⟩ := o_bind hf
  refine jx_callsN (pc := 9) (As := [.int x1, .int v1, .int v2]) (rest := []) M xcn_X9_152 (met_x0_within g3) rfl rfl rfl rfl dX9_isInForce_9 (kn_le0 hkn) ?_
  obtain ⟨b1, hf⟩ := o_need hf
  exact jx_zretF (pc := 12) M dX9_isInForce_12 b1 hf hkn
end
theorem dX0_strikes_0 : decode cX0_strikes 0 = .ok (.iconst 0, 1) := by decide +kernel
theorem dX0_strikes_1 : decode cX0_strikes 1 = .ok (.istore_n 2, 1) := by decide +kernel
theorem dX0_strikes_2 : decode cX0_strikes 2 = .ok (.iload_n 2, 1) := by decide +kernel
theorem dX0_strikes_3 : decode cX0_strikes 3 = .ok (.aload_n 0, 1) := by decide +kernel
theorem dX0_strikes_4 : decode cX0_strikes 4 = .ok (.getfield 271, 3) := by decide +kernel
theorem dX0_strikes_7 : decode cX0_strikes 7 = .ok (.if_icmp .ge 35, 3) := by decide +kernel
theorem dX0_strikes_10 : decode cX0_strikes 10 = .ok (.iconst 0, 1) := by decide +kernel
theorem dX0_strikes_11 : decode cX0_strikes 11 = .ok (.istore_n 3, 1) := by decide +kernel
theorem dX0_strikes_12 : decode cX0_strikes 12 = .ok (.iload_n 3, 1) := by decide +kernel
theorem dX0_strikes_13 : decode cX0_strikes 13 = .ok (.bipush 10, 2) := by decide +kernel
theorem dX0_strikes_15 : decode cX0_strikes 15 = .ok (.if_icmp .ge 21, 3) := by decide +kernel
theorem dX0_strikes_18 : decode cX0_strikes 18 = .ok (.aload_n 0, 1) := by decide +kernel
theorem dX0_strikes_19 : decode cX0_strikes 19 = .ok (.getfield 53, 3) := by decide +kernel
theorem dX0_strikes_22 : decode cX0_strikes 22 = .ok (.iload_n 2, 1) := by decide +kernel
theorem dX0_strikes_23 : decode cX0_strikes 23 = .ok (.aaload, 1) := by decide +kernel
theorem dX0_strikes_24 : decode cX0_strikes 24 = .ok (.getfield 281, 3) := by decide +kernel
theorem dX0_strikes_27 : decode cX0_strikes 27 = .ok (.iload_n 3, 1) := by decide +kernel
theorem dX0_strikes_28 : decode cX0_strikes 28 = .ok (.iconst 0, 1) := by decide +kernel
theorem dX0_strikes_29 : decode cX0_strikes 29 = .ok (.bastore, 1) := by decide +kernel
theorem dX0_strikes_30 : decode cX0_strikes 30 = .ok (.iinc 3 1, 3) := by decide +kernel
theorem dX0_strikes_33 : decode cX0_strikes 33 = .ok (.goto (-21), 3) := by decide +kernel
theorem dX0_strikes_36 : decode cX0_strikes 36 = .ok (.iinc 2 1, 3) := by decide +kernel
theorem dX0_strikes_39 : decode cX0_strikes 39 = .ok (.goto (-37), 3) := by decide +kernel
theorem dX0_strikes_42 : decode cX0_strikes 42 = .ok (.aload_n 0, 1) := by decide +kernel
theorem dX0_strikes_43 : decode cX0_strikes 43 = .ok (.getfield 271, 3) := by decide +kernel
theorem dX0_strikes_46 : decode cX0_strikes 46 = .ok (.iconst 1, 1) := by decide +kernel
theorem dX0_strikes_47 : decode cX0_strikes 47 = .ok (.isub, 1) := by decide +kernel
theorem dX0_strikes_48 : decode cX0_strikes 48 = .ok (.istore_n 2, 1) := by decide +kernel
theorem dX0_strikes_49 : decode cX0_strikes 49 = .ok (.iload_n 2, 1) := by decide +kernel
theorem dX0_strikes_50 : decode cX0_strikes 50 = .ok (.ifCond .lt 120, 3) := by decide +kernel
theorem dX0_strikes_53 : decode cX0_strikes 53 = .ok (.aload_n 0, 1) := by decide +kernel
theorem dX0_strikes_54 : decode cX0_strikes 54 = .ok (.getfield 53, 3) := by decide +kernel
theorem dX0_strikes_57 : decode cX0_strikes 57 = .ok (.iload_n 2, 1) := by decide +kernel
theorem dX0_strikes_58 : decode cX0_strikes 58 = .ok (.aaload, 1) := by decide +kernel
theorem dX0_strikes_59 : decode cX0_strikes 59 = .ok (.astore_n 3, 1) := by decide +kernel
theorem dX0_strikes_60 : decode cX0_strikes 60 = .ok (.aload_n 3, 1) := by decide +kernel
theorem dX0_strikes_61 : decode cX0_strikes 61 = .ok (.iload_n 1, 1) := by decide +kernel
theorem dX0_strikes_62 : decode cX0_strikes 62 = .ok (.invokevirtual 285, 3) := by decide +kernel
theorem dX0_strikes_65 : decode cX0_strikes 65 = .ok (.ifCond .ne 6, 3) := by decide +kernel
theorem dX0_strikes_68 : decode cX0_strikes 68 = .ok (.goto 96, 3) := by decide +kernel
theorem dX0_strikes_71 : decode cX0_strikes 71 = .ok (.iconst 0, 1) := by decide +kernel
theorem dX0_strikes_72 : decode cX0_strikes 72 = .ok (.istore 4, 2) := by decide +kernel
theorem dX0_strikes_74 : decode cX0_strikes 74 = .ok (.iload 4, 2) := by decide +kernel
theorem dX0_strikes_76 : decode cX0_strikes 76 = .ok (.aload_n 3, 1) := by decide +kernel
theorem dX0_strikes_77 : decode cX0_strikes 77 = .ok (.getfield 288, 3) := by decide +kernel
theorem dX0_strikes_80 : decode cX0_strikes 80 = .ok (.if_icmp .ge 84, 3) := by decide +kernel
theorem dX0_strikes_83 : decode cX0_strikes 83 = .ok (.aload_n 3, 1) := by decide +kernel
theorem dX0_strikes_84 : decode cX0_strikes 84 = .ok (.getfield 291, 3) := by decide +kernel
theorem dX0_strikes_87 : decode cX0_strikes 87 = .ok (.iload 4, 2) := by decide +kernel
theorem dX0_strikes_89 : decode cX0_strikes 89 = .ok (.aaload, 1) := by decide +kernel
theorem dX0_strikes_90 : decode cX0_strikes 90 = .ok (.astore 5, 2) := by decide +kernel
theorem dX0_strikes_92 : decode cX0_strikes 92 = .ok (.aload 5, 2) := by decide +kernel
theorem dX0_strikes_94 : decode cX0_strikes 94 = .ok (.getfield 295, 3) := by decide +kernel
theorem dX0_strikes_97 : decode cX0_strikes 97 = .ok (.bipush 120, 2) := by decide +kernel
theorem dX0_strikes_99 : decode cX0_strikes 99 = .ok (.if_icmp .ne 59, 3) := by decide +kernel
theorem dX0_strikes_102 : decode cX0_strikes 102 = .ok (.aload_n 3, 1) := by decide +kernel
theorem dX0_strikes_103 : decode cX0_strikes 103 = .ok (.getfield 281, 3) := by decide +kernel
theorem dX0_strikes_106 : decode cX0_strikes 106 = .ok (.iload 4, 2) := by decide +kernel
theorem dX0_strikes_108 : decode cX0_strikes 108 = .ok (.baload, 1) := by decide +kernel
theorem dX0_strikes_109 : decode cX0_strikes 109 = .ok (.ifCond .ne 49, 3) := by decide +kernel
theorem dX0_strikes_112 : decode cX0_strikes 112 = .ok (.aload 5, 2) := by decide +kernel
theorem dX0_strikes_114 : decode cX0_strikes 114 = .ok (.getfield 300, 3) := by decide +kernel
theorem dX0_strikes_117 : decode cX0_strikes 117 = .ok (.iload_n 2, 1) := by decide +kernel
theorem dX0_strikes_118 : decode cX0_strikes 118 = .ok (.if_icmp .ge 40, 3) := by decide +kernel
theorem dX0_strikes_121 : decode cX0_strikes 121 = .ok (.aload_n 0, 1) := by decide +kernel
theorem dX0_strikes_122 : decode cX0_strikes 122 = .ok (.getfield 53, 3) := by decide +kernel
theorem dX0_strikes_125 : decode cX0_strikes 125 = .ok (.aload 5, 2) := by decide +kernel
theorem dX0_strikes_127 : decode cX0_strikes 127 = .ok (.getfield 300, 3) := by decide +kernel
theorem dX0_strikes_130 : decode cX0_strikes 130 = .ok (.aaload, 1) := by decide +kernel
theorem dX0_strikes_131 : decode cX0_strikes 131 = .ok (.iload_n 1, 1) := by decide +kernel
theorem dX0_strikes_132 : decode cX0_strikes 132 = .ok (.invokevirtual 285, 3) := by decide +kernel
theorem dX0_strikes_135 : decode cX0_strikes 135 = .ok (.ifCond .eq 23, 3) := by decide +kernel
theorem dX0_strikes_138 : decode cX0_strikes 138 = .ok (.aload_n 0, 1) := by decide +kernel
theorem dX0_strikes_139 : decode cX0_strikes 139 = .ok (.getfield 53, 3) := by decide +kernel
theorem dX0_strikes_142 : decode cX0_strikes 142 = .ok (.aload 5, 2) := by decide +kernel
theorem dX0_strikes_144 : decode cX0_strikes 144 = .ok (.getfield 300, 3) := by decide +kernel
theorem dX0_strikes_147 : decode cX0_strikes 147 = .ok (.aaload, 1) := by decide +kernel
theorem dX0_strikes_148 : decode cX0_strikes 148 = .ok (.getfield 281, 3) := by decide +kernel
theorem dX0_strikes_151 : decode cX0_strikes 151 = .ok (.aload 5, 2) := by decide +kernel
theorem dX0_strikes_153 : decode cX0_strikes 153 = .ok (.getfield 301, 3) := by decide +kernel
theorem dX0_strikes_156 : decode cX0_strikes 156 = .ok (.iconst 1, 1) := by decide +kernel
theorem dX0_strikes_157 : decode cX0_strikes 157 = .ok (.bastore, 1) := by decide +kernel
theorem dX0_strikes_158 : decode cX0_strikes 158 = .ok (.iinc 4 1, 3) := by decide +kernel
theorem dX0_strikes_161 : decode cX0_strikes 161 = .ok (.goto (-87), 3) := by decide +kernel
theorem dX0_strikes_164 : decode cX0_strikes 164 = .ok (.iinc 2 (-1), 3) := by decide +kernel
theorem dX0_strikes_167 : decode cX0_strikes 167 = .ok (.goto (-118), 3) := by decide +kernel
theorem dX0_strikes_170 : decode cX0_strikes 170 = .ok (.return_, 1) := by decide +kernel
section
variable {v : Int32}
noncomputable def x0_strikes_B12 (F : Nat) (K36 : Int32 × XS → XR Int32) (x1 : Int32) (x2 : Int32) (R : Int32 × XS → XR Int32) (a : Int32 × XS) : XR Int32 :=
  if 10 ≤ a.1 then (K36 (a.1, a.2)) else (if okI x2 20 = true then (a.2.2.1 6 x2.toNatClampNeg).bind (fun n1 => (gN a.2 n1 [9] 1).bind (fun n2 => (gA a.2 n2 2).bind (fun A1 => if okI a.1 A1.1 = true then nx (xP a.2 n2 (.inl (2, A1.1, .inl (upd A1.2 a.1.toNatClampNeg (vp_nar .boolean 0))))) (fun τ1 => R (a.1 + 1, τ1)) else none))) else none)
theorem kx0_strikes_B12 (M : XC γ cX0_strikes 6 RX0 "strikes" G o B 3 none (xQv G o B v τr) c0 s0) (x1 : Int32) (x2 : Int32) (K36 : Int32 × XS → XR Int32) (hK36 : ∀ a c s, K36 a = some (v, τr, c, s) → ∀ k n, k + c ≤ c0 ∧ n + s ≤ s0 → J γ (XW G o B a.2) k n 36 [(0, .ref o), (1, .int x1), (2, .int x2)] []) : ∀ R : Int32 × XS → XR Int32, (∀ a c s, R a = some (v, τr, c, s) → ∀ k n, k + c ≤ c0 ∧ n + s ≤ s0 → J γ (XW G o B a.2) k n 12 [(0, .ref o), (1, .int x1), (2, .int x2), (3, .int a.1)] []) → ∀ a c s, x0_strikes_B12 F K36 x1 x2 R a = some (v, τr, c, s) → ∀ k n, k + c ≤ c0 ∧ n + s ≤ s0 → J γ (XW G o B a.2) k n 12 [(0, .ref o), (1, .int x1), (2, .int x2), (3, .int a.1)] [] := by
  intro R hR a c s hf k n hkn
  unfold x0_strikes_B12 at hf
  refine j_iload_n (pc := 12) M.1 dX0_strikes_12 3 rfl ?_
  refine j_bipush (pc := 13) M.1 dX0_strikes_13 kc_bipush_10 ?_
  refine j_icmp_ge (pc := 15) M.1 36 dX0_strikes_15 rfl (fun b1 => ?_) (fun b1 => ?_)
  · replace hf := o_pos b1 hf
    refine j_sub [0, 1, 2] (show lv_pick _ _ = [(0, .ref o), (1, .int x1), (2, .int x2)] from rfl) ?_
    have hy := hK36 _ _ _ hf _ _ hkn
    exact hy
  · replace hf := o_neg b1 hf
    refine j_aload_n (pc := 18) M.1 dX0_strikes_18 0 rfl ?_
    refine jx_getA (pc := 19) M xfa_53 dX0_strikes_19 ?_
    refine j_iload_n (pc := 22) M.1 dX0_strikes_22 2 rfl ?_
    obtain ⟨b2, hf⟩ := o_need hf
    obtain ⟨n1, g1, hf⟩ := o_bind hf
    refine jx_aald (pc := 23) M xax_6 (by decide) xrt_6 b2 g1 dX0_strikes_23 ?_
    obtain ⟨n2, g2, hf⟩ := o_bind hf
    refine jx_getN (pc := 24) M xfl_X0_281 g2 dX0_strikes_24 ?_
    refine j_iload_n (pc := 27) M.1 dX0_strikes_27 3 rfl ?_
    refine j_iconst (pc := 28) M.1 dX0_strikes_28 kc_iconst_0 ?_
    obtain ⟨A1, g3, hf⟩ := o_bind hf
    obtain ⟨b3, hf⟩ := o_need hf
    obtain ⟨τ1, e1, hf⟩ := o_nx hf
    refine jx_past2 (pc := 29) M g3 b3 dX0_strikes_29 e1 ?_
    refine j_iinc (pc := 30) M.1 [(3, .int (a.1 + 1)), (0, .ref o), (1, .int x1), (2, .int x2)] dX0_strikes_30 3 rfl (congrArg _ kc_iconst_1) rfl rfl ?_
    refine j_goto (pc := 33) M.1 12 dX0_strikes_33 rfl ?_
    refine j_sub [1, 2, 3, 0] (show lv_pick _ _ = [(0, .ref o), (1, .int x1), (2, .int x2), (3, .int (a.1 + 1))] from rfl) ?_
    have hy := hR _ _ _ hf _ _ hkn
    exact hy
noncomputable def x0_strikes_B2 (F : Nat) (K42 : Int32 × XS → XR Int32) (x1 : Int32) (R : Int32 × XS → XR Int32) (a : Int32 × XS) : XR Int32 :=
  if (a.2.1.1 14) ≤ a.1 then (K42 (a.1, a.2)) else (lp (x0_strikes_B12 F (fun a1 => R (a.1 + 1, a1.2)) x1 a.1) F (0, a.2))
theorem kx0_strikes_B2 (M : XC γ cX0_strikes 6 RX0 "strikes" G o B 3 none (xQv G o B v τr) c0 s0) (x1 : Int32) (K42 : Int32 × XS → XR Int32) (hK42 : ∀ a c s, K42 a = some (v, τr, c, s) → ∀ k n, k + c ≤ c0 ∧ n + s ≤ s0 → J γ (XW G o B a.2) k n 42 [(0, .ref o), (1, .int x1)] []) : ∀ R : Int32 × XS → XR Int32, (∀ a c s, R a = some (v, τr, c, s) → ∀ k n, k + c ≤ c0 ∧ n + s ≤ s0 → J γ (XW G o B a.2) k n 2 [(0, .ref o), (1, .int x1), (2, .int a.1)] []) → ∀ a c s, x0_strikes_B2 F K42 x1 R a = some (v, τr, c, s) → ∀ k n, k + c ≤ c0 ∧ n + s ≤ s0 → J γ (XW G o B a.2) k n 2 [(0, .ref o), (1, .int x1), (2, .int a.1)] [] := by
  intro R hR a c s hf k n hkn
  unfold x0_strikes_B2 at hf
  refine j_iload_n (pc := 2) M.1 dX0_strikes_2 2 rfl ?_
  refine j_aload_n (pc := 3) M.1 dX0_strikes_3 0 rfl ?_
  refine jx_getS (pc := 4) M xfs_271 dX0_strikes_4 ?_
  refine j_icmp_ge (pc := 7) M.1 42 dX0_strikes_7 rfl (fun b1 => ?_) (fun b1 => ?_)
  · replace hf := o_pos b1 hf
    refine j_sub [0, 1] (show lv_pick _ _ = [(0, .ref o), (1, .int x1)] from rfl) ?_
    have hy := hK42 _ _ _ hf _ _ hkn
    exact hy
  · replace hf := o_neg b1 hf
    refine j_iconst (pc := 10) M.1 dX0_strikes_10 kc_iconst_0 ?_
    refine j_istore_n (pc := 11) M.1 [(3, .int 0), (0, .ref o), (1, .int x1), (2, .int a.1)] dX0_strikes_11 rfl rfl ?_
    refine j_sub [1, 2, 3, 0] (show lv_pick _ _ = [(0, .ref o), (1, .int x1), (2, .int a.1), (3, .int 0)] from rfl) ?_
    refine lp_Wc (kx0_strikes_B12 M x1 a.1 _ ?_) F (0, a.2) _ _ hf _ _ hkn
    · intro a1 c s hf k n hkn
      refine j_iinc (pc := 36) M.1 [(2, .int (a.1 + 1)), (0, .ref o), (1, .int x1)] dX0_strikes_36 2 rfl (congrArg _ kc_iconst_1) rfl rfl ?_
      refine j_goto (pc := 39) M.1 2 dX0_strikes_39 rfl ?_
      refine j_sub [1, 2, 0] (show lv_pick _ _ = [(0, .ref o), (1, .int x1), (2, .int (a.1 + 1))] from rfl) ?_
      have hy := hR _ _ _ hf _ _ hkn
      exact hy
noncomputable def x0_strikes_B74 (F : Nat) (K164 : Int32 × XS → XR Int32) (x1 : Int32) (x2 : Int32) (x3 : Nat) (R : Int32 × XS → XR Int32) (a : Int32 × XS) : XR Int32 :=
  (gI a.2 x3 [9] 2).bind (fun v1 => if v1 ≤ a.1 then (K164 (a.1, a.2)) else ((gN a.2 x3 [9] 0).bind (fun n1 => (gB a.2 n1 14).bind (fun A1 => if okI a.1 A1.1 = true then (A1.2 a.1.toNatClampNeg).bind (fun n2 => (gI a.2 n2 [10] 0).bind (fun v2 => if v2 = 120 then ((gN a.2 x3 [9] 1).bind (fun n3 => (gA a.2 n3 2).bind (fun A2 => if okI a.1 A2.1 = true then if (A2.2 a.1.toNatClampNeg) = 0 then ((gI a.2 n2 [10] 1).bind (fun v3 => if x2 ≤ v3 then (R (a.1 + 1, a.2)) else ((gI a.2 n2 [10] 1).bind (fun v4 => if okI v4 20 = true then (a.2.2.1 6 v4.toNatClampNeg).bind (fun n4 => if isC a.2 n4 [9] = true then (x9_isInForce F n4 x1 a.2).bind (fun r1 => tk r1.2.2.1 r1.2.2.2 (if r1.1 = 0 then (R (a.1 + 1, r1.2.1)) else ((gI r1.2.1 n2 [10] 1).bind (fun v5 => if okI v5 20 = true then (r1.2.1.2.1 6 v5.toNatClampNeg).bind (fun n5 => (gN r1.2.1 n5 [9] 1).bind (fun n6 => (gI r1.2.1 n2 [10] 2).bind (fun v6 => (gA r1.2.1 n6 2).bind (fun A3 => if okI v6 A3.1 = true then nx (xP r1.2.1 n6 (.inl (2, A3.1, .inl (upd A3.2 v6.toNatClampNeg (vp_nar .boolean 1))))) (fun τ1 => R (a.1 + 1, τ1)) else none)))) else none)))) else none) else none)))) else (R (a.1 + 1, a.2)) else none))) else (R (a.1 + 1, a.2)))) else none))))
theorem kx0_strikes_B74 (M : XC γ cX0_strikes 6 RX0 "strikes" G o B 3 none (xQv G o B v τr) c0 s0) (x1 : Int32) (x2 : Int32) (x3 : Nat) (K164 : Int32 × XS → XR Int32) (hK164 : ∀ a c s, K164 a = some (v, τr, c, s) → ∀ k n, k + c ≤ c0 ∧ n + s ≤ s0 → J γ (XW G o B a.2) k n 164 [(0, .ref o), (1, .int x1), (2, .int x2)] []) : ∀ R : Int32 × XS → XR Int32, (∀ a c s, R a = some (v, τr, c, s) → ∀ k n, k + c ≤ c0 ∧ n + s ≤ s0 → J γ (XW G o B a.2) k n 74 [(0, .ref o), (1, .int x1), (2, .int x2), (3, .ref x3), (4, .int a.1)] []) → ∀ a c s, x0_strikes_B74 F K164 x1 x2 x3 R a = some (v, τr, c, s) → ∀ k n, k + c ≤ c0 ∧ n + s ≤ s0 → J γ (XW G o B a.2) k n 74 [(0, .ref o), (1, .int x1), (2, .int x2), (3, .ref x3), (4, .int a.1)] [] := by
  intro R hR a c s hf k n hkn
  unfold x0_strikes_B74 at hf
  refine j_iload (pc := 74) M.1 dX0_strikes_74 4 rfl ?_
  refine j_aload_n (pc := 76) M.1 dX0_strikes_76 3 rfl ?_
  obtain ⟨v1, g1, hf⟩ := o_bind hf
  refine jx_getI (pc := 77) M xfl_X0_288 g1 dX0_strikes_77 ?_
  refine j_icmp_ge (pc := 80) M.1 164 dX0_strikes_80 rfl (fun b1 => ?_) (fun b1 => ?_)
  · replace hf := o_pos b1 hf
    refine j_sub [0, 1, 2] (show lv_pick _ _ = [(0, .ref o), (1, .int x1), (2, .int x2)] from rfl) ?_
    have hy := hK164 _ _ _ hf _ _ hkn
    exact hy
  · replace hf := o_neg b1 hf
    refine j_aload_n (pc := 83) M.1 dX0_strikes_83 3 rfl ?_
    obtain ⟨n1, g2, hf⟩ := o_bind hf
    refine jx_getN (pc := 84) M xfl_X0_291 g2 dX0_strikes_84 ?_
    refine j_iload (pc := 87) M.1 dX0_strikes_87 4 rfl ?_
    obtain ⟨A1, g4, hf⟩ := o_bind hf
    obtain ⟨b2, hf⟩ := o_need hf
    obtain ⟨n2, g3, hf⟩ := o_bind hf
    refine jx_paald (pc := 89) M xrt_14 g4 b2 g3 dX0_strikes_89 ?_
    refine j_astore (pc := 90) M.1 [(5, .ref n2), (0, .ref o), (1, .int x1), (2, .int x2), (3, .ref x3), (4, .int a.1)] dX0_strikes_90 rfl rfl ?_
    refine j_aload (pc := 92) M.1 dX0_strikes_92 0 rfl ?_
    obtain ⟨v2, g5, hf⟩ := o_bind hf
    refine jx_getI (pc := 94) M xfl_X0_295 g5 dX0_strikes_94 ?_
    refine j_bipush (pc := 97) M.1 dX0_strikes_97 kc_bipush_120 ?_
    refine j_icmp_ne (pc := 99) M.1 158 dX0_strikes_99 rfl (fun b3 => ?_) (fun b3 => ?_)
    · replace hf := o_neg b3 hf
      refine j_iinc (pc := 158) M.1 [(4, .int (a.1 + 1)), (5, .ref n2), (0, .ref o), (1, .int x1), (2, .int x2), (3, .ref x3)] dX0_strikes_158 5 rfl (congrArg _ kc_iconst_1) rfl rfl ?_
      refine j_goto (pc := 161) M.1 74 dX0_strikes_161 rfl ?_
      refine j_sub [2, 3, 4, 5, 0] (show lv_pick _ _ = [(0, .ref o), (1, .int x1), (2, .int x2), (3, .ref x3), (4, .int (a.1 + 1))] from rfl) ?_
      have hy := hR _ _ _ hf _ _ hkn
      exact hy
    · replace hf := o_pos b3 hf
      refine j_aload_n (pc := 102) M.1 dX0_strikes_102 4 rfl ?_
      obtain ⟨n3, g6, hf⟩ := o_bind hf
      refine jx_getN (pc := 103) M xfl_X0_281 g6 dX0_strikes_103 ?_
      refine j_iload (pc := 106) M.1 dX0_strikes_106 5 rfl ?_
      obtain ⟨A2, g7, hf⟩ := o_bind hf
      obtain ⟨b4, hf⟩ := o_need hf
      refine jx_pald2 (pc := 108) M g7 b4 dX0_strikes_108 ?_
      refine j_if_ne (pc := 109) M.1 158 dX0_strikes_109 rfl (fun b5 => ?_) (fun b5 => ?_)
      · replace hf := o_neg b5 hf
        refine j_iinc (pc := 158) M.1 [(4, .int (a.1 + 1)), (5, .ref n2), (0, .ref o), (1, .int x1), (2, .int x2), (3, .ref x3)] dX0_strikes_158 5 rfl (congrArg _ kc_iconst_1) rfl rfl ?_
        refine j_goto (pc := 161) M.1 74 dX0_strikes_161 rfl ?_
        refine j_sub [2, 3, 4, 5, 0] (show lv_pick _ _ = [(0, .ref o), (1, .int x1), (2, .int x2), (3, .ref x3), (4, .int (a.1 + 1))] from rfl) ?_
        have hy := hR _ _ _ hf _ _ hkn
        exact hy
      · replace hf := o_pos b5 hf
        refine j_aload (pc := 112) M.1 dX0_strikes_112 0 rfl ?_
        obtain ⟨v3, g8, hf⟩ := o_bind hf
        refine jx_getI (pc := 114) M xfl_X0_300 g8 dX0_strikes_114 ?_
        refine j_iload_n (pc := 117) M.1 dX0_strikes_117 3 rfl ?_
        refine j_icmp_ge (pc := 118) M.1 158 dX0_strikes_118 rfl (fun b6 => ?_) (fun b6 => ?_)
        · replace hf := o_pos b6 hf
          refine j_iinc (pc := 158) M.1 [(4, .int (a.1 + 1)), (5, .ref n2), (0, .ref o), (1, .int x1), (2, .int x2), (3, .ref x3)] dX0_strikes_158 5 rfl (congrArg _ kc_iconst_1) rfl rfl ?_
          refine j_goto (pc := 161) M.1 74 dX0_strikes_161 rfl ?_
          refine j_sub [2, 3, 4, 5, 0] (show lv_pick _ _ = [(0, .ref o), (1, .int x1), (2, .int x2), (3, .ref x3), (4, .int (a.1 + 1))] from rfl) ?_
          have hy := hR _ _ _ hf _ _ hkn
          exact hy
        · replace hf := o_neg b6 hf
          refine j_aload_n (pc := 121) M.1 dX0_strikes_121 1 rfl ?_
          refine jx_getA (pc := 122) M xfa_53 dX0_strikes_122 ?_
          refine j_aload (pc := 125) M.1 dX0_strikes_125 0 rfl ?_
          obtain ⟨v4, g9, hf⟩ := o_bind hf
          refine jx_getI (pc := 127) M xfl_X0_300 g9 dX0_strikes_127 ?_
          obtain ⟨b7, hf⟩ := o_need hf
          obtain ⟨n4, g10, hf⟩ := o_bind hf
          refine jx_aald (pc := 130) M xax_6 (by decide) xrt_6 b7 g10 dX0_strikes_130 ?_
          refine j_iload_n (pc := 131) M.1 dX0_strikes_131 2 rfl ?_
          obtain ⟨b8, hf⟩ := o_need hf
          obtain ⟨r1, g11, hf⟩ := o_bind hf
          obtain ⟨c1, s1, hf, hc1, hs1⟩ := o_tk hf
          replace hkn := kn_step hkn hc1 hs1
          refine jx_i M (x_runW (pc := 132) (As := [.int x1]) (rest := []) M xcw_X0_285 (met_x9_isInForce g11) b8 (by decide) rfl rfl rfl dX0_strikes_132 (kn_le hkn)) ?_
          refine j_if_eq (pc := 135) M.1 158 dX0_strikes_135 rfl (fun b9 => ?_) (fun b9 => ?_)
          · replace hf := o_pos b9 hf
            refine j_iinc (pc := 158) M.1 [(4, .int (a.1 + 1)), (5, .ref n2), (0, .ref o), (1, .int x1), (2, .int x2), (3, .ref x3)] dX0_strikes_158 5 rfl (congrArg _ kc_iconst_1) rfl rfl ?_
            refine j_goto (pc := 161) M.1 74 dX0_strikes_161 rfl ?_
            refine j_sub [2, 3, 4, 5, 0] (show lv_pick _ _ = [(0, .ref o), (1, .int x1), (2, .int x2), (3, .ref x3), (4, .int (a.1 + 1))] from rfl) ?_
            have hy := hR _ _ _ hf _ _ hkn
            exact hy
          · replace hf := o_neg b9 hf
            refine j_aload_n (pc := 138) M.1 dX0_strikes_138 1 rfl ?_
            refine jx_getA (pc := 139) M xfa_53 dX0_strikes_139 ?_
            refine j_aload (pc := 142) M.1 dX0_strikes_142 0 rfl ?_
            obtain ⟨v5, g12, hf⟩ := o_bind hf
            refine jx_getI (pc := 144) M xfl_X0_300 g12 dX0_strikes_144 ?_
            obtain ⟨b10, hf⟩ := o_need hf
            obtain ⟨n5, g13, hf⟩ := o_bind hf
            refine jx_aald (pc := 147) M xax_6 (by decide) xrt_6 b10 g13 dX0_strikes_147 ?_
            obtain ⟨n6, g14, hf⟩ := o_bind hf
            refine jx_getN (pc := 148) M xfl_X0_281 g14 dX0_strikes_148 ?_
            refine j_aload (pc := 151) M.1 dX0_strikes_151 0 rfl ?_
            obtain ⟨v6, g15, hf⟩ := o_bind hf
            refine jx_getI (pc := 153) M xfl_X0_301 g15 dX0_strikes_153 ?_
            refine j_iconst (pc := 156) M.1 dX0_strikes_156 kc_iconst_1 ?_
            obtain ⟨A3, g16, hf⟩ := o_bind hf
            obtain ⟨b11, hf⟩ := o_need hf
            obtain ⟨τ1, e1, hf⟩ := o_nx hf
            refine jx_past2 (pc := 157) M g16 b11 dX0_strikes_157 e1 ?_
            refine j_iinc (pc := 158) M.1 [(4, .int (a.1 + 1)), (5, .ref n2), (0, .ref o), (1, .int x1), (2, .int x2), (3, .ref x3)] dX0_strikes_158 5 rfl (congrArg _ kc_iconst_1) rfl rfl ?_
            refine j_goto (pc := 161) M.1 74 dX0_strikes_161 rfl ?_
            refine j_sub [2, 3, 4, 5, 0] (show lv_pick _ _ = [(0, .ref o), (1, .int x1), (2, .int x2), (3, .ref x3), (4, .int (a.1 + 1))] from rfl) ?_
            have hy := hR _ _ _ hf _ _ hkn
            exact hy
noncomputable def x0_strikes_B49 (F : Nat) (x1 : Int32) (R : Int32 × XS → XR Int32) (a : Int32 × XS) : XR Int32 :=
  if a.1 < 0 then (some (0, a.2, 0, 0)) else (if okI a.1 20 = true then (a.2.2.1 6 a.1.toNatClampNeg).bind (fun n1 => if isC a.2 n1 [9] = true then (x9_isInForce F n1 x1 a.2).bind (fun r1 => tk r1.2.2.1 r1.2.2.2 (if r1.1 = 0 then (R (a.1 + (-1), r1.2.1)) else (lp (x0_strikes_B74 F (fun a1 => R (a.1 + (-1), a1.2)) x1 a.1 n1) F (0, r1.2.1)))) else none) else none)
theorem kx0_strikes_B49 (M : XC γ cX0_strikes 6 RX0 "strikes" G o B 3 none (xQv G o B v τr) c0 s0) (x1 : Int32) : ∀ R : Int32 × XS → XR Int32, (∀ a c s, R a = some (v, τr, c, s) → ∀ k n, k + c ≤ c0 ∧ n + s ≤ s0 → J γ (XW G o B a.2) k n 49 [(0, .ref o), (1, .int x1), (2, .int a.1)] []) → ∀ a c s, x0_strikes_B49 F x1 R a = some (v, τr, c, s) → ∀ k n, k + c ≤ c0 ∧ n + s ≤ s0 → J γ (XW G o B a.2) k n 49 [(0, .ref o), (1, .int x1), (2, .int a.1)] [] := by
  intro R hR a c s hf k n hkn
  unfold x0_strikes_B49 at hf
  refine j_iload_n (pc := 49) M.1 dX0_strikes_49 2 rfl ?_
  refine j_if_lt (pc := 50) M.1 170 dX0_strikes_50 rfl (fun b1 => ?_) (fun b1 => ?_)
  · replace hf := o_pos b1 hf
    exact jx_vretF (pc := 170) M dX0_strikes_170 hf hkn
  · replace hf := o_neg b1 hf
    refine j_aload_n (pc := 53) M.1 dX0_strikes_53 0 rfl ?_
    refine jx_getA (pc := 54) M xfa_53 dX0_strikes_54 ?_
    refine j_iload_n (pc := 57) M.1 dX0_strikes_57 2 rfl ?_
    obtain ⟨b2, hf⟩ := o_need hf
    obtain ⟨n1, g1, hf⟩ := o_bind hf
    refine jx_aald (pc := 58) M xax_6 (by decide) xrt_6 b2 g1 dX0_strikes_58 ?_
    refine j_astore_n (pc := 59) M.1 [(3, .ref n1), (0, .ref o), (1, .int x1), (2, .int a.1)] dX0_strikes_59 rfl rfl ?_
    refine j_aload_n (pc := 60) M.1 dX0_strikes_60 0 rfl ?_
    refine j_iload_n (pc := 61) M.1 dX0_strikes_61 2 rfl ?_
    obtain ⟨b3, hf⟩ := o_need hf
    obtain ⟨r1, g2, hf⟩ := o_bind hf
    obtain ⟨c1, s1, hf, hc1, hs1⟩ := o_tk hf
    replace hkn := kn_step hkn hc1 hs1
    refine jx_i M (x_runW (pc := 62) (As := [.int x1]) (rest := []) M xcw_X0_285 (met_x9_isInForce g2) b3 (by decide) rfl rfl rfl dX0_strikes_62 (kn_le hkn)) ?_
    refine j_if_ne (pc := 65) M.1 71 dX0_strikes_65 rfl (fun b4 => ?_) (fun b4 => ?_)
    · replace hf := o_neg b4 hf
      refine j_iconst (pc := 71) M.1 dX0_strikes_71 kc_iconst_0 ?_
      refine j_istore (pc := 72) M.1 [(4, .int 0), (3, .ref n1), (0, .ref o), (1, .int x1), (2, .int a.1)] dX0_strikes_72 rfl rfl ?_
      refine j_sub [2, 3, 4, 1, 0] (show lv_pick _ _ = [(0, .ref o), (1, .int x1), (2, .int a.1), (3, .ref n1), (4, .int 0)] from rfl) ?_
      refine lp_Wc (kx0_strikes_B74 M x1 a.1 n1 _ ?_) F (0, r1.2.1) _ _ hf _ _ hkn
      · intro a1 c s hf k n hkn
        refine j_iinc (pc := 164) M.1 [(2, .int (a.1 + (-1))), (0, .ref o), (1, .int x1)] dX0_strikes_164 2 rfl (congrArg _ kc_iconst_m1) rfl rfl ?_
        refine j_goto (pc := 167) M.1 49 dX0_strikes_167 rfl ?_
        refine j_sub [1, 2, 0] (show lv_pick _ _ = [(0, .ref o), (1, .int x1), (2, .int (a.1 + (-1)))] from rfl) ?_
        have hy := hR _ _ _ hf _ _ hkn
        exact hy
    · replace hf := o_pos b4 hf
      refine j_goto (pc := 68) M.1 164 dX0_strikes_68 rfl ?_
      refine j_iinc (pc := 164) M.1 [(2, .int (a.1 + (-1))), (3, .ref n1), (0, .ref o), (1, .int x1)] dX0_strikes_164 3 rfl (congrArg _ kc_iconst_m1) rfl rfl ?_
      refine j_goto (pc := 167) M.1 49 dX0_strikes_167 rfl ?_
      refine j_sub [2, 3, 0] (show lv_pick _ _ = [(0, .ref o), (1, .int x1), (2, .int (a.1 + (-1)))] from rfl) ?_
      have hy := hR _ _ _ hf _ _ hkn
      exact hy
noncomputable def x0_strikes (F : Nat) (x1 : Int32) (τ : XS) : XR Int32 :=
  lp (x0_strikes_B2 F (fun a1 => nx ((a1.2.1.1 14) - 1 : Int32) (fun y1 => lp (x0_strikes_B49 F x1) F (y1, a1.2))) x1) F (0, τ)
theorem met_x0_strikes {l : Launch} {G : gG} {o B F : Nat} {x1 : Int32} {τ : XS} {r : Int32 × XS × Nat × Nat} (hf : x0_strikes F x1 τ = some r) : MetX l G o B yX0_strikes cX0_strikes 6 none 3 [.ref o, .int x1] τ (xQv G o B r.1 r.2.1) r.2.2.1 r.2.2.2 := by
  obtain ⟨v, τr, c, s⟩ := r
  refine metX_of (own := RX0) (mn := "strikes") (by decide) rfl rfl rfl (fun γ hγ M => ?_)
  subst hγ
  show J γ (XW G o B τ) 0 0 0 [(0, .ref o), (1, .int x1)] []
  have hkn : 0 + c ≤ c ∧ 0 + s ≤ s := ⟨by omega, by omega⟩
  unfold x0_strikes at hf
  refine j_iconst (pc := 0) M.1 dX0_strikes_0 kc_iconst_0 ?_
  refine j_istore_n (pc := 1) M.1 [(2, .int 0), (0, .ref o), (1, .int x1)] dX0_strikes_1 rfl rfl ?_
  refine j_sub [1, 2, 0] (show lv_pick _ _ = [(0, .ref o), (1, .int x1), (2, .int 0)] from rfl) ?_
  refine lp_Wc (kx0_strikes_B2 M x1 _ ?_) F (0, τ) _ _ hf _ _ hkn
  · intro a1 c s hf k n hkn
    refine j_aload_n (pc := 42) M.1 dX0_strikes_42 0 rfl ?_
    refine jx_getS (pc := 43) M xfs_271 dX0_strikes_43 ?_
    refine j_iconst (pc := 46) M.1 dX0_strikes_46 kc_iconst_1 ?_
    refine j_isub (pc := 47) M.1 dX0_strikes_47 ?_
    obtain ⟨y1, e1, hf⟩ := o_nx hf
    refine j_top e1 ?_
    refine j_istore_n (pc := 48) M.1 [(2, .int y1), (0, .ref o), (1, .int x1)] dX0_strikes_48 rfl rfl ?_
    refine j_sub [1, 2, 0] (show lv_pick _ _ = [(0, .ref o), (1, .int x1), (2, .int y1)] from rfl) ?_
    refine lp_Wc (kx0_strikes_B49 M x1) F (y1, a1.2) _ _ hf _ _ hkn
end
theorem dX0_numberOf_0 : decode cX0_numberOf 0 = .ok (.aload_n 0, 1) := by decide +kernel
theorem dX0_numberOf_1 : decode cX0_numberOf 1 = .ok (.aload_n 2, 1) := by decide +kernel
theorem dX0_numberOf_2 : decode cX0_numberOf 2 = .ok (.getfield 304, 3) := by decide +kernel
theorem dX0_numberOf_5 : decode cX0_numberOf 5 = .ok (.invokevirtual 309, 3) := by decide +kernel
theorem dX0_numberOf_8 : decode cX0_numberOf 8 = .ok (.aload_n 0, 1) := by decide +kernel
theorem dX0_numberOf_9 : decode cX0_numberOf 9 = .ok (.getfield 271, 3) := by decide +kernel
theorem dX0_numberOf_12 : decode cX0_numberOf 12 = .ok (.iconst 1, 1) := by decide +kernel
theorem dX0_numberOf_13 : decode cX0_numberOf 13 = .ok (.isub, 1) := by decide +kernel
theorem dX0_numberOf_14 : decode cX0_numberOf 14 = .ok (.istore 4, 2) := by decide +kernel
theorem dX0_numberOf_16 : decode cX0_numberOf 16 = .ok (.iload 4, 2) := by decide +kernel
theorem dX0_numberOf_18 : decode cX0_numberOf 18 = .ok (.ifCond .lt 106, 3) := by decide +kernel
theorem dX0_numberOf_21 : decode cX0_numberOf 21 = .ok (.aload_n 0, 1) := by decide +kernel
theorem dX0_numberOf_22 : decode cX0_numberOf 22 = .ok (.getfield 53, 3) := by decide +kernel
theorem dX0_numberOf_25 : decode cX0_numberOf 25 = .ok (.iload 4, 2) := by decide +kernel
theorem dX0_numberOf_27 : decode cX0_numberOf 27 = .ok (.aaload, 1) := by decide +kernel
theorem dX0_numberOf_28 : decode cX0_numberOf 28 = .ok (.astore 5, 2) := by decide +kernel
theorem dX0_numberOf_30 : decode cX0_numberOf 30 = .ok (.aload 5, 2) := by decide +kernel
theorem dX0_numberOf_32 : decode cX0_numberOf 32 = .ok (.aload_n 2, 1) := by decide +kernel
theorem dX0_numberOf_33 : decode cX0_numberOf 33 = .ok (.getfield 304, 3) := by decide +kernel
theorem dX0_numberOf_36 : decode cX0_numberOf 36 = .ok (.invokevirtual 285, 3) := by decide +kernel
theorem dX0_numberOf_39 : decode cX0_numberOf 39 = .ok (.ifCond .ne 6, 3) := by decide +kernel
theorem dX0_numberOf_42 : decode cX0_numberOf 42 = .ok (.goto 76, 3) := by decide +kernel
theorem dX0_numberOf_45 : decode cX0_numberOf 45 = .ok (.aload 5, 2) := by decide +kernel
theorem dX0_numberOf_47 : decode cX0_numberOf 47 = .ok (.getfield 288, 3) := by decide +kernel
theorem dX0_numberOf_50 : decode cX0_numberOf 50 = .ok (.iconst 1, 1) := by decide +kernel
theorem dX0_numberOf_51 : decode cX0_numberOf 51 = .ok (.isub, 1) := by decide +kernel
theorem dX0_numberOf_52 : decode cX0_numberOf 52 = .ok (.istore 6, 2) := by decide +kernel
theorem dX0_numberOf_54 : decode cX0_numberOf 54 = .ok (.iload 6, 2) := by decide +kernel
theorem dX0_numberOf_56 : decode cX0_numberOf 56 = .ok (.ifCond .lt 62, 3) := by decide +kernel
theorem dX0_numberOf_59 : decode cX0_numberOf 59 = .ok (.aload 5, 2) := by decide +kernel
theorem dX0_numberOf_61 : decode cX0_numberOf 61 = .ok (.getfield 291, 3) := by decide +kernel
theorem dX0_numberOf_64 : decode cX0_numberOf 64 = .ok (.iload 6, 2) := by decide +kernel
theorem dX0_numberOf_66 : decode cX0_numberOf 66 = .ok (.aaload, 1) := by decide +kernel
theorem dX0_numberOf_67 : decode cX0_numberOf 67 = .ok (.getfield 295, 3) := by decide +kernel
theorem dX0_numberOf_70 : decode cX0_numberOf 70 = .ok (.iload_n 1, 1) := by decide +kernel
theorem dX0_numberOf_71 : decode cX0_numberOf 71 = .ok (.if_icmp .ne 41, 3) := by decide +kernel
theorem dX0_numberOf_74 : decode cX0_numberOf 74 = .ok (.aload 5, 2) := by decide +kernel
theorem dX0_numberOf_76 : decode cX0_numberOf 76 = .ok (.getfield 281, 3) := by decide +kernel
theorem dX0_numberOf_79 : decode cX0_numberOf 79 = .ok (.iload 6, 2) := by decide +kernel
theorem dX0_numberOf_81 : decode cX0_numberOf 81 = .ok (.baload, 1) := by decide +kernel
theorem dX0_numberOf_82 : decode cX0_numberOf 82 = .ok (.ifCond .ne 30, 3) := by decide +kernel
theorem dX0_numberOf_85 : decode cX0_numberOf 85 = .ok (.aload 5, 2) := by decide +kernel
theorem dX0_numberOf_87 : decode cX0_numberOf 87 = .ok (.getfield 291, 3) := by decide +kernel
theorem dX0_numberOf_90 : decode cX0_numberOf 90 = .ok (.iload 6, 2) := by decide +kernel
theorem dX0_numberOf_92 : decode cX0_numberOf 92 = .ok (.aaload, 1) := by decide +kernel
theorem dX0_numberOf_93 : decode cX0_numberOf 93 = .ok (.aload_n 2, 1) := by decide +kernel
theorem dX0_numberOf_94 : decode cX0_numberOf 94 = .ok (.invokevirtual 312, 3) := by decide +kernel
theorem dX0_numberOf_97 : decode cX0_numberOf 97 = .ok (.ifCond .eq 15, 3) := by decide +kernel
theorem dX0_numberOf_100 : decode cX0_numberOf 100 = .ok (.aload 5, 2) := by decide +kernel
theorem dX0_numberOf_102 : decode cX0_numberOf 102 = .ok (.getfield 291, 3) := by decide +kernel
theorem dX0_numberOf_105 : decode cX0_numberOf 105 = .ok (.iload 6, 2) := by decide +kernel
theorem dX0_numberOf_107 : decode cX0_numberOf 107 = .ok (.aaload, 1) := by decide +kernel
theorem dX0_numberOf_108 : decode cX0_numberOf 108 = .ok (.getfield 300, 3) := by decide +kernel
theorem dX0_numberOf_111 : decode cX0_numberOf 111 = .ok (.ireturn, 1) := by decide +kernel
theorem dX0_numberOf_112 : decode cX0_numberOf 112 = .ok (.iinc 6 (-1), 3) := by decide +kernel
theorem dX0_numberOf_115 : decode cX0_numberOf 115 = .ok (.goto (-61), 3) := by decide +kernel
theorem dX0_numberOf_118 : decode cX0_numberOf 118 = .ok (.iinc 4 (-1), 3) := by decide +kernel
theorem dX0_numberOf_121 : decode cX0_numberOf 121 = .ok (.goto (-105), 3) := by decide +kernel
theorem dX0_numberOf_124 : decode cX0_numberOf 124 = .ok (.iload_n 3, 1) := by decide +kernel
theorem dX0_numberOf_125 : decode cX0_numberOf 125 = .ok (.ireturn, 1) := by decide +kernel
section
variable {v : Int32}
noncomputable def x0_numberOf_B54 (F : Nat) (K118 : Int32 × XS → XR Int32) (x1 : Int32) (x2 : Nat) (x3 : Int32) (x4 : Int32) (x5 : Nat) (R : Int32 × XS → XR Int32) (a : Int32 × XS) : XR Int32 :=
  if a.1 < 0 then (K118 (a.1, a.2)) else ((gN a.2 x5 [9] 0).bind (fun n1 => (gB a.2 n1 14).bind (fun A1 => if okI a.1 A1.1 = true then (A1.2 a.1.toNatClampNeg).bind (fun n2 => (gI a.2 n2 [10] 0).bind (fun v1 => if v1 = x1 then ((gN a.2 x5 [9] 1).bind (fun n3 => (gA a.2 n3 2).bind (fun A2 => if okI a.1 A2.1 = true then if (A2.2 a.1.toNatClampNeg) = 0 then ((gN a.2 x5 [9] 0).bind (fun n4 => (gB a.2 n4 14).bind (fun A3 => if okI a.1 A3.1 = true then (A3.2 a.1.toNatClampNeg).bind (fun n5 => if isC a.2 n5 [10] = true then (x10_holds F n5 x2 a.2).bind (fun r1 => tk r1.2.2.1 r1.2.2.2 (if r1.1 = 0 then (R (a.1 + (-1), r1.2.1)) else ((gN r1.2.1 x5 [9] 0).bind (fun n6 => (gB r1.2.1 n6 14).bind (fun A4 => if okI a.1 A4.1 = true then (A4.2 a.1.toNatClampNeg).bind (fun n7 => (gI r1.2.1 n7 [10] 1).bind (fun v2 => some (v2, r1.2.1, 0, 0))) else none))))) else none) else none))) else (R (a.1 + (-1), a.2)) else none))) else (R (a.1 + (-1), a.2)))) else none)))
theorem kx0_numberOf_B54 (M : XC γ cX0_numberOf 7 RX0 "numberOf" G o B 45 (some .int) (xQi G o B v τr) c0 s0) (x1 : Int32) (x2 : Nat) (x3 : Int32) (x4 : Int32) (x5 : Nat) (K118 : Int32 × XS → XR Int32) (hK118 : ∀ a c s, K118 a = some (v, τr, c, s) → ∀ k n, k + c ≤ c0 ∧ n + s ≤ s0 → J γ (XW G o B a.2) k n 118 [(0, .ref o), (1, .int x1), (2, .ref x2), (3, .int x3), (4, .int x4)] []) : ∀ R : Int32 × XS → XR Int32, (∀ a c s, R a = some (v, τr, c, s) → ∀ k n, k + c ≤ c0 ∧ n + s ≤ s0 → J γ (XW G o B a.2) k n 54 [(0, .ref o), (1, .int x1), (2, .ref x2), (3, .int x3), (4, .int x4), (5, .ref x5), (6, .int a.1)] []) → ∀ a c s, x0_numberOf_B54 F K118 x1 x2 x3 x4 x5 R a = some (v, τr, c, s) → ∀ k n, k + c ≤ c0 ∧ n + s ≤ s0 → J γ (XW G o B a.2) k n 54 [(0, .ref o), (1, .int x1), (2, .ref x2), (3, .int x3), (4, .int x4), (5, .ref x5), (6, .int a.1)] [] := by
  intro R hR a c s hf k n hkn
  unfold x0_numberOf_B54 at hf
  refine j_iload (pc := 54) M.1 dX0_numberOf_54 6 rfl ?_
  refine j_if_lt (pc := 56) M.1 118 dX0_numberOf_56 rfl (fun b1 => ?_) (fun b1 => ?_)
  · replace hf := o_pos b1 hf
    refine j_sub [0, 1, 2, 3, 4] (show lv_pick _ _ = [(0, .ref o), (1, .int x1), (2, .ref x2), (3, .int x3), (4, .int x4)] from rfl) ?_
    have hy := hK118 _ _ _ hf _ _ hkn
    exact hy
  · replace hf := o_neg b1 hf
    refine j_aload (pc := 59) M.1 dX0_numberOf_59 5 rfl ?_
    obtain ⟨n1, g1, hf⟩ := o_bind hf
    refine jx_getN (pc := 61) M xfl_X0_291 g1 dX0_numberOf_61 ?_
    refine j_iload (pc := 64) M.1 dX0_numberOf_64 6 rfl ?_
    obtain ⟨A1, g3, hf⟩ := o_bind hf
    obtain ⟨b2, hf⟩ := o_need hf
    obtain ⟨n2, g2, hf⟩ := o_bind hf
    refine jx_paald (pc := 66) M xrt_14 g3 b2 g2 dX0_numberOf_66 ?_
    obtain ⟨v1, g4, hf⟩ := o_bind hf
    refine jx_getI (pc := 67) M xfl_X0_295 g4 dX0_numberOf_67 ?_
    refine j_iload_n (pc := 70) M.1 dX0_numberOf_70 1 rfl ?_
    refine j_icmp_ne (pc := 71) M.1 112 dX0_numberOf_71 rfl (fun b3 => ?_) (fun b3 => ?_)
    · replace hf := o_neg b3 hf
      refine j_iinc (pc := 112) M.1 [(6, .int (a.1 + (-1))), (0, .ref o), (1, .int x1), (2, .ref x2), (3, .int x3), (4, .int x4), (5, .ref x5)] dX0_numberOf_112 6 rfl (congrArg _ kc_iconst_m1) rfl rfl ?_
      refine j_goto (pc := 115) M.1 54 dX0_numberOf_115 rfl ?_
      refine j_sub [1, 2, 3, 4, 5, 6, 0] (show lv_pick _ _ = [(0, .ref o), (1, .int x1), (2, .ref x2), (3, .int x3), (4, .int x4), (5, .ref x5), (6, .int (a.1 + (-1)))] from rfl) ?_
      have hy := hR _ _ _ hf _ _ hkn
      exact hy
    · replace hf := o_pos b3 hf
      refine j_aload (pc := 74) M.1 dX0_numberOf_74 5 rfl ?_
      obtain ⟨n3, g5, hf⟩ := o_bind hf
      refine jx_getN (pc := 76) M xfl_X0_281 g5 dX0_numberOf_76 ?_
      refine j_iload (pc := 79) M.1 dX0_numberOf_79 6 rfl ?_
      obtain ⟨A2, g6, hf⟩ := o_bind hf
      obtain ⟨b4, hf⟩ := o_need hf
      refine jx_pald2 (pc := 81) M g6 b4 dX0_numberOf_81 ?_
      refine j_if_ne (pc := 82) M.1 112 dX0_numberOf_82 rfl (fun b5 => ?_) (fun b5 => ?_)
      · replace hf := o_neg b5 hf
        refine j_iinc (pc := 112) M.1 [(6, .int (a.1 + (-1))), (0, .ref o), (1, .int x1), (2, .ref x2), (3, .int x3), (4, .int x4), (5, .ref x5)] dX0_numberOf_112 6 rfl (congrArg _ kc_iconst_m1) rfl rfl ?_
        refine j_goto (pc := 115) M.1 54 dX0_numberOf_115 rfl ?_
        refine j_sub [1, 2, 3, 4, 5, 6, 0] (show lv_pick _ _ = [(0, .ref o), (1, .int x1), (2, .ref x2), (3, .int x3), (4, .int x4), (5, .ref x5), (6, .int (a.1 + (-1)))] from rfl) ?_
        have hy := hR _ _ _ hf _ _ hkn
        exact hy
      · replace hf := o_pos b5 hf
        refine j_aload (pc := 85) M.1 dX0_numberOf_85 5 rfl ?_
        obtain ⟨n4, g7, hf⟩ := o_bind hf
        refine jx_getN (pc := 87) M xfl_X0_291 g7 dX0_numberOf_87 ?_
        refine j_iload (pc := 90) M.1 dX0_numberOf_90 6 rfl ?_
        obtain ⟨A3, g9, hf⟩ := o_bind hf
        obtain ⟨b6, hf⟩ := o_need hf
        obtain ⟨n5, g8, hf⟩ := o_bind hf
        refine jx_paald (pc := 92) M xrt_14 g9 b6 g8 dX0_numberOf_92 ?_
        refine j_aload_n (pc := 93) M.1 dX0_numberOf_93 2 rfl ?_
        obtain ⟨b7, hf⟩ := o_need hf
        obtain ⟨r1, g10, hf⟩ := o_bind hf
        obtain ⟨c1, s1, hf, hc1, hs1⟩ := o_tk hf
        replace hkn := kn_step hkn hc1 hs1
        refine jx_i M (x_runW (pc := 94) (As := [.ref x2]) (rest := []) M xcw_X0_312 (met_x10_holds g10) b7 (by decide) rfl rfl rfl dX0_numberOf_94 (kn_le hkn)) ?_
        refine j_if_eq (pc := 97) M.1 112 dX0_numberOf_97 rfl (fun b8 => ?_) (fun b8 => ?_)
        · replace hf := o_pos b8 hf
          refine j_iinc (pc := 112) M.1 [(6, .int (a.1 + (-1))), (0, .ref o), (1, .int x1), (2, .ref x2), (3, .int x3), (4, .int x4), (5, .ref x5)] dX0_numberOf_112 6 rfl (congrArg _ kc_iconst_m1) rfl rfl ?_
          refine j_goto (pc := 115) M.1 54 dX0_numberOf_115 rfl ?_
          refine j_sub [1, 2, 3, 4, 5, 6, 0] (show lv_pick _ _ = [(0, .ref o), (1, .int x1), (2, .ref x2), (3, .int x3), (4, .int x4), (5, .ref x5), (6, .int (a.1 + (-1)))] from rfl) ?_
          have hy := hR _ _ _ hf _ _ hkn
          exact hy
        · replace hf := o_neg b8 hf
          refine j_aload (pc := 100) M.1 dX0_numberOf_100 5 rfl ?_
          obtain ⟨n6, g11, hf⟩ := o_bind hf
          refine jx_getN (pc := 102) M xfl_X0_291 g11 dX0_numberOf_102 ?_
          refine j_iload (pc := 105) M.1 dX0_numberOf_105 6 rfl ?_
          obtain ⟨A4, g13, hf⟩ := o_bind hf
          obtain ⟨b9, hf⟩ := o_need hf
          obtain ⟨n7, g12, hf⟩ := o_bind hf
          refine jx_paald (pc := 107) M xrt_14 g13 b9 g12 dX0_numberOf_107 ?_
          obtain ⟨v2, g14, hf⟩ := o_bind hf
          refine jx_getI (pc := 108) M xfl_X0_300 g14 dX0_numberOf_108 ?_
          exact jx_iretF (pc := 111) M dX0_numberOf_111 hf hkn
noncomputable def x0_numberOf_B16 (F : Nat) (x1 : Int32) (x2 : Nat) (x3 : Int32) (R : Int32 × XS → XR Int32) (a : Int32 × XS) : XR Int32 :=
  if a.1 < 0 then (some (x3, a.2, 0, 0)) else (if okI a.1 20 = true then (a.2.2.1 6 a.1.toNatClampNeg).bind (fun n1 => (gI a.2 x2 [19] 0).bind (fun v1 => if isC a.2 n1 [9] = true then (x9_isInForce F n1 v1 a.2).bind (fun r1 => tk r1.2.2.1 r1.2.2.2 (if r1.1 = 0 then (R (a.1 + (-1), r1.2.1)) else ((gI r1.2.1 n1 [9] 2).bind (fun v2 => lp (x0_numberOf_B54 F (fun a1 => R (a.1 + (-1), a1.2)) x1 x2 x3 a.1 n1) F (v2 - 1, r1.2.1))))) else none)) else none)
theorem kx0_numberOf_B16 (M : XC γ cX0_numberOf 7 RX0 "numberOf" G o B 45 (some .int) (xQi G o B v τr) c0 s0) (x1 : Int32) (x2 : Nat) (x3 : Int32) : ∀ R : Int32 × XS → XR Int32, (∀ a c s, R a = some (v, τr, c, s) → ∀ k n, k + c ≤ c0 ∧ n + s ≤ s0 → J γ (XW G o B a.2) k n 16 [(0, .ref o), (1, .int x1), (2, .ref x2), (3, .int x3), (4, .int a.1)] []) → ∀ a c s, x0_numberOf_B16 F x1 x2 x3 R a = some (v, τr, c, s) → ∀ k n, k + c ≤ c0 ∧ n + s ≤ s0 → J γ (XW G o B a.2) k n 16 [(0, .ref o), (1, .int x1), (2, .ref x2), (3, .int x3), (4, .int a.1)] [] := by
  intro R hR a c s hf k n hkn
  unfold x0_numberOf_B16 at hf
  refine j_iload (pc := 16) M.1 dX0_numberOf_16 4 rfl ?_
  refine j_if_lt (pc := 18) M.1 124 dX0_numberOf_18 rfl (fun b1 => ?_) (fun b1 => ?_)
  · replace hf := o_pos b1 hf
    refine j_iload_n (pc := 124) M.1 dX0_numberOf_124 3 rfl ?_
    exact jx_iretF (pc := 125) M dX0_numberOf_125 hf hkn
  · replace hf := o_neg b1 hf
    refine j_aload_n (pc := 21) M.1 dX0_numberOf_21 0 rfl ?_
    refine jx_getA (pc := 22) M xfa_53 dX0_numberOf_22 ?_
    refine j_iload (pc := 25) M.1 dX0_numberOf_25 4 rfl ?_
    obtain ⟨b2, hf⟩ := o_need hf
    obtain ⟨n1, g1, hf⟩ := o_bind hf
    refine jx_aald (pc := 27) M xax_6 (by decide) xrt_6 b2 g1 dX0_numberOf_27 ?_
    refine j_astore (pc := 28) M.1 [(5, .ref n1), (0, .ref o), (1, .int x1), (2, .ref x2), (3, .int x3), (4, .int a.1)] dX0_numberOf_28 rfl rfl ?_
    refine j_aload (pc := 30) M.1 dX0_numberOf_30 0 rfl ?_
    refine j_aload_n (pc := 32) M.1 dX0_numberOf_32 3 rfl ?_
    obtain ⟨v1, g2, hf⟩ := o_bind hf
    refine jx_getI (pc := 33) M xfl_X0_304 g2 dX0_numberOf_33 ?_
    obtain ⟨b3, hf⟩ := o_need hf
    obtain ⟨r1, g3, hf⟩ := o_bind hf
    obtain ⟨c1, s1, hf, hc1, hs1⟩ := o_tk hf
    replace hkn := kn_step hkn hc1 hs1
    refine jx_i M (x_runW (pc := 36) (As := [.int v1]) (rest := []) M xcw_X0_285 (met_x9_isInForce g3) b3 (by decide) rfl rfl rfl dX0_numberOf_36 (kn_le hkn)) ?_
    refine j_if_ne (pc := 39) M.1 45 dX0_numberOf_39 rfl (fun b4 => ?_) (fun b4 => ?_)
    · replace hf := o_neg b4 hf
      refine j_aload (pc := 45) M.1 dX0_numberOf_45 0 rfl ?_
      obtain ⟨v2, g4, hf⟩ := o_bind hf
      refine jx_getI (pc := 47) M xfl_X0_288 g4 dX0_numberOf_47 ?_
      refine j_iconst (pc := 50) M.1 dX0_numberOf_50 kc_iconst_1 ?_
      refine j_isub (pc := 51) M.1 dX0_numberOf_51 ?_
      refine j_istore (pc := 52) M.1 [(6, .int (v2 - 1)), (5, .ref n1), (0, .ref o), (1, .int x1), (2, .ref x2), (3, .int x3), (4, .int a.1)] dX0_numberOf_52 rfl rfl ?_
      refine j_sub [2, 3, 4, 5, 6, 1, 0] (show lv_pick _ _ = [(0, .ref o), (1, .int x1), (2, .ref x2), (3, .int x3), (4, .int a.1), (5, .ref n1), (6, .int (v2 - 1))] from rfl) ?_
      refine lp_Wc (kx0_numberOf_B54 M x1 x2 x3 a.1 n1 _ ?_) F (v2 - 1, r1.2.1) _ _ hf _ _ hkn
      · intro a1 c s hf k n hkn
        refine j_iinc (pc := 118) M.1 [(4, .int (a.1 + (-1))), (0, .ref o), (1, .int x1), (2, .ref x2), (3, .int x3)] dX0_numberOf_118 4 rfl (congrArg _ kc_iconst_m1) rfl rfl ?_
        refine j_goto (pc := 121) M.1 16 dX0_numberOf_121 rfl ?_
        refine j_sub [1, 2, 3, 4, 0] (show lv_pick _ _ = [(0, .ref o), (1, .int x1), (2, .ref x2), (3, .int x3), (4, .int (a.1 + (-1)))] from rfl) ?_
        have hy := hR _ _ _ hf _ _ hkn
        exact hy
    · replace hf := o_pos b4 hf
      refine j_goto (pc := 42) M.1 118 dX0_numberOf_42 rfl ?_
      refine j_iinc (pc := 118) M.1 [(4, .int (a.1 + (-1))), (5, .ref n1), (0, .ref o), (1, .int x1), (2, .ref x2), (3, .int x3)] dX0_numberOf_118 5 rfl (congrArg _ kc_iconst_m1) rfl rfl ?_
      refine j_goto (pc := 121) M.1 16 dX0_numberOf_121 rfl ?_
      refine j_sub [2, 3, 4, 5, 0] (show lv_pick _ _ = [(0, .ref o), (1, .int x1), (2, .ref x2), (3, .int x3), (4, .int (a.1 + (-1)))] from rfl) ?_
      have hy := hR _ _ _ hf _ _ hkn
      exact hy
noncomputable def x0_numberOf (F : Nat) (x1 : Int32) (x2 : Nat) (x3 : Int32) (τ : XS) : XR Int32 :=
  (gI τ x2 [19] 0).bind (fun v1 => (x0_strikes F v1 τ).bind (fun r1 => tk r1.2.2.1 r1.2.2.2 (nx ((r1.2.1.1.1 14) - 1 : Int32) (fun y1 => lp (x0_numberOf_B16 F x1 x2 x3) F (y1, r1.2.1)))))
theorem met_x0_numberOf {l : Launch} {G : gG} {o B F : Nat} {x1 : Int32} {x2 : Nat} {x3 : Int32} {τ : XS} {r : Int32 × XS × Nat × Nat} (hf : x0_numberOf F x1 x2 x3 τ = some r) : MetX l G o B yX0_numberOf cX0_numberOf 7 (some .int) 45 [.ref o, .int x1, .ref x2, .int x3] τ (xQi G o B r.1 r.2.1) r.2.2.1 r.2.2.2 := by
  obtain ⟨v, τr, c, s⟩ := r
  refine metX_of (own := RX0) (mn := "numberOf") (by decide) rfl rfl rfl (fun γ hγ M => ?_)
  subst hγ
  show J γ (XW G o B τ) 0 0 0 [(0, .ref o), (1, .int x1), (2, .ref x2), (3, .int x3)] []
  have hkn : 0 + c ≤ c ∧ 0 + s ≤ s := ⟨by omega, by omega⟩
  unfold x0_numberOf at hf
  refine j_aload_n (pc := 0) M.1 dX0_numberOf_0 0 rfl ?_
  refine j_aload_n (pc := 1) M.1 dX0_numberOf_1 2 rfl ?_
  obtain ⟨v1, g1, hf⟩ := o_bind hf
  refine jx_getI (pc := 2) M xfl_X0_304 g1 dX0_numberOf_2 ?_
  obtain ⟨r1, g2, hf⟩ := o_bind hf
  obtain ⟨c1, s1, hf, hc1, hs1⟩ := o_tk hf
  replace hkn := kn_step hkn hc1 hs1
  refine jx_v (r := r1.1) M (x_runV (pc := 5) (As := [.int v1]) (rest := []) (V := xV o τ) M xcw_X0_309 (met_x0_strikes g2) (fun H h => h.1 o _ xH_o) (by decide) rfl rfl rfl dX0_numberOf_5 (kn_le hkn)) ?_
  refine j_aload_n (pc := 8) M.1 dX0_numberOf_8 0 rfl ?_
  refine jx_getS (pc := 9) M xfs_271 dX0_numberOf_9 ?_
  refine j_iconst (pc := 12) M.1 dX0_numberOf_12 kc_iconst_1 ?_
  refine j_isub (pc := 13) M.1 dX0_numberOf_13 ?_
  obtain ⟨y1, e1, hf⟩ := o_nx hf
  refine j_top e1 ?_
  refine j_istore (pc := 14) M.1 [(4, .int y1), (0, .ref o), (1, .int x1), (2, .ref x2), (3, .int x3)] dX0_numberOf_14 rfl rfl ?_
  refine j_sub [1, 2, 3, 4, 0] (show lv_pick _ _ = [(0, .ref o), (1, .int x1), (2, .ref x2), (3, .int x3), (4, .int y1)] from rfl) ?_
  refine lp_Wc (kx0_numberOf_B16 M x1 x2 x3) F (y1, r1.2.1) _ _ hf _ _ hkn
end
theorem dX0_numberings_0 : decode cX0_numberings 0 = .ok (.aload_n 0, 1) := by decide +kernel
theorem dX0_numberings_1 : decode cX0_numberings 1 = .ok (.aload_n 1, 1) := by decide +kernel
theorem dX0_numberings_2 : decode cX0_numberings 2 = .ok (.getfield 304, 3) := by decide +kernel
theorem dX0_numberings_5 : decode cX0_numberings 5 = .ok (.invokevirtual 309, 3) := by decide +kernel
theorem dX0_numberings_8 : decode cX0_numberings 8 = .ok (.iconst 0, 1) := by decide +kernel
theorem dX0_numberings_9 : decode cX0_numberings 9 = .ok (.istore_n 2, 1) := by decide +kernel
theorem dX0_numberings_10 : decode cX0_numberings 10 = .ok (.iconst 0, 1) := by decide +kernel
theorem dX0_numberings_11 : decode cX0_numberings 11 = .ok (.istore_n 3, 1) := by decide +kernel
theorem dX0_numberings_12 : decode cX0_numberings 12 = .ok (.iload_n 3, 1) := by decide +kernel
theorem dX0_numberings_13 : decode cX0_numberings 13 = .ok (.aload_n 0, 1) := by decide +kernel
theorem dX0_numberings_14 : decode cX0_numberings 14 = .ok (.getfield 271, 3) := by decide +kernel
theorem dX0_numberings_17 : decode cX0_numberings 17 = .ok (.if_icmp .ge 109, 3) := by decide +kernel
theorem dX0_numberings_20 : decode cX0_numberings 20 = .ok (.aload_n 0, 1) := by decide +kernel
theorem dX0_numberings_21 : decode cX0_numberings 21 = .ok (.getfield 53, 3) := by decide +kernel
theorem dX0_numberings_24 : decode cX0_numberings 24 = .ok (.iload_n 3, 1) := by decide +kernel
theorem dX0_numberings_25 : decode cX0_numberings 25 = .ok (.aaload, 1) := by decide +kernel
theorem dX0_numberings_26 : decode cX0_numberings 26 = .ok (.astore 4, 2) := by decide +kernel
theorem dX0_numberings_28 : decode cX0_numberings 28 = .ok (.aload 4, 2) := by decide +kernel
theorem dX0_numberings_30 : decode cX0_numberings 30 = .ok (.aload_n 1, 1) := by decide +kernel
theorem dX0_numberings_31 : decode cX0_numberings 31 = .ok (.getfield 304, 3) := by decide +kernel
theorem dX0_numberings_34 : decode cX0_numberings 34 = .ok (.invokevirtual 285, 3) := by decide +kernel
theorem dX0_numberings_37 : decode cX0_numberings 37 = .ok (.ifCond .ne 6, 3) := by decide +kernel
theorem dX0_numberings_40 : decode cX0_numberings 40 = .ok (.goto 80, 3) := by decide +kernel
theorem dX0_numberings_43 : decode cX0_numberings 43 = .ok (.iconst 0, 1) := by decide +kernel
theorem dX0_numberings_44 : decode cX0_numberings 44 = .ok (.istore 5, 2) := by decide +kernel
theorem dX0_numberings_46 : decode cX0_numberings 46 = .ok (.iload 5, 2) := by decide +kernel
theorem dX0_numberings_48 : decode cX0_numberings 48 = .ok (.aload 4, 2) := by decide +kernel
theorem dX0_numberings_50 : decode cX0_numberings 50 = .ok (.getfield 288, 3) := by decide +kernel
theorem dX0_numberings_53 : decode cX0_numberings 53 = .ok (.if_icmp .ge 67, 3) := by decide +kernel
theorem dX0_numberings_56 : decode cX0_numberings 56 = .ok (.aload 4, 2) := by decide +kernel
theorem dX0_numberings_58 : decode cX0_numberings 58 = .ok (.getfield 291, 3) := by decide +kernel
theorem dX0_numberings_61 : decode cX0_numberings 61 = .ok (.iload 5, 2) := by decide +kernel
theorem dX0_numberings_63 : decode cX0_numberings 63 = .ok (.aaload, 1) := by decide +kernel
theorem dX0_numberings_64 : decode cX0_numberings 64 = .ok (.getfield 295, 3) := by decide +kernel
theorem dX0_numberings_67 : decode cX0_numberings 67 = .ok (.bipush 110, 2) := by decide +kernel
theorem dX0_numberings_69 : decode cX0_numberings 69 = .ok (.if_icmp .ne 45, 3) := by decide +kernel
theorem dX0_numberings_72 : decode cX0_numberings 72 = .ok (.aload 4, 2) := by decide +kernel
theorem dX0_numberings_74 : decode cX0_numberings 74 = .ok (.getfield 281, 3) := by decide +kernel
theorem dX0_numberings_77 : decode cX0_numberings 77 = .ok (.iload 5, 2) := by decide +kernel
theorem dX0_numberings_79 : decode cX0_numberings 79 = .ok (.baload, 1) := by decide +kernel
theorem dX0_numberings_80 : decode cX0_numberings 80 = .ok (.ifCond .ne 34, 3) := by decide +kernel
theorem dX0_numberings_83 : decode cX0_numberings 83 = .ok (.aload 4, 2) := by decide +kernel
theorem dX0_numberings_85 : decode cX0_numberings 85 = .ok (.getfield 291, 3) := by decide +kernel
theorem dX0_numberings_88 : decode cX0_numberings 88 = .ok (.iload 5, 2) := by decide +kernel
theorem dX0_numberings_90 : decode cX0_numberings 90 = .ok (.aaload, 1) := by decide +kernel
theorem dX0_numberings_91 : decode cX0_numberings 91 = .ok (.aload_n 1, 1) := by decide +kernel
theorem dX0_numberings_92 : decode cX0_numberings 92 = .ok (.invokevirtual 312, 3) := by decide +kernel
theorem dX0_numberings_95 : decode cX0_numberings 95 = .ok (.ifCond .eq 19, 3) := by decide +kernel
theorem dX0_numberings_98 : decode cX0_numberings 98 = .ok (.iload_n 2, 1) := by decide +kernel
theorem dX0_numberings_99 : decode cX0_numberings 99 = .ok (.iconst 1, 1) := by decide +kernel
theorem dX0_numberings_100 : decode cX0_numberings 100 = .ok (.aload 4, 2) := by decide +kernel
theorem dX0_numberings_102 : decode cX0_numberings 102 = .ok (.getfield 291, 3) := by decide +kernel
theorem dX0_numberings_105 : decode cX0_numberings 105 = .ok (.iload 5, 2) := by decide +kernel
theorem dX0_numberings_107 : decode cX0_numberings 107 = .ok (.aaload, 1) := by decide +kernel
theorem dX0_numberings_108 : decode cX0_numberings 108 = .ok (.getfield 300, 3) := by decide +kernel
theorem dX0_numberings_111 : decode cX0_numberings 111 = .ok (.ishl, 1) := by decide +kernel
theorem dX0_numberings_112 : decode cX0_numberings 112 = .ok (.ior, 1) := by decide +kernel
theorem dX0_numberings_113 : decode cX0_numberings 113 = .ok (.istore_n 2, 1) := by decide +kernel
theorem dX0_numberings_114 : decode cX0_numberings 114 = .ok (.iinc 5 1, 3) := by decide +kernel
theorem dX0_numberings_117 : decode cX0_numberings 117 = .ok (.goto (-71), 3) := by decide +kernel
theorem dX0_numberings_120 : decode cX0_numberings 120 = .ok (.iinc 3 1, 3) := by decide +kernel
theorem dX0_numberings_123 : decode cX0_numberings 123 = .ok (.goto (-111), 3) := by decide +kernel
theorem dX0_numberings_126 : decode cX0_numberings 126 = .ok (.iload_n 2, 1) := by decide +kernel
theorem dX0_numberings_127 : decode cX0_numberings 127 = .ok (.ifCond .ne 8, 3) := by decide +kernel
theorem dX0_numberings_130 : decode cX0_numberings 130 = .ok (.bipush 15, 2) := by decide +kernel
theorem dX0_numberings_132 : decode cX0_numberings 132 = .ok (.goto 4, 3) := by decide +kernel
theorem dX0_numberings_135 : decode cX0_numberings 135 = .ok (.iload_n 2, 1) := by decide +kernel
theorem dX0_numberings_136 : decode cX0_numberings 136 = .ok (.ireturn, 1) := by decide +kernel
section
variable {v : Int32}
noncomputable def x0_numberings_B46 (F : Nat) (K120 : Int32 × Int32 × XS → XR Int32) (x1 : Nat) (x3 : Int32) (x4 : Nat) (R : Int32 × Int32 × XS → XR Int32) (a : Int32 × Int32 × XS) : XR Int32 :=
  (gI a.2.2 x4 [9] 2).bind (fun v1 => if v1 ≤ a.2.1 then (K120 (a.1, a.2.1, a.2.2)) else ((gN a.2.2 x4 [9] 0).bind (fun n1 => (gB a.2.2 n1 14).bind (fun A1 => if okI a.2.1 A1.1 = true then (A1.2 a.2.1.toNatClampNeg).bind (fun n2 => (gI a.2.2 n2 [10] 0).bind (fun v2 => if v2 = 110 then ((gN a.2.2 x4 [9] 1).bind (fun n3 => (gA a.2.2 n3 2).bind (fun A2 => if okI a.2.1 A2.1 = true then if (A2.2 a.2.1.toNatClampNeg) = 0 then ((gN a.2.2 x4 [9] 0).bind (fun n4 => (gB a.2.2 n4 14).bind (fun A3 => if okI a.2.1 A3.1 = true then (A3.2 a.2.1.toNatClampNeg).bind (fun n5 => if isC a.2.2 n5 [10] = true then (x10_holds F n5 x1 a.2.2).bind (fun r1 => tk r1.2.2.1 r1.2.2.2 (if r1.1 = 0 then (R (a.1, a.2.1 + 1, r1.2.1)) else ((gN r1.2.1 x4 [9] 0).bind (fun n6 => (gB r1.2.1 n6 14).bind (fun A4 => if okI a.2.1 A4.1 = true then (A4.2 a.2.1.toNatClampNeg).bind (fun n7 => (gI r1.2.1 n7 [10] 1).bind (fun v3 => nx (a.1 ||| (1 <<< (v3 &&& 31)) : Int32) (fun y1 => R (y1, a.2.1 + 1, r1.2.1)))) else none))))) else none) else none))) else (R (a.1, a.2.1 + 1, a.2.2)) else none))) else (R (a.1, a.2.1 + 1, a.2.2)))) else none))))
theorem kx0_numberings_B46 (M : XC γ cX0_numberings 6 RX0 "numberings" G o B 45 (some .int) (xQi G o B v τr) c0 s0) (x1 : Nat) (x3 : Int32) (x4 : Nat) (K120 : Int32 × Int32 × XS → XR Int32) (hK120 : ∀ a c s, K120 a = some (v, τr, c, s) → ∀ k n, k + c ≤ c0 ∧ n + s ≤ s0 → J γ (XW G o B a.2.2) k n 120 [(0, .ref o), (1, .ref x1), (2, .int a.1), (3, .int x3)] []) : ∀ R : Int32 × Int32 × XS → XR Int32, (∀ a c s, R a = some (v, τr, c, s) → ∀ k n, k + c ≤ c0 ∧ n + s ≤ s0 → J γ (XW G o B a.2.2) k n 46 [(0, .ref o), (1, .ref x1), (2, .int a.1), (3, .int x3), (4, .ref x4), (5, .int a.2.1)] []) → ∀ a c s, x0_numberings_B46 F K120 x1 x3 x4 R a = some (v, τr, c, s) → ∀ k n, k + c ≤ c0 ∧ n + s ≤ s0 → J γ (XW G o B a.2.2) k n 46 [(0, .ref o), (1, .ref x1), (2, .int a.1), (3, .int x3), (4, .ref x4), (5, .int a.2.1)] [] := by
  intro R hR a c s hf k n hkn
  unfold x0_numberings_B46 at hf
  refine j_iload (pc := 46) M.1 dX0_numberings_46 5 rfl ?_
  refine j_aload (pc := 48) M.1 dX0_numberings_48 4 rfl ?_
  obtain ⟨v1, g1, hf⟩ := o_bind hf
  refine jx_getI (pc := 50) M xfl_X0_288 g1 dX0_numberings_50 ?_
  refine j_icmp_ge (pc := 53) M.1 120 dX0_numberings_53 rfl (fun b1 => ?_) (fun b1 => ?_)
  · replace hf := o_pos b1 hf
    refine j_sub [0, 1, 2, 3] (show lv_pick _ _ = [(0, .ref o), (1, .ref x1), (2, .int a.1), (3, .int x3)] from rfl) ?_
    have hy := hK120 _ _ _ hf _ _ hkn
    exact hy
  · replace hf := o_neg b1 hf
    refine j_aload (pc := 56) M.1 dX0_numberings_56 4 rfl ?_
    obtain ⟨n1, g2, hf⟩ := o_bind hf
    refine jx_getN (pc := 58) M xfl_X0_291 g2 dX0_numberings_58 ?_
    refine j_iload (pc := 61) M.1 dX0_numberings_61 5 rfl ?_
    obtain ⟨A1, g4, hf⟩ := o_bind hf
    obtain ⟨b2, hf⟩ := o_need hf
    obtain ⟨n2, g3, hf⟩ := o_bind hf
    refine jx_paald (pc := 63) M xrt_14 g4 b2 g3 dX0_numberings_63 ?_
    obtain ⟨v2, g5, hf⟩ := o_bind hf
    refine jx_getI (pc := 64) M xfl_X0_295 g5 dX0_numberings_64 ?_
    refine j_bipush (pc := 67) M.1 dX0_numberings_67 kc_bipush_110 ?_
    refine j_icmp_ne (pc := 69) M.1 114 dX0_numberings_69 rfl (fun b3 => ?_) (fun b3 => ?_)
    · replace hf := o_neg b3 hf
      refine j_iinc (pc := 114) M.1 [(5, .int (a.2.1 + 1)), (0, .ref o), (1, .ref x1), (2, .int a.1), (3, .int x3), (4, .ref x4)] dX0_numberings_114 5 rfl (congrArg _ kc_iconst_1) rfl rfl ?_
      refine j_goto (pc := 117) M.1 46 dX0_numberings_117 rfl ?_
      refine j_sub [1, 2, 3, 4, 5, 0] (show lv_pick _ _ = [(0, .ref o), (1, .ref x1), (2, .int a.1), (3, .int x3), (4, .ref x4), (5, .int (a.2.1 + 1))] from rfl) ?_
      have hy := hR _ _ _ hf _ _ hkn
      exact hy
    · replace hf := o_pos b3 hf
      refine j_aload (pc := 72) M.1 dX0_numberings_72 4 rfl ?_
      obtain ⟨n3, g6, hf⟩ := o_bind hf
      refine jx_getN (pc := 74) M xfl_X0_281 g6 dX0_numberings_74 ?_
      refine j_iload (pc := 77) M.1 dX0_numberings_77 5 rfl ?_
      obtain ⟨A2, g7, hf⟩ := o_bind hf
      obtain ⟨b4, hf⟩ := o_need hf
      refine jx_pald2 (pc := 79) M g7 b4 dX0_numberings_79 ?_
      refine j_if_ne (pc := 80) M.1 114 dX0_numberings_80 rfl (fun b5 => ?_) (fun b5 => ?_)
      · replace hf := o_neg b5 hf
        refine j_iinc (pc := 114) M.1 [(5, .int (a.2.1 + 1)), (0, .ref o), (1, .ref x1), (2, .int a.1), (3, .int x3), (4, .ref x4)] dX0_numberings_114 5 rfl (congrArg _ kc_iconst_1) rfl rfl ?_
        refine j_goto (pc := 117) M.1 46 dX0_numberings_117 rfl ?_
        refine j_sub [1, 2, 3, 4, 5, 0] (show lv_pick _ _ = [(0, .ref o), (1, .ref x1), (2, .int a.1), (3, .int x3), (4, .ref x4), (5, .int (a.2.1 + 1))] from rfl) ?_
        have hy := hR _ _ _ hf _ _ hkn
        exact hy
      · replace hf := o_pos b5 hf
        refine j_aload (pc := 83) M.1 dX0_numberings_83 4 rfl ?_
        obtain ⟨n4, g8, hf⟩ := o_bind hf
        refine jx_getN (pc := 85) M xfl_X0_291 g8 dX0_numberings_85 ?_
        refine j_iload (pc := 88) M.1 dX0_numberings_88 5 rfl ?_
        obtain ⟨A3, g10, hf⟩ := o_bind hf
        obtain ⟨b6, hf⟩ := o_need hf
        obtain ⟨n5, g9, hf⟩ := o_bind hf
        refine jx_paald (pc := 90) M xrt_14 g10 b6 g9 dX0_numberings_90 ?_
        refine j_aload_n (pc := 91) M.1 dX0_numberings_91 1 rfl ?_
        obtain ⟨b7, hf⟩ := o_need hf
        obtain ⟨r1, g11, hf⟩ := o_bind hf
        obtain ⟨c1, s1, hf, hc1, hs1⟩ := o_tk hf
        replace hkn := kn_step hkn hc1 hs1
        refine jx_i M (x_runW (pc := 92) (As := [.ref x1]) (rest := []) M xcw_X0_312 (met_x10_holds g11) b7 (by decide) rfl rfl rfl dX0_numberings_92 (kn_le hkn)) ?_
        refine j_if_eq (pc := 95) M.1 114 dX0_numberings_95 rfl (fun b8 => ?_) (fun b8 => ?_)
        · replace hf := o_pos b8 hf
          refine j_iinc (pc := 114) M.1 [(5, .int (a.2.1 + 1)), (0, .ref o), (1, .ref x1), (2, .int a.1), (3, .int x3), (4, .ref x4)] dX0_numberings_114 5 rfl (congrArg _ kc_iconst_1) rfl rfl ?_
          refine j_goto (pc := 117) M.1 46 dX0_numberings_117 rfl ?_
          refine j_sub [1, 2, 3, 4, 5, 0] (show lv_pick _ _ = [(0, .ref o), (1, .ref x1), (2, .int a.1), (3, .int x3), (4, .ref x4), (5, .int (a.2.1 + 1))] from rfl) ?_
          have hy := hR _ _ _ hf _ _ hkn
          exact hy
        · replace hf := o_neg b8 hf
          refine j_iload_n (pc := 98) M.1 dX0_numberings_98 2 rfl ?_
          refine j_iconst (pc := 99) M.1 dX0_numberings_99 kc_iconst_1 ?_
          refine j_aload (pc := 100) M.1 dX0_numberings_100 4 rfl ?_
          obtain ⟨n6, g12, hf⟩ := o_bind hf
          refine jx_getN (pc := 102) M xfl_X0_291 g12 dX0_numberings_102 ?_
          refine j_iload (pc := 105) M.1 dX0_numberings_105 5 rfl ?_
          obtain ⟨A4, g14, hf⟩ := o_bind hf
          obtain ⟨b9, hf⟩ := o_need hf
          obtain ⟨n7, g13, hf⟩ := o_bind hf
          refine jx_paald (pc := 107) M xrt_14 g14 b9 g13 dX0_numberings_107 ?_
          obtain ⟨v3, g15, hf⟩ := o_bind hf
          refine jx_getI (pc := 108) M xfl_X0_300 g15 dX0_numberings_108 ?_
          refine j_ishl (pc := 111) M.1 dX0_numberings_111 ?_
          refine j_ior (pc := 112) M.1 dX0_numberings_112 ?_
          obtain ⟨y1, e1, hf⟩ := o_nx hf
          refine j_top e1 ?_
          refine j_istore_n (pc := 113) M.1 [(2, .int y1), (0, .ref o), (1, .ref x1), (3, .int x3), (4, .ref x4), (5, .int a.2.1)] dX0_numberings_113 rfl rfl ?_
          refine j_iinc (pc := 114) M.1 [(5, .int (a.2.1 + 1)), (2, .int y1), (0, .ref o), (1, .ref x1), (3, .int x3), (4, .ref x4)] dX0_numberings_114 5 rfl (congrArg _ kc_iconst_1) rfl rfl ?_
          refine j_goto (pc := 117) M.1 46 dX0_numberings_117 rfl ?_
          refine j_sub [2, 3, 1, 4, 5, 0] (show lv_pick _ _ = [(0, .ref o), (1, .ref x1), (2, .int y1), (3, .int x3), (4, .ref x4), (5, .int (a.2.1 + 1))] from rfl) ?_
          have hy := hR _ _ _ hf _ _ hkn
          exact hy
noncomputable def x0_numberings_B12 (F : Nat) (K126 : Int32 × Int32 × XS → XR Int32) (x1 : Nat) (R : Int32 × Int32 × XS → XR Int32) (a : Int32 × Int32 × XS) : XR Int32 :=
  if (a.2.2.1.1 14) ≤ a.2.1 then (K126 (a.1, a.2.1, a.2.2)) else (if okI a.2.1 20 = true then (a.2.2.2.1 6 a.2.1.toNatClampNeg).bind (fun n1 => (gI a.2.2 x1 [19] 0).bind (fun v1 => if isC a.2.2 n1 [9] = true then (x9_isInForce F n1 v1 a.2.2).bind (fun r1 => tk r1.2.2.1 r1.2.2.2 (if r1.1 = 0 then (R (a.1, a.2.1 + 1, r1.2.1)) else (lp (x0_numberings_B46 F (fun a1 => R (a1.1, a.2.1 + 1, a1.2.2)) x1 a.2.1 n1) F (a.1, 0, r1.2.1)))) else none)) else none)
theorem kx0_numberings_B12 (M : XC γ cX0_numberings 6 RX0 "numberings" G o B 45 (some .int) (xQi G o B v τr) c0 s0) (x1 : Nat) (K126 : Int32 × Int32 × XS → XR Int32) (hK126 : ∀ a c s, K126 a = some (v, τr, c, s) → ∀ k n, k + c ≤ c0 ∧ n + s ≤ s0 → J γ (XW G o B a.2.2) k n 126 [(2, .int a.1)] []) : ∀ R : Int32 × Int32 × XS → XR Int32, (∀ a c s, R a = some (v, τr, c, s) → ∀ k n, k + c ≤ c0 ∧ n + s ≤ s0 → J γ (XW G o B a.2.2) k n 12 [(0, .ref o), (1, .ref x1), (2, .int a.1), (3, .int a.2.1)] []) → ∀ a c s, x0_numberings_B12 F K126 x1 R a = some (v, τr, c, s) → ∀ k n, k + c ≤ c0 ∧ n + s ≤ s0 → J γ (XW G o B a.2.2) k n 12 [(0, .ref o), (1, .ref x1), (2, .int a.1), (3, .int a.2.1)] [] := by
  intro R hR a c s hf k n hkn
  unfold x0_numberings_B12 at hf
  refine j_iload_n (pc := 12) M.1 dX0_numberings_12 3 rfl ?_
  refine j_aload_n (pc := 13) M.1 dX0_numberings_13 0 rfl ?_
  refine jx_getS (pc := 14) M xfs_271 dX0_numberings_14 ?_
  refine j_icmp_ge (pc := 17) M.1 126 dX0_numberings_17 rfl (fun b1 => ?_) (fun b1 => ?_)
  · replace hf := o_pos b1 hf
    refine j_sub [2] (show lv_pick _ _ = [(2, .int a.1)] from rfl) ?_
    have hy := hK126 _ _ _ hf _ _ hkn
    exact hy
  · replace hf := o_neg b1 hf
    refine j_aload_n (pc := 20) M.1 dX0_numberings_20 0 rfl ?_
    refine jx_getA (pc := 21) M xfa_53 dX0_numberings_21 ?_
    refine j_iload_n (pc := 24) M.1 dX0_numberings_24 3 rfl ?_
    obtain ⟨b2, hf⟩ := o_need hf
    obtain ⟨n1, g1, hf⟩ := o_bind hf
    refine jx_aald (pc := 25) M xax_6 (by decide) xrt_6 b2 g1 dX0_numberings_25 ?_
    refine j_astore (pc := 26) M.1 [(4, .ref n1), (0, .ref o), (1, .ref x1), (2, .int a.1), (3, .int a.2.1)] dX0_numberings_26 rfl rfl ?_
    refine j_aload (pc := 28) M.1 dX0_numberings_28 0 rfl ?_
    refine j_aload_n (pc := 30) M.1 dX0_numberings_30 2 rfl ?_
    obtain ⟨v1, g2, hf⟩ := o_bind hf
    refine jx_getI (pc := 31) M xfl_X0_304 g2 dX0_numberings_31 ?_
    obtain ⟨b3, hf⟩ := o_need hf
    obtain ⟨r1, g3, hf⟩ := o_bind hf
    obtain ⟨c1, s1, hf, hc1, hs1⟩ := o_tk hf
    replace hkn := kn_step hkn hc1 hs1
    refine jx_i M (x_runW (pc := 34) (As := [.int v1]) (rest := []) M xcw_X0_285 (met_x9_isInForce g3) b3 (by decide) rfl rfl rfl dX0_numberings_34 (kn_le hkn)) ?_
    refine j_if_ne (pc := 37) M.1 43 dX0_numberings_37 rfl (fun b4 => ?_) (fun b4 => ?_)
    · replace hf := o_neg b4 hf
      refine j_iconst (pc := 43) M.1 dX0_numberings_43 kc_iconst_0 ?_
      refine j_istore (pc := 44) M.1 [(5, .int 0), (4, .ref n1), (0, .ref o), (1, .ref x1), (2, .int a.1), (3, .int a.2.1)] dX0_numberings_44 rfl rfl ?_
      refine j_sub [2, 3, 4, 5, 1, 0] (show lv_pick _ _ = [(0, .ref o), (1, .ref x1), (2, .int a.1), (3, .int a.2.1), (4, .ref n1), (5, .int 0)] from rfl) ?_
      refine lp_Wc (kx0_numberings_B46 M x1 a.2.1 n1 _ ?_) F (a.1, 0, r1.2.1) _ _ hf _ _ hkn
      · intro a1 c s hf k n hkn
        refine j_iinc (pc := 120) M.1 [(3, .int (a.2.1 + 1)), (0, .ref o), (1, .ref x1), (2, .int a1.1)] dX0_numberings_120 3 rfl (congrArg _ kc_iconst_1) rfl rfl ?_
        refine j_goto (pc := 123) M.1 12 dX0_numberings_123 rfl ?_
        refine j_sub [1, 2, 3, 0] (show lv_pick _ _ = [(0, .ref o), (1, .ref x1), (2, .int a1.1), (3, .int (a.2.1 + 1))] from rfl) ?_
        have hy := hR _ _ _ hf _ _ hkn
        exact hy
    · replace hf := o_pos b4 hf
      refine j_goto (pc := 40) M.1 120 dX0_numberings_40 rfl ?_
      refine j_iinc (pc := 120) M.1 [(3, .int (a.2.1 + 1)), (4, .ref n1), (0, .ref o), (1, .ref x1), (2, .int a.1)] dX0_numberings_120 4 rfl (congrArg _ kc_iconst_1) rfl rfl ?_
      refine j_goto (pc := 123) M.1 12 dX0_numberings_123 rfl ?_
      refine j_sub [2, 3, 4, 0] (show lv_pick _ _ = [(0, .ref o), (1, .ref x1), (2, .int a.1), (3, .int (a.2.1 + 1))] from rfl) ?_
      have hy := hR _ _ _ hf _ _ hkn
      exact hy
noncomputable def x0_numberings (F : Nat) (x1 : Nat) (τ : XS) : XR Int32 :=
  (gI τ x1 [19] 0).bind (fun v1 => (x0_strikes F v1 τ).bind (fun r1 => tk r1.2.2.1 r1.2.2.2 (lp (x0_numberings_B12 F (fun a1 => if a1.1 = 0 then (some (15, a1.2.2, 0, 0)) else (some (a1.1, a1.2.2, 0, 0))) x1) F (0, 0, r1.2.1))))
theorem met_x0_numberings {l : Launch} {G : gG} {o B F : Nat} {x1 : Nat} {τ : XS} {r : Int32 × XS × Nat × Nat} (hf : x0_numberings F x1 τ = some r) : MetX l G o B yX0_numberings cX0_numberings 6 (some .int) 45 [.ref o, .ref x1] τ (xQi G o B r.1 r.2.1) r.2.2.1 r.2.2.2 := by
  obtain ⟨v, τr, c, s⟩ := r
  refine metX_of (own := RX0) (mn := "numberings") (by decide) rfl rfl rfl (fun γ hγ M => ?_)
  subst hγ
  show J γ (XW G o B τ) 0 0 0 [(0, .ref o), (1, .ref x1)] []
  have hkn : 0 + c ≤ c ∧ 0 + s ≤ s := ⟨by omega, by omega⟩
  unfold x0_numberings at hf
  refine j_aload_n (pc := 0) M.1 dX0_numberings_0 0 rfl ?_
  refine j_aload_n (pc := 1) M.1 dX0_numberings_1 1 rfl ?_
  obtain ⟨v1, g1, hf⟩ := o_bind hf
  refine jx_getI (pc := 2) M xfl_X0_304 g1 dX0_numberings_2 ?_
  obtain ⟨r1, g2, hf⟩ := o_bind hf
  obtain ⟨c1, s1, hf, hc1, hs1⟩ := o_tk hf
  replace hkn := kn_step hkn hc1 hs1
  refine jx_v (r := r1.1) M (x_runV (pc := 5) (As := [.int v1]) (rest := []) (V := xV o τ) M xcw_X0_309 (met_x0_strikes g2) (fun H h => h.1 o _ xH_o) (by decide) rfl rfl rfl dX0_numberings_5 (kn_le hkn)) ?_
  refine j_iconst (pc := 8) M.1 dX0_numberings_8 kc_iconst_0 ?_
  refine j_istore_n (pc := 9) M.1 [(2, .int 0), (0, .ref o), (1, .ref x1)] dX0_numberings_9 rfl rfl ?_
  refine j_iconst (pc := 10) M.1 dX0_numberings_10 kc_iconst_0 ?_
  refine j_istore_n (pc := 11) M.1 [(3, .int 0), (2, .int 0), (0, .ref o), (1, .ref x1)] dX0_numberings_11 rfl rfl ?_
  refine j_sub [2, 3, 1, 0] (show lv_pick _ _ = [(0, .ref o), (1, .ref x1), (2, .int 0), (3, .int 0)] from rfl) ?_
  refine lp_Wc (kx0_numberings_B12 M x1 _ ?_) F (0, 0, r1.2.1) _ _ hf _ _ hkn
  · intro a1 c s hf k n hkn
    refine j_iload_n (pc := 126) M.1 dX0_numberings_126 0 rfl ?_
    refine j_if_ne (pc := 127) M.1 135 dX0_numberings_127 rfl (fun b1 => ?_) (fun b1 => ?_)
    · replace hf := o_neg b1 hf
      refine j_iload_n (pc := 135) M.1 dX0_numberings_135 0 rfl ?_
      exact jx_iretF (pc := 136) M dX0_numberings_136 hf hkn
    · replace hf := o_pos b1 hf
      refine j_bipush (pc := 130) M.1 dX0_numberings_130 kc_bipush_15 ?_
      refine j_goto (pc := 132) M.1 136 dX0_numberings_132 rfl ?_
      exact jx_iretF (pc := 136) M dX0_numberings_136 hf hkn
end
theorem dX0_number_0 : decode cX0_number 0 = .ok (.iload_n 1, 1) := by decide +kernel
theorem dX0_number_1 : decode cX0_number 1 = .ok (.iconst 4, 1) := by decide +kernel
theorem dX0_number_2 : decode cX0_number 2 = .ok (.invokestatic 137, 3) := by decide +kernel
theorem dX0_number_5 : decode cX0_number 5 = .ok (.ifCond .eq 55, 3) := by decide +kernel
theorem dX0_number_8 : decode cX0_number 8 = .ok (.iload_n 2, 1) := by decide +kernel
theorem dX0_number_9 : decode cX0_number 9 = .ok (.invokestatic 154, 3) := by decide +kernel
theorem dX0_number_12 : decode cX0_number 12 = .ok (.ifCond .eq 48, 3) := by decide +kernel
theorem dX0_number_15 : decode cX0_number 15 = .ok (.iload_n 3, 1) := by decide +kernel
theorem dX0_number_16 : decode cX0_number 16 = .ok (.bipush 8, 2) := by decide +kernel
theorem dX0_number_18 : decode cX0_number 18 = .ok (.invokestatic 137, 3) := by decide +kernel
theorem dX0_number_21 : decode cX0_number 21 = .ok (.ifCond .eq 39, 3) := by decide +kernel
theorem dX0_number_24 : decode cX0_number 24 = .ok (.iload 4, 2) := by decide +kernel
theorem dX0_number_26 : decode cX0_number 26 = .ok (.bipush 8, 2) := by decide +kernel
theorem dX0_number_28 : decode cX0_number 28 = .ok (.invokestatic 137, 3) := by decide +kernel
theorem dX0_number_31 : decode cX0_number 31 = .ok (.ifCond .eq 29, 3) := by decide +kernel
theorem dX0_number_34 : decode cX0_number 34 = .ok (.iload 5, 2) := by decide +kernel
theorem dX0_number_36 : decode cX0_number 36 = .ok (.sipush 256, 3) := by decide +kernel
theorem dX0_number_39 : decode cX0_number 39 = .ok (.invokestatic 137, 3) := by decide +kernel
theorem dX0_number_42 : decode cX0_number 42 = .ok (.ifCond .eq 18, 3) := by decide +kernel
theorem dX0_number_45 : decode cX0_number 45 = .ok (.iload 6, 2) := by decide +kernel
theorem dX0_number_47 : decode cX0_number 47 = .ok (.iconst (-1), 1) := by decide +kernel
theorem dX0_number_48 : decode cX0_number 48 = .ok (.if_icmp .eq 14, 3) := by decide +kernel
theorem dX0_number_51 : decode cX0_number 51 = .ok (.aload_n 0, 1) := by decide +kernel
theorem dX0_number_52 : decode cX0_number 52 = .ok (.iload 6, 2) := by decide +kernel
theorem dX0_number_54 : decode cX0_number 54 = .ok (.invokevirtual 240, 3) := by decide +kernel
theorem dX0_number_57 : decode cX0_number 57 = .ok (.ifCond .ne 5, 3) := by decide +kernel
theorem dX0_number_60 : decode cX0_number 60 = .ok (.iconst (-1), 1) := by decide +kernel
theorem dX0_number_61 : decode cX0_number 61 = .ok (.ireturn, 1) := by decide +kernel
theorem dX0_number_62 : decode cX0_number 62 = .ok (.new 305, 3) := by decide +kernel
theorem dX0_number_65 : decode cX0_number 65 = .ok (.dup, 1) := by decide +kernel
theorem dX0_number_66 : decode cX0_number 66 = .ok (.iload_n 2, 1) := by decide +kernel
theorem dX0_number_67 : decode cX0_number 67 = .ok (.iload_n 3, 1) := by decide +kernel
theorem dX0_number_68 : decode cX0_number 68 = .ok (.iload 4, 2) := by decide +kernel
theorem dX0_number_70 : decode cX0_number 70 = .ok (.iload 5, 2) := by decide +kernel
theorem dX0_number_72 : decode cX0_number 72 = .ok (.iload 6, 2) := by decide +kernel
theorem dX0_number_74 : decode cX0_number 74 = .ok (.iconst (-1), 1) := by decide +kernel
theorem dX0_number_75 : decode cX0_number 75 = .ok (.if_icmp .ne 7, 3) := by decide +kernel
theorem dX0_number_78 : decode cX0_number 78 = .ok (.iconst (-1), 1) := by decide +kernel
theorem dX0_number_79 : decode cX0_number 79 = .ok (.goto 13, 3) := by decide +kernel
theorem dX0_number_82 : decode cX0_number 82 = .ok (.aload_n 0, 1) := by decide +kernel
theorem dX0_number_83 : decode cX0_number 83 = .ok (.getfield 24, 3) := by decide +kernel
theorem dX0_number_86 : decode cX0_number 86 = .ok (.iload 6, 2) := by decide +kernel
theorem dX0_number_88 : decode cX0_number 88 = .ok (.aaload, 1) := by decide +kernel
theorem dX0_number_89 : decode cX0_number 89 = .ok (.getfield 316, 3) := by decide +kernel
theorem dX0_number_92 : decode cX0_number 92 = .ok (.invokespecial 319, 3) := by decide +kernel
theorem dX0_number_95 : decode cX0_number 95 = .ok (.astore 7, 2) := by decide +kernel
theorem dX0_number_97 : decode cX0_number 97 = .ok (.iload_n 1, 1) := by decide +kernel
theorem dX0_number_98 : decode cX0_number 98 = .ok (.ifCond .ne 16, 3) := by decide +kernel
theorem dX0_number_101 : decode cX0_number 101 = .ok (.aload_n 0, 1) := by decide +kernel
theorem dX0_number_102 : decode cX0_number 102 = .ok (.bipush 97, 2) := by decide +kernel
theorem dX0_number_104 : decode cX0_number 104 = .ok (.aload 7, 2) := by decide +kernel
theorem dX0_number_106 : decode cX0_number 106 = .ok (.bipush 8, 2) := by decide +kernel
theorem dX0_number_108 : decode cX0_number 108 = .ok (.invokevirtual 320, 3) := by decide +kernel
theorem dX0_number_111 : decode cX0_number 111 = .ok (.goto 44, 3) := by decide +kernel
theorem dX0_number_114 : decode cX0_number 114 = .ok (.iload_n 1, 1) := by decide +kernel
theorem dX0_number_115 : decode cX0_number 115 = .ok (.iconst 1, 1) := by decide +kernel
theorem dX0_number_116 : decode cX0_number 116 = .ok (.if_icmp .ne 15, 3) := by decide +kernel
theorem dX0_number_119 : decode cX0_number 119 = .ok (.aload_n 0, 1) := by decide +kernel
theorem dX0_number_120 : decode cX0_number 120 = .ok (.bipush 118, 2) := by decide +kernel
theorem dX0_number_122 : decode cX0_number 122 = .ok (.aload 7, 2) := by decide +kernel
theorem dX0_number_124 : decode cX0_number 124 = .ok (.iconst 0, 1) := by decide +kernel
theorem dX0_number_125 : decode cX0_number 125 = .ok (.invokevirtual 320, 3) := by decide +kernel
theorem dX0_number_128 : decode cX0_number 128 = .ok (.goto 27, 3) := by decide +kernel
theorem dX0_number_131 : decode cX0_number 131 = .ok (.iload_n 1, 1) := by decide +kernel
theorem dX0_number_132 : decode cX0_number 132 = .ok (.iconst 2, 1) := by decide +kernel
theorem dX0_number_133 : decode cX0_number 133 = .ok (.if_icmp .ne 16, 3) := by decide +kernel
theorem dX0_number_136 : decode cX0_number 136 = .ok (.aload_n 0, 1) := by decide +kernel
theorem dX0_number_137 : decode cX0_number 137 = .ok (.bipush 102, 2) := by decide +kernel
theorem dX0_number_139 : decode cX0_number 139 = .ok (.aload 7, 2) := by decide +kernel
theorem dX0_number_141 : decode cX0_number 141 = .ok (.bipush 7, 2) := by decide +kernel
theorem dX0_number_143 : decode cX0_number 143 = .ok (.invokevirtual 320, 3) := by decide +kernel
theorem dX0_number_146 : decode cX0_number 146 = .ok (.goto 9, 3) := by decide +kernel
theorem dX0_number_149 : decode cX0_number 149 = .ok (.aload_n 0, 1) := by decide +kernel
theorem dX0_number_150 : decode cX0_number 150 = .ok (.aload 7, 2) := by decide +kernel
theorem dX0_number_152 : decode cX0_number 152 = .ok (.invokevirtual 324, 3) := by decide +kernel
theorem dX0_number_155 : decode cX0_number 155 = .ok (.ireturn, 1) := by decide +kernel
section
variable {v : Int32}
noncomputable def x0_number_92 (F : Nat) (x1 : Int32) (u0 : Int32) (u1 : Int32) (u2 : Int32) (u3 : Int32) (u4 : Int32) (u5 : Nat) (u6 : Nat) (τ : XS) : XR Int32 :=
  (x19_init F u5 u4 u3 u2 u1 u0 τ).bind (fun r1 => tk r1.2.2.1 r1.2.2.2 (if x1 = 0 then ((x0_numberOf F 97 u6 8 r1.2.1).bind (fun r5 => tk r5.2.2.1 r5.2.2.2 (some (r5.1, r5.2.1, 0, 0)))) else (if x1 = 1 then ((x0_numberOf F 118 u6 0 r1.2.1).bind (fun r4 => tk r4.2.2.1 r4.2.2.2 (some (r4.1, r4.2.1, 0, 0)))) else (if x1 = 2 then ((x0_numberOf F 102 u6 7 r1.2.1).bind (fun r3 => tk r3.2.2.1 r3.2.2.2 (some (r3.1, r3.2.1, 0, 0)))) else ((x0_numberings F u6 r1.2.1).bind (fun r2 => tk r2.2.2.1 r2.2.2.2 (some (r2.1, r2.2.1, 0, 0))))))))
theorem kx0_number_92 (M : XC γ cX0_number 8 RX0 "number" G o B 46 (some .int) (xQi G o B v τr) c0 s0) (x1 : Int32) (u0 : Int32) (u1 : Int32) (u2 : Int32) (u3 : Int32) (u4 : Int32) (u5 : Nat) (u6 : Nat) (τ : XS) {c s k n : Nat} (hf : x0_number_92 F x1 u0 u1 u2 u3 u4 u5 u6 τ = some (v, τr, c, s)) (hkn : k + c ≤ c0 ∧ n + s ≤ s0) : J γ (XW G o B τ) k n 92 [(0, .ref o), (1, .int x1)] [.int u0, .int u1, .int u2, .int u3, .int u4, .ref u5, .ref u6] := by
  unfold x0_number_92 at hf
  obtain ⟨r1, g1, hf⟩ := o_bind hf
  obtain ⟨c1, s1, hf, hc1, hs1⟩ := o_tk hf
  replace hkn := kn_step hkn hc1 hs1
  refine jx_v (r := r1.1) M (x_runI (pc := 92) (As := [.int u4, .int u3, .int u2, .int u1, .int u0]) (rest := [.ref u6]) M xci_X0_319 (met_x19_init g1) (by decide) rfl rfl rfl dX0_number_92 (kn_le hkn)) ?_
  refine j_astore (pc := 95) M.1 [(7, .ref u6), (0, .ref o), (1, .int x1)] dX0_number_95 rfl rfl ?_
  refine j_iload_n (pc := 97) M.1 dX0_number_97 2 rfl ?_
  refine j_if_ne (pc := 98) M.1 114 dX0_number_98 rfl (fun b1 => ?_) (fun b1 => ?_)
  · replace hf := o_neg b1 hf
    refine j_iload_n (pc := 114) M.1 dX0_number_114 2 rfl ?_
    refine j_iconst (pc := 115) M.1 dX0_number_115 kc_iconst_1 ?_
    refine j_icmp_ne (pc := 116) M.1 131 dX0_number_116 rfl (fun b2 => ?_) (fun b2 => ?_)
    · replace hf := o_neg b2 hf
      refine j_iload_n (pc := 131) M.1 dX0_number_131 2 rfl ?_
      refine j_iconst (pc := 132) M.1 dX0_number_132 kc_iconst_2 ?_
      refine j_icmp_ne (pc := 133) M.1 149 dX0_number_133 rfl (fun b3 => ?_) (fun b3 => ?_)
      · replace hf := o_neg b3 hf
        refine j_aload_n (pc := 149) M.1 dX0_number_149 1 rfl ?_
        refine j_aload (pc := 150) M.1 dX0_number_150 0 rfl ?_
        obtain ⟨r2, g2, hf⟩ := o_bind hf
        obtain ⟨c2, s2, hf, hc2, hs2⟩ := o_tk hf
        replace hkn := kn_step hkn hc2 hs2
        refine jx_i M (x_runV (pc := 152) (As := [.ref u6]) (rest := []) (V := xV o r1.2.1) M xcw_X0_324 (met_x0_numberings g2) (fun H h => h.1 o _ xH_o) (by decide) rfl rfl rfl dX0_number_152 (kn_le hkn)) ?_
        exact jx_iretF (pc := 155) M dX0_number_155 hf hkn
      · replace hf := o_pos b3 hf
        refine j_aload_n (pc := 136) M.1 dX0_number_136 1 rfl ?_
        refine j_bipush (pc := 137) M.1 dX0_number_137 kc_bipush_102 ?_
        refine j_aload (pc := 139) M.1 dX0_number_139 0 rfl ?_
        refine j_bipush (pc := 141) M.1 dX0_number_141 kc_bipush_7 ?_
        obtain ⟨r3, g3, hf⟩ := o_bind hf
        obtain ⟨c3, s3, hf, hc3, hs3⟩ := o_tk hf
        replace hkn := kn_step hkn hc3 hs3
        refine jx_i M (x_runV (pc := 143) (As := [.int 102, .ref u6, .int 7]) (rest := []) (V := xV o r1.2.1) M xcw_X0_320 (met_x0_numberOf g3) (fun H h => h.1 o _ xH_o) (by decide) rfl rfl rfl dX0_number_143 (kn_le hkn)) ?_
        refine j_goto (pc := 146) M.1 155 dX0_number_146 rfl ?_
        exact jx_iretF (pc := 155) M dX0_number_155 hf hkn
    · replace hf := o_pos b2 hf
      refine j_aload_n (pc := 119) M.1 dX0_number_119 1 rfl ?_
      refine j_bipush (pc := 120) M.1 dX0_number_120 kc_bipush_118 ?_
      refine j_aload (pc := 122) M.1 dX0_number_122 0 rfl ?_
      refine j_iconst (pc := 124) M.1 dX0_number_124 kc_iconst_0 ?_
      obtain ⟨r4, g4, hf⟩ := o_bind hf
      obtain ⟨c4, s4, hf, hc4, hs4⟩ := o_tk hf
      replace hkn := kn_step hkn hc4 hs4
      refine jx_i M (x_runV (pc := 125) (As := [.int 118, .ref u6, .int 0]) (rest := []) (V := xV o r1.2.1) M xcw_X0_320 (met_x0_numberOf g4) (fun H h => h.1 o _ xH_o) (by decide) rfl rfl rfl dX0_number_125 (kn_le hkn)) ?_
      refine j_goto (pc := 128) M.1 155 dX0_number_128 rfl ?_
      exact jx_iretF (pc := 155) M dX0_number_155 hf hkn
  · replace hf := o_pos b1 hf
    refine j_aload_n (pc := 101) M.1 dX0_number_101 1 rfl ?_
    refine j_bipush (pc := 102) M.1 dX0_number_102 kc_bipush_97 ?_
    refine j_aload (pc := 104) M.1 dX0_number_104 0 rfl ?_
    refine j_bipush (pc := 106) M.1 dX0_number_106 kc_bipush_8 ?_
    obtain ⟨r5, g5, hf⟩ := o_bind hf
    obtain ⟨c5, s5, hf, hc5, hs5⟩ := o_tk hf
    replace hkn := kn_step hkn hc5 hs5
    refine jx_i M (x_runV (pc := 108) (As := [.int 97, .ref u6, .int 8]) (rest := []) (V := xV o r1.2.1) M xcw_X0_320 (met_x0_numberOf g5) (fun H h => h.1 o _ xH_o) (by decide) rfl rfl rfl dX0_number_108 (kn_le hkn)) ?_
    refine j_goto (pc := 111) M.1 155 dX0_number_111 rfl ?_
    exact jx_iretF (pc := 155) M dX0_number_155 hf hkn
noncomputable def x0_number_62 (F : Nat) (x1 : Int32) (x2 : Int32) (x3 : Int32) (x4 : Int32) (x5 : Int32) (x6 : Int32) (τ : XS) : XR Int32 :=
  nx (xN τ (.inr (19, fun q => defaultValue (tyX19 q)))) (fun τ1 => tk 1 6 (if x6 = ((-1)) then (x0_number_92 F x1 ((-1)) x5 x4 x3 x2 τ.2.2.2.2 τ.2.2.2.2 τ1) else (if okI x6 30 = true then (τ1.2.1 0 x6.toNatClampNeg).bind (fun n1 => (gI τ1 n1 [3] 1).bind (fun v1 => x0_number_92 F x1 v1 x5 x4 x3 x2 τ.2.2.2.2 τ.2.2.2.2 τ1)) else none)))
theorem kx0_number_62 (M : XC γ cX0_number 8 RX0 "number" G o B 46 (some .int) (xQi G o B v τr) c0 s0) (x1 : Int32) (x2 : Int32) (x3 : Int32) (x4 : Int32) (x5 : Int32) (x6 : Int32) (τ : XS) {c s k n : Nat} (hf : x0_number_62 F x1 x2 x3 x4 x5 x6 τ = some (v, τr, c, s)) (hkn : k + c ≤ c0 ∧ n + s ≤ s0) : J γ (XW G o B τ) k n 62 [(0, .ref o), (1, .int x1), (2, .int x2), (3, .int x3), (4, .int x4), (5, .int x5), (6, .int x6)] [] := by
  unfold x0_number_62 at hf
  obtain ⟨τ1, e1, hf⟩ := o_nx hf
  obtain ⟨c1, s1, hf, hc1, hs1⟩ := o_tk hf
  replace hkn := kn_step hkn hc1 hs1
  refine jx_new (pc := 62) M xnew_X0_305 dX0_number_62 (kn_le hkn) e1 ?_
  refine j_dup (pc := 65) M.1 dX0_number_65 rfl ?_
  refine j_iload_n (pc := 66) M.1 dX0_number_66 2 rfl ?_
  refine j_iload_n (pc := 67) M.1 dX0_number_67 3 rfl ?_
  refine j_iload (pc := 68) M.1 dX0_number_68 4 rfl ?_
  refine j_iload (pc := 70) M.1 dX0_number_70 5 rfl ?_
  refine j_iload (pc := 72) M.1 dX0_number_72 6 rfl ?_
  refine j_iconst (pc := 74) M.1 dX0_number_74 kc_iconst_m1 ?_
  refine j_icmp_ne (pc := 75) M.1 82 dX0_number_75 rfl (fun b1 => ?_) (fun b1 => ?_)
  · replace hf := o_neg b1 hf
    refine j_aload_n (pc := 82) M.1 dX0_number_82 0 rfl ?_
    refine jx_getA (pc := 83) M xfa_24 dX0_number_83 ?_
    refine j_iload (pc := 86) M.1 dX0_number_86 6 rfl ?_
    obtain ⟨b2, hf⟩ := o_need hf
    obtain ⟨n1, g1, hf⟩ := o_bind hf
    refine jx_aald (pc := 88) M xax_0 (by decide) xrt_3 b2 g1 dX0_number_88 ?_
    obtain ⟨v1, g2, hf⟩ := o_bind hf
    refine jx_getI (pc := 89) M xfl_X0_316 g2 dX0_number_89 ?_
    refine j_sub [0, 1] (show lv_pick _ _ = [(0, .ref o), (1, .int x1)] from rfl) ?_
    exact kx0_number_92 M x1 v1 x5 x4 x3 x2 τ.2.2.2.2 τ.2.2.2.2 τ1 hf hkn
  · replace hf := o_pos b1 hf
    refine j_iconst (pc := 78) M.1 dX0_number_78 kc_iconst_m1 ?_
    refine j_goto (pc := 79) M.1 92 dX0_number_79 rfl ?_
    refine j_sub [0, 1] (show lv_pick _ _ = [(0, .ref o), (1, .int x1)] from rfl) ?_
    exact kx0_number_92 M x1 ((-1)) x5 x4 x3 x2 τ.2.2.2.2 τ.2.2.2.2 τ1 hf hkn
noncomputable def x0_number (F : Nat) (x1 : Int32) (x2 : Int32) (x3 : Int32) (x4 : Int32) (x5 : Int32) (x6 : Int32) (τ : XS) : XR Int32 :=
  (x0_in F x1 4).bind (fun r1 => if r1 = 0 then (some ((-1), τ, 0, 0)) else ((x0_isWeek F x2).bind (fun r2 => if r2 = 0 then (some ((-1), τ, 0, 0)) else ((x0_in F x3 8).bind (fun r3 => if r3 = 0 then (some ((-1), τ, 0, 0)) else ((x0_in F x4 8).bind (fun r4 => if r4 = 0 then (some ((-1), τ, 0, 0)) else ((x0_in F x5 256).bind (fun r5 => if r5 = 0 then (some ((-1), τ, 0, 0)) else (if x6 = ((-1)) then (x0_number_62 F x1 x2 x3 x4 x5 x6 τ) else ((x0_isPlace F x6 τ).bind (fun r6 => tk r6.2.2.1 r6.2.2.2 (if r6.1 = 0 then (some ((-1), r6.2.1, 0, 0)) else (x0_number_62 F x1 x2 x3 x4 x5 x6 r6.2.1))))))))))))))
theorem met_x0_number {l : Launch} {G : gG} {o B F : Nat} {x1 : Int32} {x2 : Int32} {x3 : Int32} {x4 : Int32} {x5 : Int32} {x6 : Int32} {τ : XS} {r : Int32 × XS × Nat × Nat} (hf : x0_number F x1 x2 x3 x4 x5 x6 τ = some r) : MetX l G o B yX0_number cX0_number 8 (some .int) 46 [.ref o, .int x1, .int x2, .int x3, .int x4, .int x5, .int x6] τ (xQi G o B r.1 r.2.1) r.2.2.1 r.2.2.2 := by
  obtain ⟨v, τr, c, s⟩ := r
  refine metX_of (own := RX0) (mn := "number") (by decide) rfl rfl rfl (fun γ hγ M => ?_)
  subst hγ
  show J γ (XW G o B τ) 0 0 0 [(0, .ref o), (1, .int x1), (2, .int x2), (3, .int x3), (4, .int x4), (5, .int x5), (6, .int x6)] []
  have hkn : 0 + c ≤ c ∧ 0 + s ≤ s := ⟨by omega, by omega⟩
  unfold x0_number at hf
  refine j_iload_n (pc := 0) M.1 dX0_number_0 1 rfl ?_
  refine j_iconst (pc := 1) M.1 dX0_number_1 kc_iconst_4 ?_
  obtain ⟨r1, g1, hf⟩ := o_bind hf
  refine jx_calls (pc := 2) (As := [.int x1, .int 4]) (rest := []) M xcs_X0_137 (met_x0_in g1) rfl rfl rfl rfl dX0_number_2 (kn_le0 hkn) ?_
  refine j_if_eq (pc := 5) M.1 60 dX0_number_5 rfl (fun b1 => ?_) (fun b1 => ?_)
  · replace hf := o_pos b1 hf
    refine j_iconst (pc := 60) M.1 dX0_number_60 kc_iconst_m1 ?_
    exact jx_iretF (pc := 61) M dX0_number_61 hf hkn
  · replace hf := o_neg b1 hf
    refine j_iload_n (pc := 8) M.1 dX0_number_8 2 rfl ?_
    obtain ⟨r2, g2, hf⟩ := o_bind hf
    refine jx_calls (pc := 9) (As := [.int x2]) (rest := []) M xcs_X0_154 (met_x0_isWeek g2) rfl rfl rfl rfl dX0_number_9 (kn_le0 hkn) ?_
    refine j_if_eq (pc := 12) M.1 60 dX0_number_12 rfl (fun b2 => ?_) (fun b2 => ?_)
    · replace hf := o_pos b2 hf
      refine j_iconst (pc := 60) M.1 dX0_number_60 kc_iconst_m1 ?_
      exact jx_iretF (pc := 61) M dX0_number_61 hf hkn
    · replace hf := o_neg b2 hf
      refine j_iload_n (pc := 15) M.1 dX0_number_15 3 rfl ?_
      refine j_bipush (pc := 16) M.1 dX0_number_16 kc_bipush_8 ?_
      obtain ⟨r3, g3, hf⟩ := o_bind hf
      refine jx_calls (pc := 18) (As := [.int x3, .int 8]) (rest := []) M xcs_X0_137 (met_x0_in g3) rfl rfl rfl rfl dX0_number_18 (kn_le0 hkn) ?_
      refine j_if_eq (pc := 21) M.1 60 dX0_number_21 rfl (fun b3 => ?_) (fun b3 => ?_)
      · replace hf := o_pos b3 hf
        refine j_iconst (pc := 60) M.1 dX0_number_60 kc_iconst_m1 ?_
        exact jx_iretF (pc := 61) M dX0_number_61 hf hkn
      · replace hf := o_neg b3 hf
        refine j_iload (pc := 24) M.1 dX0_number_24 4 rfl ?_
        refine j_bipush (pc := 26) M.1 dX0_number_26 kc_bipush_8 ?_
        obtain ⟨r4, g4, hf⟩ := o_bind hf
        refine jx_calls (pc := 28) (As := [.int x4, .int 8]) (rest := []) M xcs_X0_137 (met_x0_in g4) rfl rfl rfl rfl dX0_number_28 (kn_le0 hkn) ?_
        refine j_if_eq (pc := 31) M.1 60 dX0_number_31 rfl (fun b4 => ?_) (fun b4 => ?_)
        · replace hf := o_pos b4 hf
          refine j_iconst (pc := 60) M.1 dX0_number_60 kc_iconst_m1 ?_
          exact jx_iretF (pc := 61) M dX0_number_61 hf hkn
        · replace hf := o_neg b4 hf
          refine j_iload (pc := 34) M.1 dX0_number_34 5 rfl ?_
          refine j_sipush (pc := 36) M.1 dX0_number_36 kc_sipush_256 ?_
          obtain ⟨r5, g5, hf⟩ := o_bind hf
          refine jx_calls (pc := 39) (As := [.int x5, .int 256]) (rest := []) M xcs_X0_137 (met_x0_in g5) rfl rfl rfl rfl dX0_number_39 (kn_le0 hkn) ?_
          refine j_if_eq (pc := 42) M.1 60 dX0_number_42 rfl (fun b5 => ?_) (fun b5 => ?_)
          · replace hf := o_pos b5 hf
            refine j_iconst (pc := 60) M.1 dX0_number_60 kc_iconst_m1 ?_
            exact jx_iretF (pc := 61) M dX0_number_61 hf hkn
          · replace hf := o_neg b5 hf
            refine j_iload (pc := 45) M.1 dX0_number_45 6 rfl ?_
            refine j_iconst (pc := 47) M.1 dX0_number_47 kc_iconst_m1 ?_
            refine j_icmp_eq (pc := 48) M.1 62 dX0_number_48 rfl (fun b6 => ?_) (fun b6 => ?_)
            · replace hf := o_pos b6 hf
              exact kx0_number_62 M x1 x2 x3 x4 x5 x6 τ hf hkn
            · replace hf := o_neg b6 hf
              refine j_aload_n (pc := 51) M.1 dX0_number_51 0 rfl ?_
              refine j_iload (pc := 52) M.1 dX0_number_52 6 rfl ?_
              obtain ⟨r6, g6, hf⟩ := o_bind hf
              obtain ⟨c1, s1, hf, hc1, hs1⟩ := o_tk hf
              replace hkn := kn_step hkn hc1 hs1
              refine jx_i M (x_runV (pc := 54) (As := [.int x6]) (rest := []) (V := xV o τ) M xcw_X0_240 (met_x0_isPlace g6) (fun H h => h.1 o _ xH_o) (by decide) rfl rfl rfl dX0_number_54 (kn_le hkn)) ?_
              refine j_if_ne (pc := 57) M.1 62 dX0_number_57 rfl (fun b7 => ?_) (fun b7 => ?_)
              · replace hf := o_neg b7 hf
                exact kx0_number_62 M x1 x2 x3 x4 x5 x6 r6.2.1 hf hkn
              · replace hf := o_pos b7 hf
                refine j_iconst (pc := 60) M.1 dX0_number_60 kc_iconst_m1 ?_
                exact jx_iretF (pc := 61) M dX0_number_61 hf hkn
end
theorem dX20_init_0 : decode cX20_init 0 = .ok (.aload_n 0, 1) := by decide +kernel
theorem dX20_init_1 : decode cX20_init 1 = .ok (.invokespecial 1, 3) := by decide +kernel
theorem dX20_init_4 : decode cX20_init 4 = .ok (.aload_n 0, 1) := by decide +kernel
theorem dX20_init_5 : decode cX20_init 5 = .ok (.iload_n 1, 1) := by decide +kernel
theorem dX20_init_6 : decode cX20_init 6 = .ok (.putfield 7, 3) := by decide +kernel
theorem dX20_init_9 : decode cX20_init 9 = .ok (.aload_n 0, 1) := by decide +kernel
theorem dX20_init_10 : decode cX20_init 10 = .ok (.iload_n 2, 1) := by decide +kernel
theorem dX20_init_11 : decode cX20_init 11 = .ok (.putfield 13, 3) := by decide +kernel
theorem dX20_init_14 : decode cX20_init 14 = .ok (.aload_n 0, 1) := by decide +kernel
theorem dX20_init_15 : decode cX20_init 15 = .ok (.iload_n 3, 1) := by decide +kernel
theorem dX20_init_16 : decode cX20_init 16 = .ok (.putfield 16, 3) := by decide +kernel
theorem dX20_init_19 : decode cX20_init 19 = .ok (.aload_n 0, 1) := by decide +kernel
theorem dX20_init_20 : decode cX20_init 20 = .ok (.iload 4, 2) := by decide +kernel
theorem dX20_init_22 : decode cX20_init 22 = .ok (.putfield 19, 3) := by decide +kernel
theorem dX20_init_25 : decode cX20_init 25 = .ok (.aload_n 0, 1) := by decide +kernel
theorem dX20_init_26 : decode cX20_init 26 = .ok (.iload 5, 2) := by decide +kernel
theorem dX20_init_28 : decode cX20_init 28 = .ok (.putfield 22, 3) := by decide +kernel
theorem dX20_init_31 : decode cX20_init 31 = .ok (.aload_n 0, 1) := by decide +kernel
theorem dX20_init_32 : decode cX20_init 32 = .ok (.iload 6, 2) := by decide +kernel
theorem dX20_init_34 : decode cX20_init 34 = .ok (.putfield 25, 3) := by decide +kernel
theorem dX20_init_37 : decode cX20_init 37 = .ok (.aload_n 0, 1) := by decide +kernel
theorem dX20_init_38 : decode cX20_init 38 = .ok (.iload 7, 2) := by decide +kernel
theorem dX20_init_40 : decode cX20_init 40 = .ok (.putfield 28, 3) := by decide +kernel
theorem dX20_init_43 : decode cX20_init 43 = .ok (.aload_n 0, 1) := by decide +kernel
theorem dX20_init_44 : decode cX20_init 44 = .ok (.iload 8, 2) := by decide +kernel
theorem dX20_init_46 : decode cX20_init 46 = .ok (.putfield 31, 3) := by decide +kernel
theorem dX20_init_49 : decode cX20_init 49 = .ok (.aload_n 0, 1) := by decide +kernel
theorem dX20_init_50 : decode cX20_init 50 = .ok (.iload 9, 2) := by decide +kernel
theorem dX20_init_52 : decode cX20_init 52 = .ok (.putfield 34, 3) := by decide +kernel
theorem dX20_init_55 : decode cX20_init 55 = .ok (.return_, 1) := by decide +kernel
section
variable {v : Int32}
noncomputable def x20_init (F : Nat) (x0 : Nat) (x1 : Int32) (x2 : Int32) (x3 : Int32) (x4 : Int32) (x5 : Int32) (x6 : Int32) (x7 : Int32) (x8 : Int32) (x9 : Int32) (τ : XS) : XR Int32 :=
  (pF τ x0 [20] 0 (.int x1)).bind (fun τ1 => (pF τ1 x0 [20] 1 (.int x2)).bind (fun τ2 => (pF τ2 x0 [20] 2 (.int x3)).bind (fun τ3 => (pF τ3 x0 [20] 3 (.int x4)).bind (fun τ4 => (pF τ4 x0 [20] 4 (.int x5)).bind (fun τ5 => (pF τ5 x0 [20] 5 (.int x6)).bind (fun τ6 => (pF τ6 x0 [20] 6 (.int x7)).bind (fun τ7 => (pF τ7 x0 [20] 7 (.int x8)).bind (fun τ8 => (pF τ8 x0 [20] 8 (.int x9)).bind (fun τ9 => some (0, τ9, 0, 0))))))))))
theorem met_x20_init {l : Launch} {G : gG} {o B F : Nat} {x0 : Nat} {x1 : Int32} {x2 : Int32} {x3 : Int32} {x4 : Int32} {x5 : Int32} {x6 : Int32} {x7 : Int32} {x8 : Int32} {x9 : Int32} {τ : XS} {r : Int32 × XS × Nat × Nat} (hf : x20_init F x0 x1 x2 x3 x4 x5 x6 x7 x8 x9 τ = some r) : MetX l G o B yX20_init cX20_init 10 none 2 [.ref x0, .int x1, .int x2, .int x3, .int x4, .int x5, .int x6, .int x7, .int x8, .int x9] τ (xQv G o B r.1 r.2.1) r.2.2.1 r.2.2.2 := by
  obtain ⟨v, τr, c, s⟩ := r
  refine metX_of (own := RX20) (mn := "<init>") (by decide) rfl rfl rfl (fun γ hγ M => ?_)
  subst hγ
  show J γ (XW G o B τ) 0 0 0 [(0, .ref x0), (1, .int x1), (2, .int x2), (3, .int x3), (4, .int x4), (5, .int x5), (6, .int x6), (7, .int x7), (8, .int x8), (9, .int x9)] []
  have hkn : 0 + c ≤ c ∧ 0 + s ≤ s := ⟨by omega, by omega⟩
  unfold x20_init at hf
  refine j_aload_n (pc := 0) M.1 dX20_init_0 0 rfl ?_
  refine j_objInit (pc := 1) M.1 q978 dX20_init_1 (M.room (by decide)) rfl ?_
  refine j_aload_n (pc := 4) M.1 dX20_init_4 0 rfl ?_
  refine j_iload_n (pc := 5) M.1 dX20_init_5 1 rfl ?_
  obtain ⟨τ1, g1, hf⟩ := o_bind hf
  refine jx_putW (pc := 6) M q979 xfw_X20_7 rfl rfl g1 dX20_init_6 ?_
  refine j_aload_n (pc := 9) M.1 dX20_init_9 0 rfl ?_
  refine j_iload_n (pc := 10) M.1 dX20_init_10 2 rfl ?_
  obtain ⟨τ2, g2, hf⟩ := o_bind hf
  refine jx_putW (pc := 11) M q981 xfw_X20_13 rfl rfl g2 dX20_init_11 ?_
  refine j_aload_n (pc := 14) M.1 dX20_init_14 0 rfl ?_
  refine j_iload_n (pc := 15) M.1 dX20_init_15 3 rfl ?_
  obtain ⟨τ3, g3, hf⟩ := o_bind hf
  refine jx_putW (pc := 16) M q983 xfw_X20_16 rfl rfl g3 dX20_init_16 ?_
  refine j_aload_n (pc := 19) M.1 dX20_init_19 0 rfl ?_
  refine j_iload (pc := 20) M.1 dX20_init_20 4 rfl ?_
  obtain ⟨τ4, g4, hf⟩ := o_bind hf
  refine jx_putW (pc := 22) M q985 xfw_X20_19 rfl rfl g4 dX20_init_22 ?_
  refine j_aload_n (pc := 25) M.1 dX20_init_25 0 rfl ?_
  refine j_iload (pc := 26) M.1 dX20_init_26 5 rfl ?_
  obtain ⟨τ5, g5, hf⟩ := o_bind hf
  refine jx_putW (pc := 28) M q987 xfw_X20_22 rfl rfl g5 dX20_init_28 ?_
  refine j_aload_n (pc := 31) M.1 dX20_init_31 0 rfl ?_
  refine j_iload (pc := 32) M.1 dX20_init_32 6 rfl ?_
  obtain ⟨τ6, g6, hf⟩ := o_bind hf
  refine jx_putW (pc := 34) M q989 xfw_X20_25 rfl rfl g6 dX20_init_34 ?_
  refine j_aload_n (pc := 37) M.1 dX20_init_37 0 rfl ?_
  refine j_iload (pc := 38) M.1 dX20_init_38 7 rfl ?_
  obtain ⟨τ7, g7, hf⟩ := o_bind hf
  refine jx_putW (pc := 40) M q991 xfw_X20_28 rfl rfl g7 dX20_init_40 ?_
  refine j_aload_n (pc := 43) M.1 dX20_init_43 0 rfl ?_
  refine j_iload (pc := 44) M.1 dX20_init_44 8 rfl ?_
  obtain ⟨τ8, g8, hf⟩ := o_bind hf
  refine jx_putW (pc := 46) M q993 xfw_X20_31 rfl rfl g8 dX20_init_46 ?_
  refine j_aload_n (pc := 49) M.1 dX20_init_49 0 rfl ?_
  refine j_iload (pc := 50) M.1 dX20_init_50 9 rfl ?_
  obtain ⟨τ9, g9, hf⟩ := o_bind hf
  refine jx_putW (pc := 52) M q996 xfw_X20_34 rfl rfl g9 dX20_init_52 ?_
  exact jx_vretF (pc := 55) M dX20_init_55 hf hkn
end
theorem dX0_find_0 : decode cX0_find 0 = .ok (.iload_n 1, 1) := by decide +kernel
theorem dX0_find_1 : decode cX0_find 1 = .ok (.bipush 8, 2) := by decide +kernel
theorem dX0_find_3 : decode cX0_find 3 = .ok (.invokestatic 137, 3) := by decide +kernel
theorem dX0_find_6 : decode cX0_find 6 = .ok (.ifCond .eq 82, 3) := by decide +kernel
theorem dX0_find_9 : decode cX0_find 9 = .ok (.aload_n 0, 1) := by decide +kernel
theorem dX0_find_10 : decode cX0_find 10 = .ok (.iload_n 2, 1) := by decide +kernel
theorem dX0_find_11 : decode cX0_find 11 = .ok (.iload_n 3, 1) := by decide +kernel
theorem dX0_find_12 : decode cX0_find 12 = .ok (.invokevirtual 190, 3) := by decide +kernel
theorem dX0_find_15 : decode cX0_find 15 = .ok (.ifCond .eq 73, 3) := by decide +kernel
theorem dX0_find_18 : decode cX0_find 18 = .ok (.iload_n 3, 1) := by decide +kernel
theorem dX0_find_19 : decode cX0_find 19 = .ok (.iload_n 2, 1) := by decide +kernel
theorem dX0_find_20 : decode cX0_find 20 = .ok (.isub, 1) := by decide +kernel
theorem dX0_find_21 : decode cX0_find 21 = .ok (.bipush 20, 2) := by decide +kernel
theorem dX0_find_23 : decode cX0_find 23 = .ok (.if_icmp .ge 65, 3) := by decide +kernel
theorem dX0_find_26 : decode cX0_find 26 = .ok (.iload 4, 2) := by decide +kernel
theorem dX0_find_28 : decode cX0_find 28 = .ok (.iconst 0, 1) := by decide +kernel
theorem dX0_find_29 : decode cX0_find 29 = .ok (.bipush 99, 2) := by decide +kernel
theorem dX0_find_31 : decode cX0_find 31 = .ok (.invokestatic 144, 3) := by decide +kernel
theorem dX0_find_34 : decode cX0_find 34 = .ok (.ifCond .eq 54, 3) := by decide +kernel
theorem dX0_find_37 : decode cX0_find 37 = .ok (.iload 5, 2) := by decide +kernel
theorem dX0_find_39 : decode cX0_find 39 = .ok (.invokestatic 187, 3) := by decide +kernel
theorem dX0_find_42 : decode cX0_find 42 = .ok (.ifCond .eq 46, 3) := by decide +kernel
theorem dX0_find_45 : decode cX0_find 45 = .ok (.iload 6, 2) := by decide +kernel
theorem dX0_find_47 : decode cX0_find 47 = .ok (.iload 5, 2) := by decide +kernel
theorem dX0_find_49 : decode cX0_find 49 = .ok (.bipush 7, 2) := by decide +kernel
theorem dX0_find_51 : decode cX0_find 51 = .ok (.invokestatic 144, 3) := by decide +kernel
theorem dX0_find_54 : decode cX0_find 54 = .ok (.ifCond .eq 34, 3) := by decide +kernel
theorem dX0_find_57 : decode cX0_find 57 = .ok (.iload 7, 2) := by decide +kernel
theorem dX0_find_59 : decode cX0_find 59 = .ok (.bipush 8, 2) := by decide +kernel
theorem dX0_find_61 : decode cX0_find 61 = .ok (.invokestatic 137, 3) := by decide +kernel
theorem dX0_find_64 : decode cX0_find 64 = .ok (.ifCond .eq 24, 3) := by decide +kernel
theorem dX0_find_67 : decode cX0_find 67 = .ok (.iload 8, 2) := by decide +kernel
theorem dX0_find_69 : decode cX0_find 69 = .ok (.sipush 256, 3) := by decide +kernel
theorem dX0_find_72 : decode cX0_find 72 = .ok (.invokestatic 137, 3) := by decide +kernel
theorem dX0_find_75 : decode cX0_find 75 = .ok (.ifCond .eq 13, 3) := by decide +kernel
theorem dX0_find_78 : decode cX0_find 78 = .ok (.aload_n 0, 1) := by decide +kernel
theorem dX0_find_79 : decode cX0_find 79 = .ok (.getfield 328, 3) := by decide +kernel
theorem dX0_find_82 : decode cX0_find 82 = .ok (.sipush 150, 3) := by decide +kernel
theorem dX0_find_85 : decode cX0_find 85 = .ok (.if_icmp .ne 5, 3) := by decide +kernel
theorem dX0_find_88 : decode cX0_find 88 = .ok (.iconst (-1), 1) := by decide +kernel
theorem dX0_find_89 : decode cX0_find 89 = .ok (.ireturn, 1) := by decide +kernel
theorem dX0_find_90 : decode cX0_find 90 = .ok (.aload_n 0, 1) := by decide +kernel
theorem dX0_find_91 : decode cX0_find 91 = .ok (.getfield 59, 3) := by decide +kernel
theorem dX0_find_94 : decode cX0_find 94 = .ok (.aload_n 0, 1) := by decide +kernel
theorem dX0_find_95 : decode cX0_find 95 = .ok (.getfield 328, 3) := by decide +kernel
theorem dX0_find_98 : decode cX0_find 98 = .ok (.new 57, 3) := by decide +kernel
theorem dX0_find_101 : decode cX0_find 101 = .ok (.dup, 1) := by decide +kernel
theorem dX0_find_102 : decode cX0_find 102 = .ok (.iload_n 1, 1) := by decide +kernel
theorem dX0_find_103 : decode cX0_find 103 = .ok (.iload_n 2, 1) := by decide +kernel
theorem dX0_find_104 : decode cX0_find 104 = .ok (.iload_n 3, 1) := by decide +kernel
theorem dX0_find_105 : decode cX0_find 105 = .ok (.iload 4, 2) := by decide +kernel
theorem dX0_find_107 : decode cX0_find 107 = .ok (.iload 5, 2) := by decide +kernel
theorem dX0_find_109 : decode cX0_find 109 = .ok (.iload 6, 2) := by decide +kernel
theorem dX0_find_111 : decode cX0_find 111 = .ok (.iload 7, 2) := by decide +kernel
theorem dX0_find_113 : decode cX0_find 113 = .ok (.iload 8, 2) := by decide +kernel
theorem dX0_find_115 : decode cX0_find 115 = .ok (.aload_n 0, 1) := by decide +kernel
theorem dX0_find_116 : decode cX0_find 116 = .ok (.getfield 158, 3) := by decide +kernel
theorem dX0_find_119 : decode cX0_find 119 = .ok (.invokespecial 331, 3) := by decide +kernel
theorem dX0_find_122 : decode cX0_find 122 = .ok (.aastore, 1) := by decide +kernel
theorem dX0_find_123 : decode cX0_find 123 = .ok (.aload_n 0, 1) := by decide +kernel
theorem dX0_find_124 : decode cX0_find 124 = .ok (.dup, 1) := by decide +kernel
theorem dX0_find_125 : decode cX0_find 125 = .ok (.getfield 328, 3) := by decide +kernel
theorem dX0_find_128 : decode cX0_find 128 = .ok (.iconst 1, 1) := by decide +kernel
theorem dX0_find_129 : decode cX0_find 129 = .ok (.iadd, 1) := by decide +kernel
theorem dX0_find_130 : decode cX0_find 130 = .ok (.putfield 328, 3) := by decide +kernel
theorem dX0_find_133 : decode cX0_find 133 = .ok (.aload_n 0, 1) := by decide +kernel
theorem dX0_find_134 : decode cX0_find 134 = .ok (.getfield 328, 3) := by decide +kernel
theorem dX0_find_137 : decode cX0_find 137 = .ok (.iconst 1, 1) := by decide +kernel
theorem dX0_find_138 : decode cX0_find 138 = .ok (.isub, 1) := by decide +kernel
theorem dX0_find_139 : decode cX0_find 139 = .ok (.ireturn, 1) := by decide +kernel
section
variable {v : Int32}
noncomputable def x0_find (F : Nat) (x1 : Int32) (x2 : Int32) (x3 : Int32) (x4 : Int32) (x5 : Int32) (x6 : Int32) (x7 : Int32) (x8 : Int32) (τ : XS) : XR Int32 :=
  (x0_in F x1 8).bind (fun r1 => if r1 = 0 then (some ((-1), τ, 0, 0)) else ((x0_isSpan F x2 x3 τ).bind (fun r2 => tk r2.2.2.1 r2.2.2.2 (if r2.1 = 0 then (some ((-1), r2.2.1, 0, 0)) else (if 20 ≤ (x3 - x2) then (some ((-1), r2.2.1, 0, 0)) else ((x0_within F x4 0 99).bind (fun r3 => if r3 = 0 then (some ((-1), r2.2.1, 0, 0)) else ((x0_isLayer F x5).bind (fun r4 => if r4 = 0 then (some ((-1), r2.2.1, 0, 0)) else ((x0_within F x6 x5 7).bind (fun r5 => if r5 = 0 then (some ((-1), r2.2.1, 0, 0)) else ((x0_in F x7 8).bind (fun r6 => if r6 = 0 then (some ((-1), r2.2.1, 0, 0)) else ((x0_in F x8 256).bind (fun r7 => if r7 = 0 then (some ((-1), r2.2.1, 0, 0)) else (if (r2.2.1.1.1 16) = 150 then (some ((-1), r2.2.1, 0, 0)) else (nx (xN r2.2.1 (.inr (20, fun q => defaultValue (tyX20 q)))) (fun τ1 => tk 1 9 ((x20_init F r2.2.1.2.2.2.2 x1 x2 x3 x4 x5 x6 x7 x8 (τ1.1.1 2) τ1).bind (fun r8 => tk r8.2.2.1 r8.2.2.2 (if isC r8.2.1 r2.2.1.2.2.2.2 [20] = true then if okI (r2.2.1.1.1 16) 150 = true then nx (xR r8.2.1 7 (r2.2.1.1.1 16).toNatClampNeg (some r2.2.1.2.2.2.2)) (fun τ2 => nx (xS τ2 16 ((τ2.1.1 16) + 1)) (fun τ3 => some ((τ3.1.1 16) - 1, τ3, 0, 0))) else none else none)))))))))))))))))))))
theorem met_x0_find {l : Launch} {G : gG} {o B F : Nat} {x1 : Int32} {x2 : Int32} {x3 : Int32} {x4 : Int32} {x5 : Int32} {x6 : Int32} {x7 : Int32} {x8 : Int32} {τ : XS} {r : Int32 × XS × Nat × Nat} (hf : x0_find F x1 x2 x3 x4 x5 x6 x7 x8 τ = some r) : MetX l G o B yX0_find cX0_find 9 (some .int) 3 [.ref o, .int x1, .int x2, .int x3, .int x4, .int x5, .int x6, .int x7, .int x8] τ (xQi G o B r.1 r.2.1) r.2.2.1 r.2.2.2 := by
  obtain ⟨v, τr, c, s⟩ := r
  refine metX_of (own := RX0) (mn := "find") (by decide) rfl rfl rfl (fun γ hγ M => ?_)
  subst hγ
  show J γ (XW G o B τ) 0 0 0 [(0, .ref o), (1, .int x1), (2, .int x2), (3, .int x3), (4, .int x4), (5, .int x5), (6, .int x6), (7, .int x7), (8, .int x8)] []
  have hkn : 0 + c ≤ c ∧ 0 + s ≤ s := ⟨by omega, by omega⟩
  unfold x0_find at hf
  refine j_iload_n (pc := 0) M.1 dX0_find_0 1 rfl ?_
  refine j_bipush (pc := 1) M.1 dX0_find_1 kc_bipush_8 ?_
  obtain ⟨r1, g1, hf⟩ := o_bind hf
  refine jx_calls (pc := 3) (As := [.int x1, .int 8]) (rest := []) M xcs_X0_137 (met_x0_in g1) rfl rfl rfl rfl dX0_find_3 (kn_le0 hkn) ?_
  refine j_if_eq (pc := 6) M.1 88 dX0_find_6 rfl (fun b1 => ?_) (fun b1 => ?_)
  · replace hf := o_pos b1 hf
    refine j_iconst (pc := 88) M.1 dX0_find_88 kc_iconst_m1 ?_
    exact jx_iretF (pc := 89) M dX0_find_89 hf hkn
  · replace hf := o_neg b1 hf
    refine j_aload_n (pc := 9) M.1 dX0_find_9 0 rfl ?_
    refine j_iload_n (pc := 10) M.1 dX0_find_10 2 rfl ?_
    refine j_iload_n (pc := 11) M.1 dX0_find_11 3 rfl ?_
    obtain ⟨r2, g2, hf⟩ := o_bind hf
    obtain ⟨c1, s1, hf, hc1, hs1⟩ := o_tk hf
    replace hkn := kn_step hkn hc1 hs1
    refine jx_i M (x_runV (pc := 12) (As := [.int x2, .int x3]) (rest := []) (V := xV o τ) M xcw_X0_190 (met_x0_isSpan g2) (fun H h => h.1 o _ xH_o) (by decide) rfl rfl rfl dX0_find_12 (kn_le hkn)) ?_
    refine j_if_eq (pc := 15) M.1 88 dX0_find_15 rfl (fun b2 => ?_) (fun b2 => ?_)
    · replace hf := o_pos b2 hf
      refine j_iconst (pc := 88) M.1 dX0_find_88 kc_iconst_m1 ?_
      exact jx_iretF (pc := 89) M dX0_find_89 hf hkn
    · replace hf := o_neg b2 hf
      refine j_iload_n (pc := 18) M.1 dX0_find_18 3 rfl ?_
      refine j_iload_n (pc := 19) M.1 dX0_find_19 2 rfl ?_
      refine j_isub (pc := 20) M.1 dX0_find_20 ?_
      refine j_bipush (pc := 21) M.1 dX0_find_21 kc_bipush_20 ?_
      refine j_icmp_ge (pc := 23) M.1 88 dX0_find_23 rfl (fun b3 => ?_) (fun b3 => ?_)
      · replace hf := o_pos b3 hf
        refine j_iconst (pc := 88) M.1 dX0_find_88 kc_iconst_m1 ?_
        exact jx_iretF (pc := 89) M dX0_find_89 hf hkn
      · replace hf := o_neg b3 hf
        refine j_iload (pc := 26) M.1 dX0_find_26 4 rfl ?_
        refine j_iconst (pc := 28) M.1 dX0_find_28 kc_iconst_0 ?_
        refine j_bipush (pc := 29) M.1 dX0_find_29 kc_bipush_99 ?_
        obtain ⟨r3, g3, hf⟩ := o_bind hf
        refine jx_calls (pc := 31) (As := [.int x4, .int 0, .int 99]) (rest := []) M xcs_X0_144 (met_x0_within g3) rfl rfl rfl rfl dX0_find_31 (kn_le0 hkn) ?_
        refine j_if_eq (pc := 34) M.1 88 dX0_find_34 rfl (fun b4 => ?_) (fun b4 => ?_)
        · replace hf := o_pos b4 hf
          refine j_iconst (pc := 88) M.1 dX0_find_88 kc_iconst_m1 ?_
          exact jx_iretF (pc := 89) M dX0_find_89 hf hkn
        · replace hf := o_neg b4 hf
          refine j_iload (pc := 37) M.1 dX0_find_37 5 rfl ?_
          obtain ⟨r4, g4, hf⟩ := o_bind hf
          refine jx_calls (pc := 39) (As := [.int x5]) (rest := []) M xcs_X0_187 (met_x0_isLayer g4) rfl rfl rfl rfl dX0_find_39 (kn_le0 hkn) ?_
          refine j_if_eq (pc := 42) M.1 88 dX0_find_42 rfl (fun b5 => ?_) (fun b5 => ?_)
          · replace hf := o_pos b5 hf
            refine j_iconst (pc := 88) M.1 dX0_find_88 kc_iconst_m1 ?_
            exact jx_iretF (pc := 89) M dX0_find_89 hf hkn
          · replace hf := o_neg b5 hf
            refine j_iload (pc := 45) M.1 dX0_find_45 6 rfl ?_
            refine j_iload (pc := 47) M.1 dX0_find_47 5 rfl ?_
            refine j_bipush (pc := 49) M.1 dX0_find_49 kc_bipush_7 ?_
            obtain ⟨r5, g5, hf⟩ := o_bind hf
            refine jx_calls (pc := 51) (As := [.int x6, .int x5, .int 7]) (rest := []) M xcs_X0_144 (met_x0_within g5) rfl rfl rfl rfl dX0_find_51 (kn_le0 hkn) ?_
            refine j_if_eq (pc := 54) M.1 88 dX0_find_54 rfl (fun b6 => ?_) (fun b6 => ?_)
            · replace hf := o_pos b6 hf
              refine j_iconst (pc := 88) M.1 dX0_find_88 kc_iconst_m1 ?_
              exact jx_iretF (pc := 89) M dX0_find_89 hf hkn
            · replace hf := o_neg b6 hf
              refine j_iload (pc := 57) M.1 dX0_find_57 7 rfl ?_
              refine j_bipush (pc := 59) M.1 dX0_find_59 kc_bipush_8 ?_
              obtain ⟨r6, g6, hf⟩ := o_bind hf
              refine jx_calls (pc := 61) (As := [.int x7, .int 8]) (rest := []) M xcs_X0_137 (met_x0_in g6) rfl rfl rfl rfl dX0_find_61 (kn_le0 hkn) ?_
              refine j_if_eq (pc := 64) M.1 88 dX0_find_64 rfl (fun b7 => ?_) (fun b7 => ?_)
              · replace hf := o_pos b7 hf
                refine j_iconst (pc := 88) M.1 dX0_find_88 kc_iconst_m1 ?_
                exact jx_iretF (pc := 89) M dX0_find_89 hf hkn
              · replace hf := o_neg b7 hf
                refine j_iload (pc := 67) M.1 dX0_find_67 8 rfl ?_
                refine j_sipush (pc := 69) M.1 dX0_find_69 kc_sipush_256 ?_
                obtain ⟨r7, g7, hf⟩ := o_bind hf
                refine jx_calls (pc := 72) (As := [.int x8, .int 256]) (rest := []) M xcs_X0_137 (met_x0_in g7) rfl rfl rfl rfl dX0_find_72 (kn_le0 hkn) ?_
                refine j_if_eq (pc := 75) M.1 88 dX0_find_75 rfl (fun b8 => ?_) (fun b8 => ?_)
                · replace hf := o_pos b8 hf
                  refine j_iconst (pc := 88) M.1 dX0_find_88 kc_iconst_m1 ?_
                  exact jx_iretF (pc := 89) M dX0_find_89 hf hkn
                · replace hf := o_neg b8 hf
                  refine j_aload_n (pc := 78) M.1 dX0_find_78 0 rfl ?_
                  refine jx_getS (pc := 79) M xfs_328 dX0_find_79 ?_
                  refine j_sipush (pc := 82) M.1 dX0_find_82 kc_sipush_150 ?_
                  refine j_icmp_ne (pc := 85) M.1 90 dX0_find_85 rfl (fun b9 => ?_) (fun b9 => ?_)
                  · replace hf := o_neg b9 hf
                    refine j_aload_n (pc := 90) M.1 dX0_find_90 0 rfl ?_
                    refine jx_getA (pc := 91) M xfa_59 dX0_find_91 ?_
                    refine j_aload_n (pc := 94) M.1 dX0_find_94 0 rfl ?_
                    refine jx_getS (pc := 95) M xfs_328 dX0_find_95 ?_
                    obtain ⟨τ1, e1, hf⟩ := o_nx hf
                    obtain ⟨c2, s2, hf, hc2, hs2⟩ := o_tk hf
                    replace hkn := kn_step hkn hc2 hs2
                    refine jx_new (pc := 98) M xnew_X0_57 dX0_find_98 (kn_le hkn) e1 ?_
                    refine j_dup (pc := 101) M.1 dX0_find_101 rfl ?_
                    refine j_iload_n (pc := 102) M.1 dX0_find_102 1 rfl ?_
                    refine j_iload_n (pc := 103) M.1 dX0_find_103 2 rfl ?_
                    refine j_iload_n (pc := 104) M.1 dX0_find_104 3 rfl ?_
                    refine j_iload (pc := 105) M.1 dX0_find_105 4 rfl ?_
                    refine j_iload (pc := 107) M.1 dX0_find_107 5 rfl ?_
                    refine j_iload (pc := 109) M.1 dX0_find_109 6 rfl ?_
                    refine j_iload (pc := 111) M.1 dX0_find_111 7 rfl ?_
                    refine j_iload (pc := 113) M.1 dX0_find_113 8 rfl ?_
                    refine j_aload_n (pc := 115) M.1 dX0_find_115 0 rfl ?_
                    refine jx_getS (pc := 116) M xfs_158 dX0_find_116 ?_
                    obtain ⟨r8, g8, hf⟩ := o_bind hf
                    obtain ⟨c3, s3, hf, hc3, hs3⟩ := o_tk hf
                    replace hkn := kn_step hkn hc3 hs3
                    refine jx_v (r := r8.1) M (x_runI (pc := 119) (As := [.int x1, .int x2, .int x3, .int x4, .int x5, .int x6, .int x7, .int x8, .int (τ1.1.1 2)]) (rest := [.ref r2.2.1.2.2.2.2, .int (r2.2.1.1.1 16), .ref (o + 1 + 7)]) M xci_X0_331 (met_x20_init g8) (by decide) rfl rfl rfl dX0_find_119 (kn_le hkn)) ?_
                    obtain ⟨b10, hf⟩ := o_need hf
                    obtain ⟨b11, hf⟩ := o_need hf
                    obtain ⟨τ2, e2, hf⟩ := o_nx hf
                    refine jx_aast (pc := 122) M xax_7 (by decide) (by decide) xel_7 b10 b11 dX0_find_122 e2 ?_
                    refine j_aload_n (pc := 123) M.1 dX0_find_123 0 rfl ?_
                    refine j_dup (pc := 124) M.1 dX0_find_124 rfl ?_
                    refine jx_getS (pc := 125) M xfs_328 dX0_find_125 ?_
                    refine j_iconst (pc := 128) M.1 dX0_find_128 kc_iconst_1 ?_
                    refine j_iadd (pc := 129) M.1 dX0_find_129 ?_
                    obtain ⟨τ3, e3, hf⟩ := o_nx hf
                    refine jx_putS (pc := 130) M xfs_328 dX0_find_130 e3 ?_
                    refine j_aload_n (pc := 133) M.1 dX0_find_133 0 rfl ?_
                    refine jx_getS (pc := 134) M xfs_328 dX0_find_134 ?_
                    refine j_iconst (pc := 137) M.1 dX0_find_137 kc_iconst_1 ?_
                    refine j_isub (pc := 138) M.1 dX0_find_138 ?_
                    exact jx_iretF (pc := 139) M dX0_find_139 hf hkn
                  · replace hf := o_pos b9 hf
                    refine j_iconst (pc := 88) M.1 dX0_find_88 kc_iconst_m1 ?_
                    exact jx_iretF (pc := 89) M dX0_find_89 hf hkn
end
theorem dX0_isMeant_0 : decode cX0_isMeant 0 = .ok (.aload_n 1, 1) := by decide +kernel
theorem dX0_isMeant_1 : decode cX0_isMeant 1 = .ok (.getfield 351, 3) := by decide +kernel
theorem dX0_isMeant_4 : decode cX0_isMeant 4 = .ok (.ifCond .ne 5, 3) := by decide +kernel
theorem dX0_isMeant_7 : decode cX0_isMeant 7 = .ok (.iconst 1, 1) := by decide +kernel
theorem dX0_isMeant_8 : decode cX0_isMeant 8 = .ok (.ireturn, 1) := by decide +kernel
theorem dX0_isMeant_9 : decode cX0_isMeant 9 = .ok (.aload_n 0, 1) := by decide +kernel
theorem dX0_isMeant_10 : decode cX0_isMeant 10 = .ok (.new 305, 3) := by decide +kernel
theorem dX0_isMeant_13 : decode cX0_isMeant 13 = .ok (.dup, 1) := by decide +kernel
theorem dX0_isMeant_14 : decode cX0_isMeant 14 = .ok (.iload_n 3, 1) := by decide +kernel
theorem dX0_isMeant_15 : decode cX0_isMeant 15 = .ok (.iload 4, 2) := by decide +kernel
theorem dX0_isMeant_17 : decode cX0_isMeant 17 = .ok (.aload_n 1, 1) := by decide +kernel
theorem dX0_isMeant_18 : decode cX0_isMeant 18 = .ok (.getfield 352, 3) := by decide +kernel
theorem dX0_isMeant_21 : decode cX0_isMeant 21 = .ok (.aload_n 1, 1) := by decide +kernel
theorem dX0_isMeant_22 : decode cX0_isMeant 22 = .ok (.getfield 353, 3) := by decide +kernel
theorem dX0_isMeant_25 : decode cX0_isMeant 25 = .ok (.aload_n 2, 1) := by decide +kernel
theorem dX0_isMeant_26 : decode cX0_isMeant 26 = .ok (.getfield 316, 3) := by decide +kernel
theorem dX0_isMeant_29 : decode cX0_isMeant 29 = .ok (.invokespecial 319, 3) := by decide +kernel
theorem dX0_isMeant_32 : decode cX0_isMeant 32 = .ok (.invokevirtual 324, 3) := by decide +kernel
theorem dX0_isMeant_35 : decode cX0_isMeant 35 = .ok (.istore 5, 2) := by decide +kernel
theorem dX0_isMeant_37 : decode cX0_isMeant 37 = .ok (.iconst 0, 1) := by decide +kernel
theorem dX0_isMeant_38 : decode cX0_isMeant 38 = .ok (.istore 6, 2) := by decide +kernel
theorem dX0_isMeant_40 : decode cX0_isMeant 40 = .ok (.iload 6, 2) := by decide +kernel
theorem dX0_isMeant_42 : decode cX0_isMeant 42 = .ok (.iconst 4, 1) := by decide +kernel
theorem dX0_isMeant_43 : decode cX0_isMeant 43 = .ok (.if_icmp .ge 40, 3) := by decide +kernel
theorem dX0_isMeant_46 : decode cX0_isMeant 46 = .ok (.iload 5, 2) := by decide +kernel
theorem dX0_isMeant_48 : decode cX0_isMeant 48 = .ok (.iload 6, 2) := by decide +kernel
theorem dX0_isMeant_50 : decode cX0_isMeant 50 = .ok (.ishr, 1) := by decide +kernel
theorem dX0_isMeant_51 : decode cX0_isMeant 51 = .ok (.iconst 1, 1) := by decide +kernel
theorem dX0_isMeant_52 : decode cX0_isMeant 52 = .ok (.iand, 1) := by decide +kernel
theorem dX0_isMeant_53 : decode cX0_isMeant 53 = .ok (.iconst 1, 1) := by decide +kernel
theorem dX0_isMeant_54 : decode cX0_isMeant 54 = .ok (.if_icmp .ne 23, 3) := by decide +kernel
theorem dX0_isMeant_57 : decode cX0_isMeant 57 = .ok (.aload_n 0, 1) := by decide +kernel
theorem dX0_isMeant_58 : decode cX0_isMeant 58 = .ok (.iload 6, 2) := by decide +kernel
theorem dX0_isMeant_60 : decode cX0_isMeant 60 = .ok (.aload_n 1, 1) := by decide +kernel
theorem dX0_isMeant_61 : decode cX0_isMeant 61 = .ok (.getfield 351, 3) := by decide +kernel
theorem dX0_isMeant_64 : decode cX0_isMeant 64 = .ok (.iload_n 3, 1) := by decide +kernel
theorem dX0_isMeant_65 : decode cX0_isMeant 65 = .ok (.invokevirtual 260, 3) := by decide +kernel
theorem dX0_isMeant_68 : decode cX0_isMeant 68 = .ok (.aload_n 2, 1) := by decide +kernel
theorem dX0_isMeant_69 : decode cX0_isMeant 69 = .ok (.getfield 356, 3) := by decide +kernel
theorem dX0_isMeant_72 : decode cX0_isMeant 72 = .ok (.if_icmp .ne 5, 3) := by decide +kernel
theorem dX0_isMeant_75 : decode cX0_isMeant 75 = .ok (.iconst 1, 1) := by decide +kernel
theorem dX0_isMeant_76 : decode cX0_isMeant 76 = .ok (.ireturn, 1) := by decide +kernel
theorem dX0_isMeant_77 : decode cX0_isMeant 77 = .ok (.iinc 6 1, 3) := by decide +kernel
theorem dX0_isMeant_80 : decode cX0_isMeant 80 = .ok (.goto (-40), 3) := by decide +kernel
theorem dX0_isMeant_83 : decode cX0_isMeant 83 = .ok (.iconst 0, 1) := by decide +kernel
theorem dX0_isMeant_84 : decode cX0_isMeant 84 = .ok (.ireturn, 1) := by decide +kernel
section
variable {v : Int32}
noncomputable def x0_isMeant_B40 (F : Nat) (x1 : Nat) (x2 : Nat) (x3 : Int32) (x5 : Int32) (R : Int32 × XS → XR Int32) (a : Int32 × XS) : XR Int32 :=
  if 4 ≤ a.1 then (some (0, a.2, 0, 0)) else (if ((x5 >>> (a.1 &&& 31)) &&& 1) = 1 then ((gI a.2 x1 [20] 3).bind (fun v1 => (x0_meaningOf F a.1 v1 x3 a.2).bind (fun r1 => tk r1.2.2.1 r1.2.2.2 ((gI r1.2.1 x2 [3] 0).bind (fun v2 => if r1.1 = v2 then (some (1, r1.2.1, 0, 0)) else (R (a.1 + 1, r1.2.1))))))) else (R (a.1 + 1, a.2)))
theorem kx0_isMeant_B40 (M : XC γ cX0_isMeant 7 RX0 "isMeant" G o B 46 (some .boolean) (xQi G o B v τr) c0 s0) (x1 : Nat) (x2 : Nat) (x3 : Int32) (x5 : Int32) : ∀ R : Int32 × XS → XR Int32, (∀ a c s, R a = some (v, τr, c, s) → ∀ k n, k + c ≤ c0 ∧ n + s ≤ s0 → J γ (XW G o B a.2) k n 40 [(0, .ref o), (1, .ref x1), (2, .ref x2), (3, .int x3), (5, .int x5), (6, .int a.1)] []) → ∀ a c s, x0_isMeant_B40 F x1 x2 x3 x5 R a = some (v, τr, c, s) → ∀ k n, k + c ≤ c0 ∧ n + s ≤ s0 → J γ (XW G o B a.2) k n 40 [(0, .ref o), (1, .ref x1), (2, .ref x2), (3, .int x3), (5, .int x5), (6, .int a.1)] [] := by
  intro R hR a c s hf k n hkn
  unfold x0_isMeant_B40 at hf
  refine j_iload (pc := 40) M.1 dX0_isMeant_40 5 rfl ?_
  refine j_iconst (pc := 42) M.1 dX0_isMeant_42 kc_iconst_4 ?_
  refine j_icmp_ge (pc := 43) M.1 83 dX0_isMeant_43 rfl (fun b1 => ?_) (fun b1 => ?_)
  · replace hf := o_pos b1 hf
    refine j_iconst (pc := 83) M.1 dX0_isMeant_83 kc_iconst_0 ?_
    exact jx_zretF (pc := 84) M dX0_isMeant_84 rfl hf hkn
  · replace hf := o_neg b1 hf
    refine j_iload (pc := 46) M.1 dX0_isMeant_46 4 rfl ?_
    refine j_iload (pc := 48) M.1 dX0_isMeant_48 5 rfl ?_
    refine j_ishr (pc := 50) M.1 dX0_isMeant_50 ?_
    refine j_iconst (pc := 51) M.1 dX0_isMeant_51 kc_iconst_1 ?_
    refine j_iand (pc := 52) M.1 dX0_isMeant_52 ?_
    refine j_iconst (pc := 53) M.1 dX0_isMeant_53 kc_iconst_1 ?_
    refine j_icmp_ne (pc := 54) M.1 77 dX0_isMeant_54 rfl (fun b2 => ?_) (fun b2 => ?_)
    · replace hf := o_neg b2 hf
      refine j_iinc (pc := 77) M.1 [(6, .int (a.1 + 1)), (0, .ref o), (1, .ref x1), (2, .ref x2), (3, .int x3), (5, .int x5)] dX0_isMeant_77 5 rfl (congrArg _ kc_iconst_1) rfl rfl ?_
      refine j_goto (pc := 80) M.1 40 dX0_isMeant_80 rfl ?_
      refine j_sub [1, 2, 3, 4, 5, 0] (show lv_pick _ _ = [(0, .ref o), (1, .ref x1), (2, .ref x2), (3, .int x3), (5, .int x5), (6, .int (a.1 + 1))] from rfl) ?_
      have hy := hR _ _ _ hf _ _ hkn
      exact hy
    · replace hf := o_pos b2 hf
      refine j_aload_n (pc := 57) M.1 dX0_isMeant_57 0 rfl ?_
      refine j_iload (pc := 58) M.1 dX0_isMeant_58 5 rfl ?_
      refine j_aload_n (pc := 60) M.1 dX0_isMeant_60 1 rfl ?_
      obtain ⟨v1, g1, hf⟩ := o_bind hf
      refine jx_getI (pc := 61) M xfl_X0_351 g1 dX0_isMeant_61 ?_
      refine j_iload_n (pc := 64) M.1 dX0_isMeant_64 3 rfl ?_
      obtain ⟨r1, g2, hf⟩ := o_bind hf
      obtain ⟨c1, s1, hf, hc1, hs1⟩ := o_tk hf
      replace hkn := kn_step hkn hc1 hs1
      refine jx_i M (x_runV (pc := 65) (As := [.int a.1, .int v1, .int x3]) (rest := []) (V := xV o a.2) M xcw_X0_260 (met_x0_meaningOf g2) (fun H h => h.1 o _ xH_o) (by decide) rfl rfl rfl dX0_isMeant_65 (kn_le hkn)) ?_
      refine j_aload_n (pc := 68) M.1 dX0_isMeant_68 2 rfl ?_
      obtain ⟨v2, g3, hf⟩ := o_bind hf
      refine jx_getI (pc := 69) M xfl_X0_356 g3 dX0_isMeant_69 ?_
      refine j_icmp_ne (pc := 72) M.1 77 dX0_isMeant_72 rfl (fun b3 => ?_) (fun b3 => ?_)
      · replace hf := o_neg b3 hf
        refine j_iinc (pc := 77) M.1 [(6, .int (a.1 + 1)), (0, .ref o), (1, .ref x1), (2, .ref x2), (3, .int x3), (5, .int x5)] dX0_isMeant_77 5 rfl (congrArg _ kc_iconst_1) rfl rfl ?_
        refine j_goto (pc := 80) M.1 40 dX0_isMeant_80 rfl ?_
        refine j_sub [1, 2, 3, 4, 5, 0] (show lv_pick _ _ = [(0, .ref o), (1, .ref x1), (2, .ref x2), (3, .int x3), (5, .int x5), (6, .int (a.1 + 1))] from rfl) ?_
        have hy := hR _ _ _ hf _ _ hkn
        exact hy
      · replace hf := o_pos b3 hf
        refine j_iconst (pc := 75) M.1 dX0_isMeant_75 kc_iconst_1 ?_
        exact jx_zretF (pc := 76) M dX0_isMeant_76 rfl hf hkn
noncomputable def x0_isMeant (F : Nat) (x1 : Nat) (x2 : Nat) (x3 : Int32) (x4 : Int32) (τ : XS) : XR Int32 :=
  (gI τ x1 [20] 3).bind (fun v1 => if v1 = 0 then (some (1, τ, 0, 0)) else (nx (xN τ (.inr (19, fun q => defaultValue (tyX19 q)))) (fun τ1 => tk 1 6 ((gI τ1 x1 [20] 6).bind (fun v2 => (gI τ1 x1 [20] 7).bind (fun v3 => (gI τ1 x2 [3] 1).bind (fun v4 => (x19_init F τ.2.2.2.2 x3 x4 v2 v3 v4 τ1).bind (fun r1 => tk r1.2.2.1 r1.2.2.2 ((x0_numberings F τ.2.2.2.2 r1.2.1).bind (fun r2 => tk r2.2.2.1 r2.2.2.2 (lp (x0_isMeant_B40 F x1 x2 x3 r2.1) F (0, r2.2.1))))))))))))
theorem met_x0_isMeant {l : Launch} {G : gG} {o B F : Nat} {x1 : Nat} {x2 : Nat} {x3 : Int32} {x4 : Int32} {τ : XS} {r : Int32 × XS × Nat × Nat} (hf : x0_isMeant F x1 x2 x3 x4 τ = some r) : MetX l G o B yX0_isMeant cX0_isMeant 7 (some .boolean) 46 [.ref o, .ref x1, .ref x2, .int x3, .int x4] τ (xQi G o B r.1 r.2.1) r.2.2.1 r.2.2.2 := by
  obtain ⟨v, τr, c, s⟩ := r
  refine metX_of (own := RX0) (mn := "isMeant") (by decide) rfl rfl rfl (fun γ hγ M => ?_)
  subst hγ
  show J γ (XW G o B τ) 0 0 0 [(0, .ref o), (1, .ref x1), (2, .ref x2), (3, .int x3), (4, .int x4)] []
  have hkn : 0 + c ≤ c ∧ 0 + s ≤ s := ⟨by omega, by omega⟩
  unfold x0_isMeant at hf
  refine j_aload_n (pc := 0) M.1 dX0_isMeant_0 1 rfl ?_
  obtain ⟨v1, g1, hf⟩ := o_bind hf
  refine jx_getI (pc := 1) M xfl_X0_351 g1 dX0_isMeant_1 ?_
  refine j_if_ne (pc := 4) M.1 9 dX0_isMeant_4 rfl (fun b1 => ?_) (fun b1 => ?_)
  · replace hf := o_neg b1 hf
    refine j_aload_n (pc := 9) M.1 dX0_isMeant_9 0 rfl ?_
    obtain ⟨τ1, e1, hf⟩ := o_nx hf
    obtain ⟨c1, s1, hf, hc1, hs1⟩ := o_tk hf
    replace hkn := kn_step hkn hc1 hs1
    refine jx_new (pc := 10) M xnew_X0_305 dX0_isMeant_10 (kn_le hkn) e1 ?_
    refine j_dup (pc := 13) M.1 dX0_isMeant_13 rfl ?_
    refine j_iload_n (pc := 14) M.1 dX0_isMeant_14 3 rfl ?_
    refine j_iload (pc := 15) M.1 dX0_isMeant_15 4 rfl ?_
    refine j_aload_n (pc := 17) M.1 dX0_isMeant_17 1 rfl ?_
    obtain ⟨v2, g2, hf⟩ := o_bind hf
    refine jx_getI (pc := 18) M xfl_X0_352 g2 dX0_isMeant_18 ?_
    refine j_aload_n (pc := 21) M.1 dX0_isMeant_21 1 rfl ?_
    obtain ⟨v3, g3, hf⟩ := o_bind hf
    refine jx_getI (pc := 22) M xfl_X0_353 g3 dX0_isMeant_22 ?_
    refine j_aload_n (pc := 25) M.1 dX0_isMeant_25 2 rfl ?_
    obtain ⟨v4, g4, hf⟩ := o_bind hf
    refine jx_getI (pc := 26) M xfl_X0_316 g4 dX0_isMeant_26 ?_
    obtain ⟨r1, g5, hf⟩ := o_bind hf
    obtain ⟨c2, s2, hf, hc2, hs2⟩ := o_tk hf
    replace hkn := kn_step hkn hc2 hs2
    refine jx_v (r := r1.1) M (x_runI (pc := 29) (As := [.int x3, .int x4, .int v2, .int v3, .int v4]) (rest := [.ref τ.2.2.2.2, .ref o]) M xci_X0_319 (met_x19_init g5) (by decide) rfl rfl rfl dX0_isMeant_29 (kn_le hkn)) ?_
    obtain ⟨r2, g6, hf⟩ := o_bind hf
    obtain ⟨c3, s3, hf, hc3, hs3⟩ := o_tk hf
    replace hkn := kn_step hkn hc3 hs3
    refine jx_i M (x_runV (pc := 32) (As := [.ref τ.2.2.2.2]) (rest := []) (V := xV o r1.2.1) M xcw_X0_324 (met_x0_numberings g6) (fun H h => h.1 o _ xH_o) (by decide) rfl rfl rfl dX0_isMeant_32 (kn_le hkn)) ?_
    refine j_istore (pc := 35) M.1 [(5, .int r2.1), (0, .ref o), (1, .ref x1), (2, .ref x2), (3, .int x3), (4, .int x4)] dX0_isMeant_35 rfl rfl ?_
    refine j_iconst (pc := 37) M.1 dX0_isMeant_37 kc_iconst_0 ?_
    refine j_istore (pc := 38) M.1 [(6, .int 0), (5, .int r2.1), (0, .ref o), (1, .ref x1), (2, .ref x2), (3, .int x3), (4, .int x4)] dX0_isMeant_38 rfl rfl ?_
    refine j_sub [2, 3, 4, 5, 1, 0] (show lv_pick _ _ = [(0, .ref o), (1, .ref x1), (2, .ref x2), (3, .int x3), (5, .int r2.1), (6, .int 0)] from rfl) ?_
    refine lp_Wc (kx0_isMeant_B40 M x1 x2 x3 r2.1) F (0, r2.2.1) _ _ hf _ _ hkn
  · replace hf := o_pos b1 hf
    refine j_iconst (pc := 7) M.1 dX0_isMeant_7 kc_iconst_1 ?_
    exact jx_zretF (pc := 8) M dX0_isMeant_8 rfl hf hkn
end
theorem dX4_finds_0 : decode cX4_finds 0 = .ok (.iconst 1, 1) := by decide +kernel
theorem dX4_finds_1 : decode cX4_finds 1 = .ok (.ireturn, 1) := by decide +kernel
section
variable {v : Int32}
noncomputable def x4_finds (F : Nat) (x0 : Nat) (τ : XS) : XR Int32 :=
  some (1, τ, 0, 0)
theorem met_x4_finds {l : Launch} {G : gG} {o B F : Nat} {x0 : Nat} {τ : XS} {r : Int32 × XS × Nat × Nat} (hf : x4_finds F x0 τ = some r) : MetX l G o B yX4_finds cX4_finds 1 (some .boolean) 1 [.ref x0] τ (xQi G o B r.1 r.2.1) r.2.2.1 r.2.2.2 := by
  obtain ⟨v, τr, c, s⟩ := r
  refine metX_of (own := RX4) (mn := "finds") (by decide) rfl rfl rfl (fun γ hγ M => ?_)
  subst hγ
  show J γ (XW G o B τ) 0 0 0 [(0, .ref x0)] []
  have hkn : 0 + c ≤ c ∧ 0 + s ≤ s := ⟨by omega, by omega⟩
  unfold x4_finds at hf
  refine j_iconst (pc := 0) M.1 dX4_finds_0 kc_iconst_1 ?_
  exact jx_zretF (pc := 1) M dX4_finds_1 rfl hf hkn
end
theorem dX7_finds_0 : decode cX7_finds 0 = .ok (.iconst 0, 1) := by decide +kernel
theorem dX7_finds_1 : decode cX7_finds 1 = .ok (.ireturn, 1) := by decide +kernel
section
variable {v : Int32}
noncomputable def x7_finds (F : Nat) (x0 : Nat) (τ : XS) : XR Int32 :=
  some (0, τ, 0, 0)
theorem met_x7_finds {l : Launch} {G : gG} {o B F : Nat} {x0 : Nat} {τ : XS} {r : Int32 × XS × Nat × Nat} (hf : x7_finds F x0 τ = some r) : MetX l G o B yX7_finds cX7_finds 1 (some .boolean) 1 [.ref x0] τ (xQi G o B r.1 r.2.1) r.2.2.1 r.2.2.2 := by
  obtain ⟨v, τr, c, s⟩ := r
  refine metX_of (own := RX7) (mn := "finds") (by decide) rfl rfl rfl (fun γ hγ M => ?_)
  subst hγ
  show J γ (XW G o B τ) 0 0 0 [(0, .ref x0)] []
  have hkn : 0 + c ≤ c ∧ 0 + s ≤ s := ⟨by omega, by omega⟩
  unfold x7_finds at hf
  refine j_iconst (pc := 0) M.1 dX7_finds_0 kc_iconst_0 ?_
  exact jx_zretF (pc := 1) M dX7_finds_1 rfl hf hkn
end
noncomputable def xd_finds (F x0 : Nat) (τ : XS) : XR Int32 :=
  if isC τ x0 [5, 6] = true then x4_finds F x0 τ else if isC τ x0 [7] = true then x7_finds F x0 τ else none
theorem metd_finds {l : Launch} {G : gG} {o B F : Nat} {x0 : Nat} {τ : XS} {r : Int32 × XS × Nat × Nat} (hf : xd_finds F x0 τ = some r) : MetV l G o B 1 (some .boolean) al_finds x0 [] τ r := by
  unfold xd_finds at hf
  by_cases b0 : isC τ x0 [5, 6] = true
  · exact ⟨0, _, rfl, b0, met_x4_finds (o_pos b0 hf)⟩
  replace hf := o_neg b0 hf
  by_cases b1 : isC τ x0 [7] = true
  · exact ⟨1, _, rfl, b1, met_x7_finds (o_pos b1 hf)⟩
  replace hf := o_neg b1 hf
  cases hf
theorem dX0_isOpen_0 : decode cX0_isOpen 0 = .ok (.iconst 0, 1) := by decide +kernel
theorem dX0_isOpen_1 : decode cX0_isOpen 1 = .ok (.istore 5, 2) := by decide +kernel
theorem dX0_isOpen_3 : decode cX0_isOpen 3 = .ok (.iload 5, 2) := by decide +kernel
theorem dX0_isOpen_5 : decode cX0_isOpen 5 = .ok (.aload_n 0, 1) := by decide +kernel
theorem dX0_isOpen_6 : decode cX0_isOpen 6 = .ok (.getfield 148, 3) := by decide +kernel
theorem dX0_isOpen_9 : decode cX0_isOpen 9 = .ok (.if_icmp .ge 106, 3) := by decide +kernel
theorem dX0_isOpen_12 : decode cX0_isOpen 12 = .ok (.aload_n 0, 1) := by decide +kernel
theorem dX0_isOpen_13 : decode cX0_isOpen 13 = .ok (.getfield 30, 3) := by decide +kernel
theorem dX0_isOpen_16 : decode cX0_isOpen 16 = .ok (.iload 5, 2) := by decide +kernel
theorem dX0_isOpen_18 : decode cX0_isOpen 18 = .ok (.aaload, 1) := by decide +kernel
theorem dX0_isOpen_19 : decode cX0_isOpen 19 = .ok (.astore 6, 2) := by decide +kernel
theorem dX0_isOpen_21 : decode cX0_isOpen 21 = .ok (.aload 6, 2) := by decide +kernel
theorem dX0_isOpen_23 : decode cX0_isOpen 23 = .ok (.invokevirtual 334, 3) := by decide +kernel
theorem dX0_isOpen_26 : decode cX0_isOpen 26 = .ok (.ifCond .eq 83, 3) := by decide +kernel
theorem dX0_isOpen_29 : decode cX0_isOpen 29 = .ok (.aload 6, 2) := by decide +kernel
theorem dX0_isOpen_31 : decode cX0_isOpen 31 = .ok (.getfield 337, 3) := by decide +kernel
theorem dX0_isOpen_34 : decode cX0_isOpen 34 = .ok (.aload_n 1, 1) := by decide +kernel
theorem dX0_isOpen_35 : decode cX0_isOpen 35 = .ok (.getfield 340, 3) := by decide +kernel
theorem dX0_isOpen_38 : decode cX0_isOpen 38 = .ok (.if_icmp .ne 71, 3) := by decide +kernel
theorem dX0_isOpen_41 : decode cX0_isOpen 41 = .ok (.iload_n 3, 1) := by decide +kernel
theorem dX0_isOpen_42 : decode cX0_isOpen 42 = .ok (.aload 6, 2) := by decide +kernel
theorem dX0_isOpen_44 : decode cX0_isOpen 44 = .ok (.getfield 217, 3) := by decide +kernel
theorem dX0_isOpen_47 : decode cX0_isOpen 47 = .ok (.aload 6, 2) := by decide +kernel
theorem dX0_isOpen_49 : decode cX0_isOpen 49 = .ok (.getfield 341, 3) := by decide +kernel
theorem dX0_isOpen_52 : decode cX0_isOpen 52 = .ok (.invokestatic 144, 3) := by decide +kernel
theorem dX0_isOpen_55 : decode cX0_isOpen 55 = .ok (.ifCond .eq 54, 3) := by decide +kernel
theorem dX0_isOpen_58 : decode cX0_isOpen 58 = .ok (.aload 6, 2) := by decide +kernel
theorem dX0_isOpen_60 : decode cX0_isOpen 60 = .ok (.iload 4, 2) := by decide +kernel
theorem dX0_isOpen_62 : decode cX0_isOpen 62 = .ok (.invokevirtual 220, 3) := by decide +kernel
theorem dX0_isOpen_65 : decode cX0_isOpen 65 = .ok (.ifCond .eq 44, 3) := by decide +kernel
theorem dX0_isOpen_68 : decode cX0_isOpen 68 = .ok (.aload 6, 2) := by decide +kernel
theorem dX0_isOpen_70 : decode cX0_isOpen 70 = .ok (.getfield 342, 3) := by decide +kernel
theorem dX0_isOpen_73 : decode cX0_isOpen 73 = .ok (.aload_n 1, 1) := by decide +kernel
theorem dX0_isOpen_74 : decode cX0_isOpen 74 = .ok (.getfield 345, 3) := by decide +kernel
theorem dX0_isOpen_77 : decode cX0_isOpen 77 = .ok (.if_icmp .gt 32, 3) := by decide +kernel
theorem dX0_isOpen_80 : decode cX0_isOpen 80 = .ok (.aload_n 1, 1) := by decide +kernel
theorem dX0_isOpen_81 : decode cX0_isOpen 81 = .ok (.getfield 348, 3) := by decide +kernel
theorem dX0_isOpen_84 : decode cX0_isOpen 84 = .ok (.aload 6, 2) := by decide +kernel
theorem dX0_isOpen_86 : decode cX0_isOpen 86 = .ok (.getfield 349, 3) := by decide +kernel
theorem dX0_isOpen_89 : decode cX0_isOpen 89 = .ok (.if_icmp .gt 20, 3) := by decide +kernel
theorem dX0_isOpen_92 : decode cX0_isOpen 92 = .ok (.aload 6, 2) := by decide +kernel
theorem dX0_isOpen_94 : decode cX0_isOpen 94 = .ok (.getfield 350, 3) := by decide +kernel
theorem dX0_isOpen_97 : decode cX0_isOpen 97 = .ok (.aload_n 2, 1) := by decide +kernel
theorem dX0_isOpen_98 : decode cX0_isOpen 98 = .ok (.getfield 173, 3) := by decide +kernel
theorem dX0_isOpen_101 : decode cX0_isOpen 101 = .ok (.invokevirtual 177, 3) := by decide +kernel
theorem dX0_isOpen_104 : decode cX0_isOpen 104 = .ok (.ifCond .eq 5, 3) := by decide +kernel
theorem dX0_isOpen_107 : decode cX0_isOpen 107 = .ok (.iconst 1, 1) := by decide +kernel
theorem dX0_isOpen_108 : decode cX0_isOpen 108 = .ok (.ireturn, 1) := by decide +kernel
theorem dX0_isOpen_109 : decode cX0_isOpen 109 = .ok (.iinc 5 1, 3) := by decide +kernel
theorem dX0_isOpen_112 : decode cX0_isOpen 112 = .ok (.goto (-109), 3) := by decide +kernel
theorem dX0_isOpen_115 : decode cX0_isOpen 115 = .ok (.iconst 0, 1) := by decide +kernel
theorem dX0_isOpen_116 : decode cX0_isOpen 116 = .ok (.ireturn, 1) := by decide +kernel
section
variable {v : Int32}
noncomputable def x0_isOpen_B3 (F : Nat) (x1 : Nat) (x2 : Nat) (x3 : Int32) (x4 : Int32) (R : Int32 × XS → XR Int32) (a : Int32 × XS) : XR Int32 :=
  if (a.2.1.1 4) ≤ a.1 then (some (0, a.2, 0, 0)) else (if okI a.1 100 = true then (a.2.2.1 1 a.1.toNatClampNeg).bind (fun n1 => (xd_finds F n1 a.2).bind (fun r1 => tk r1.2.2.1 r1.2.2.2 (if r1.1 = 0 then (R (a.1 + 1, r1.2.1)) else ((gI r1.2.1 n1 [5, 6, 7] 1).bind (fun v1 => (gI r1.2.1 x1 [20] 0).bind (fun v2 => if v1 = v2 then ((gI r1.2.1 n1 [5, 6, 7] 4).bind (fun v3 => (gI r1.2.1 n1 [5, 6, 7] 5).bind (fun v4 => (x0_within F x3 v3 v4).bind (fun r2 => if r2 = 0 then (R (a.1 + 1, r1.2.1)) else (if isC r1.2.1 n1 [5, 6, 7] = true then (x4_isKnown F n1 x4 r1.2.1).bind (fun r3 => tk r3.2.2.1 r3.2.2.2 (if r3.1 = 0 then (R (a.1 + 1, r3.2.1)) else ((gI r3.2.1 n1 [5, 6, 7] 2).bind (fun v5 => (gI r3.2.1 x1 [20] 5).bind (fun v6 => if v6 < v5 then (R (a.1 + 1, r3.2.1)) else ((gI r3.2.1 x1 [20] 4).bind (fun v7 => (gI r3.2.1 n1 [5, 6, 7] 3).bind (fun v8 => if v8 < v7 then (R (a.1 + 1, r3.2.1)) else ((gN r3.2.1 n1 [5, 6, 7] 7).bind (fun n2 => (gN r3.2.1 x2 [3] 2).bind (fun n3 => if isC r3.2.1 n2 [2] = true then (x2_meets F n2 n3 r3.2.1).bind (fun r4 => tk r4.2.2.1 r4.2.2.2 (if r4.1 = 0 then (R (a.1 + 1, r4.2.1)) else (some (1, r4.2.1, 0, 0)))) else none))))))))))) else none))))) else (R (a.1 + 1, r1.2.1)))))))) else none)
theorem kx0_isOpen_B3 (M : XC γ cX0_isOpen 7 RX0 "isOpen" G o B 2 (some .boolean) (xQi G o B v τr) c0 s0) (x1 : Nat) (x2 : Nat) (x3 : Int32) (x4 : Int32) : ∀ R : Int32 × XS → XR Int32, (∀ a c s, R a = some (v, τr, c, s) → ∀ k n, k + c ≤ c0 ∧ n + s ≤ s0 → J γ (XW G o B a.2) k n 3 [(0, .ref o), (1, .ref x1), (2, .ref x2), (3, .int x3), (4, .int x4), (5, .int a.1)] []) → ∀ a c s, x0_isOpen_B3 F x1 x2 x3 x4 R a = some (v, τr, c, s) → ∀ k n, k + c ≤ c0 ∧ n + s ≤ s0 → J γ (XW G o B a.2) k n 3 [(0, .ref o), (1, .ref x1), (2, .ref x2), (3, .int x3), (4, .int x4), (5, .int a.1)] [] := by
  intro R hR a c s hf k n hkn
  unfold x0_isOpen_B3 at hf
  refine j_iload (pc := 3) M.1 dX0_isOpen_3 5 rfl ?_
  refine j_aload_n (pc := 5) M.1 dX0_isOpen_5 0 rfl ?_
  refine jx_getS (pc := 6) M xfs_148 dX0_isOpen_6 ?_
  refine j_icmp_ge (pc := 9) M.1 115 dX0_isOpen_9 rfl (fun b1 => ?_) (fun b1 => ?_)
  · replace hf := o_pos b1 hf
    refine j_iconst (pc := 115) M.1 dX0_isOpen_115 kc_iconst_0 ?_
    exact jx_zretF (pc := 116) M dX0_isOpen_116 rfl hf hkn
  · replace hf := o_neg b1 hf
    refine j_aload_n (pc := 12) M.1 dX0_isOpen_12 0 rfl ?_
    refine jx_getA (pc := 13) M xfa_30 dX0_isOpen_13 ?_
    refine j_iload (pc := 16) M.1 dX0_isOpen_16 5 rfl ?_
    obtain ⟨b2, hf⟩ := o_need hf
    obtain ⟨n1, g1, hf⟩ := o_bind hf
    refine jx_aald (pc := 18) M xax_1 (by decide) xrt_4 b2 g1 dX0_isOpen_18 ?_
    refine j_astore (pc := 19) M.1 [(6, .ref n1), (0, .ref o), (1, .ref x1), (2, .ref x2), (3, .int x3), (4, .int x4), (5, .int a.1)] dX0_isOpen_19 rfl rfl ?_
    refine j_aload (pc := 21) M.1 dX0_isOpen_21 0 rfl ?_
    obtain ⟨r1, g2, hf⟩ := o_bind hf
    obtain ⟨c1, s1, hf, hc1, hs1⟩ := o_tk hf
    replace hkn := kn_step hkn hc1 hs1
    refine jx_i M (x_runD (pc := 23) (As := []) (rest := []) M xcv_X0_334 (metd_finds g2) (by decide) rfl rfl rfl dX0_isOpen_23 (kn_le hkn)) ?_
    refine j_if_eq (pc := 26) M.1 109 dX0_isOpen_26 rfl (fun b3 => ?_) (fun b3 => ?_)
    · replace hf := o_pos b3 hf
      refine j_iinc (pc := 109) M.1 [(5, .int (a.1 + 1)), (6, .ref n1), (0, .ref o), (1, .ref x1), (2, .ref x2), (3, .int x3), (4, .int x4)] dX0_isOpen_109 6 rfl (congrArg _ kc_iconst_1) rfl rfl ?_
      refine j_goto (pc := 112) M.1 3 dX0_isOpen_112 rfl ?_
      refine j_sub [2, 3, 4, 5, 6, 0] (show lv_pick _ _ = [(0, .ref o), (1, .ref x1), (2, .ref x2), (3, .int x3), (4, .int x4), (5, .int (a.1 + 1))] from rfl) ?_
      have hy := hR _ _ _ hf _ _ hkn
      exact hy
    · replace hf := o_neg b3 hf
      refine j_aload (pc := 29) M.1 dX0_isOpen_29 0 rfl ?_
      obtain ⟨v1, g3, hf⟩ := o_bind hf
      refine jx_getI (pc := 31) M xfl_X0_337 g3 dX0_isOpen_31 ?_
      refine j_aload_n (pc := 34) M.1 dX0_isOpen_34 2 rfl ?_
      obtain ⟨v2, g4, hf⟩ := o_bind hf
      refine jx_getI (pc := 35) M xfl_X0_340 g4 dX0_isOpen_35 ?_
      refine j_icmp_ne (pc := 38) M.1 109 dX0_isOpen_38 rfl (fun b4 => ?_) (fun b4 => ?_)
      · replace hf := o_neg b4 hf
        refine j_iinc (pc := 109) M.1 [(5, .int (a.1 + 1)), (6, .ref n1), (0, .ref o), (1, .ref x1), (2, .ref x2), (3, .int x3), (4, .int x4)] dX0_isOpen_109 6 rfl (congrArg _ kc_iconst_1) rfl rfl ?_
        refine j_goto (pc := 112) M.1 3 dX0_isOpen_112 rfl ?_
        refine j_sub [2, 3, 4, 5, 6, 0] (show lv_pick _ _ = [(0, .ref o), (1, .ref x1), (2, .ref x2), (3, .int x3), (4, .int x4), (5, .int (a.1 + 1))] from rfl) ?_
        have hy := hR _ _ _ hf _ _ hkn
        exact hy
      · replace hf := o_pos b4 hf
        refine j_iload_n (pc := 41) M.1 dX0_isOpen_41 4 rfl ?_
        refine j_aload (pc := 42) M.1 dX0_isOpen_42 0 rfl ?_
        obtain ⟨v3, g5, hf⟩ := o_bind hf
        refine jx_getI (pc := 44) M xfl_X0_217 g5 dX0_isOpen_44 ?_
        refine j_aload (pc := 47) M.1 dX0_isOpen_47 0 rfl ?_
        obtain ⟨v4, g6, hf⟩ := o_bind hf
        refine jx_getI (pc := 49) M xfl_X0_341 g6 dX0_isOpen_49 ?_
        obtain ⟨r2, g7, hf⟩ := o_bind hf
        refine jx_calls (pc := 52) (As := [.int x3, .int v3, .int v4]) (rest := []) M xcs_X0_144 (met_x0_within g7) rfl rfl rfl rfl dX0_isOpen_52 (kn_le0 hkn) ?_
        refine j_if_eq (pc := 55) M.1 109 dX0_isOpen_55 rfl (fun b5 => ?_) (fun b5 => ?_)
        · replace hf := o_pos b5 hf
          refine j_iinc (pc := 109) M.1 [(5, .int (a.1 + 1)), (6, .ref n1), (0, .ref o), (1, .ref x1), (2, .ref x2), (3, .int x3), (4, .int x4)] dX0_isOpen_109 6 rfl (congrArg _ kc_iconst_1) rfl rfl ?_
          refine j_goto (pc := 112) M.1 3 dX0_isOpen_112 rfl ?_
          refine j_sub [2, 3, 4, 5, 6, 0] (show lv_pick _ _ = [(0, .ref o), (1, .ref x1), (2, .ref x2), (3, .int x3), (4, .int x4), (5, .int (a.1 + 1))] from rfl) ?_
          have hy := hR _ _ _ hf _ _ hkn
          exact hy
        · replace hf := o_neg b5 hf
          refine j_aload (pc := 58) M.1 dX0_isOpen_58 0 rfl ?_
          refine j_iload (pc := 60) M.1 dX0_isOpen_60 5 rfl ?_
          obtain ⟨b6, hf⟩ := o_need hf
          obtain ⟨r3, g8, hf⟩ := o_bind hf
          obtain ⟨c2, s2, hf, hc2, hs2⟩ := o_tk hf
          replace hkn := kn_step hkn hc2 hs2
          refine jx_i M (x_runU (pc := 62) (As := [.int x4]) (rest := []) M xcu_X0_220 (met_x4_isKnown g8) b6 (by decide) rfl rfl rfl dX0_isOpen_62 (kn_le hkn)) ?_
          refine j_if_eq (pc := 65) M.1 109 dX0_isOpen_65 rfl (fun b7 => ?_) (fun b7 => ?_)
          · replace hf := o_pos b7 hf
            refine j_iinc (pc := 109) M.1 [(5, .int (a.1 + 1)), (6, .ref n1), (0, .ref o), (1, .ref x1), (2, .ref x2), (3, .int x3), (4, .int x4)] dX0_isOpen_109 6 rfl (congrArg _ kc_iconst_1) rfl rfl ?_
            refine j_goto (pc := 112) M.1 3 dX0_isOpen_112 rfl ?_
            refine j_sub [2, 3, 4, 5, 6, 0] (show lv_pick _ _ = [(0, .ref o), (1, .ref x1), (2, .ref x2), (3, .int x3), (4, .int x4), (5, .int (a.1 + 1))] from rfl) ?_
            have hy := hR _ _ _ hf _ _ hkn
            exact hy
          · replace hf := o_neg b7 hf
            refine j_aload (pc := 68) M.1 dX0_isOpen_68 0 rfl ?_
            obtain ⟨v5, g9, hf⟩ := o_bind hf
            refine jx_getI (pc := 70) M xfl_X0_342 g9 dX0_isOpen_70 ?_
            refine j_aload_n (pc := 73) M.1 dX0_isOpen_73 2 rfl ?_
            obtain ⟨v6, g10, hf⟩ := o_bind hf
            refine jx_getI (pc := 74) M xfl_X0_345 g10 dX0_isOpen_74 ?_
            refine j_icmp_gt (pc := 77) M.1 109 dX0_isOpen_77 rfl (fun b8 => ?_) (fun b8 => ?_)
            · replace hf := o_pos b8 hf
              refine j_iinc (pc := 109) M.1 [(5, .int (a.1 + 1)), (6, .ref n1), (0, .ref o), (1, .ref x1), (2, .ref x2), (3, .int x3), (4, .int x4)] dX0_isOpen_109 6 rfl (congrArg _ kc_iconst_1) rfl rfl ?_
              refine j_goto (pc := 112) M.1 3 dX0_isOpen_112 rfl ?_
              refine j_sub [2, 3, 4, 5, 6, 0] (show lv_pick _ _ = [(0, .ref o), (1, .ref x1), (2, .ref x2), (3, .int x3), (4, .int x4), (5, .int (a.1 + 1))] from rfl) ?_
              have hy := hR _ _ _ hf _ _ hkn
              exact hy
            · replace hf := o_neg b8 hf
              refine j_aload_n (pc := 80) M.1 dX0_isOpen_80 2 rfl ?_
              obtain ⟨v7, g11, hf⟩ := o_bind hf
              refine jx_getI (pc := 81) M xfl_X0_348 g11 dX0_isOpen_81 ?_
              refine j_aload (pc := 84) M.1 dX0_isOpen_84 0 rfl ?_
              obtain ⟨v8, g12, hf⟩ := o_bind hf
              refine jx_getI (pc := 86) M xfl_X0_349 g12 dX0_isOpen_86 ?_
              refine j_icmp_gt (pc := 89) M.1 109 dX0_isOpen_89 rfl (fun b9 => ?_) (fun b9 => ?_)
              · replace hf := o_pos b9 hf
                refine j_iinc (pc := 109) M.1 [(5, .int (a.1 + 1)), (6, .ref n1), (0, .ref o), (1, .ref x1), (2, .ref x2), (3, .int x3), (4, .int x4)] dX0_isOpen_109 6 rfl (congrArg _ kc_iconst_1) rfl rfl ?_
                refine j_goto (pc := 112) M.1 3 dX0_isOpen_112 rfl ?_
                refine j_sub [2, 3, 4, 5, 6, 0] (show lv_pick _ _ = [(0, .ref o), (1, .ref x1), (2, .ref x2), (3, .int x3), (4, .int x4), (5, .int (a.1 + 1))] from rfl) ?_
                have hy := hR _ _ _ hf _ _ hkn
                exact hy
              · replace hf := o_neg b9 hf
                refine j_aload (pc := 92) M.1 dX0_isOpen_92 0 rfl ?_
                obtain ⟨n2, g13, hf⟩ := o_bind hf
                refine jx_getN (pc := 94) M xfl_X0_350 g13 dX0_isOpen_94 ?_
                refine j_aload_n (pc := 97) M.1 dX0_isOpen_97 3 rfl ?_
                obtain ⟨n3, g14, hf⟩ := o_bind hf
                refine jx_getN (pc := 98) M xfl_X0_173 g14 dX0_isOpen_98 ?_
                obtain ⟨b10, hf⟩ := o_need hf
                obtain ⟨r4, g15, hf⟩ := o_bind hf
                obtain ⟨c3, s3, hf, hc3, hs3⟩ := o_tk hf
                replace hkn := kn_step hkn hc3 hs3
                refine jx_i M (x_runW (pc := 101) (As := [.ref n3]) (rest := []) M xcw_X0_177 (met_x2_meets g15) b10 (by decide) rfl rfl rfl dX0_isOpen_101 (kn_le hkn)) ?_
                refine j_if_eq (pc := 104) M.1 109 dX0_isOpen_104 rfl (fun b11 => ?_) (fun b11 => ?_)
                · replace hf := o_pos b11 hf
                  refine j_iinc (pc := 109) M.1 [(5, .int (a.1 + 1)), (6, .ref n1), (0, .ref o), (1, .ref x1), (2, .ref x2), (3, .int x3), (4, .int x4)] dX0_isOpen_109 6 rfl (congrArg _ kc_iconst_1) rfl rfl ?_
                  refine j_goto (pc := 112) M.1 3 dX0_isOpen_112 rfl ?_
                  refine j_sub [2, 3, 4, 5, 6, 0] (show lv_pick _ _ = [(0, .ref o), (1, .ref x1), (2, .ref x2), (3, .int x3), (4, .int x4), (5, .int (a.1 + 1))] from rfl) ?_
                  have hy := hR _ _ _ hf _ _ hkn
                  exact hy
                · replace hf := o_neg b11 hf
                  refine j_iconst (pc := 107) M.1 dX0_isOpen_107 kc_iconst_1 ?_
                  exact jx_zretF (pc := 108) M dX0_isOpen_108 rfl hf hkn
noncomputable def x0_isOpen (F : Nat) (x1 : Nat) (x2 : Nat) (x3 : Int32) (x4 : Int32) (τ : XS) : XR Int32 :=
  lp (x0_isOpen_B3 F x1 x2 x3 x4) F (0, τ)
theorem met_x0_isOpen {l : Launch} {G : gG} {o B F : Nat} {x1 : Nat} {x2 : Nat} {x3 : Int32} {x4 : Int32} {τ : XS} {r : Int32 × XS × Nat × Nat} (hf : x0_isOpen F x1 x2 x3 x4 τ = some r) : MetX l G o B yX0_isOpen cX0_isOpen 7 (some .boolean) 2 [.ref o, .ref x1, .ref x2, .int x3, .int x4] τ (xQi G o B r.1 r.2.1) r.2.2.1 r.2.2.2 := by
  obtain ⟨v, τr, c, s⟩ := r
  refine metX_of (own := RX0) (mn := "isOpen") (by decide) rfl rfl rfl (fun γ hγ M => ?_)
  subst hγ
  show J γ (XW G o B τ) 0 0 0 [(0, .ref o), (1, .ref x1), (2, .ref x2), (3, .int x3), (4, .int x4)] []
  have hkn : 0 + c ≤ c ∧ 0 + s ≤ s := ⟨by omega, by omega⟩
  unfold x0_isOpen at hf
  refine j_iconst (pc := 0) M.1 dX0_isOpen_0 kc_iconst_0 ?_
  refine j_istore (pc := 1) M.1 [(5, .int 0), (0, .ref o), (1, .ref x1), (2, .ref x2), (3, .int x3), (4, .int x4)] dX0_isOpen_1 rfl rfl ?_
  refine j_sub [1, 2, 3, 4, 5, 0] (show lv_pick _ _ = [(0, .ref o), (1, .ref x1), (2, .ref x2), (3, .int x3), (4, .int x4), (5, .int 0)] from rfl) ?_
  refine lp_Wc (kx0_isOpen_B3 M x1 x2 x3 x4) F (0, τ) _ _ hf _ _ hkn
end
theorem dX0_mayOf_0 : decode cX0_mayOf 0 = .ok (.iconst 0, 1) := by decide +kernel
theorem dX0_mayOf_1 : decode cX0_mayOf 1 = .ok (.istore 4, 2) := by decide +kernel
theorem dX0_mayOf_3 : decode cX0_mayOf 3 = .ok (.iconst 0, 1) := by decide +kernel
theorem dX0_mayOf_4 : decode cX0_mayOf 4 = .ok (.istore 5, 2) := by decide +kernel
theorem dX0_mayOf_6 : decode cX0_mayOf 6 = .ok (.iload 5, 2) := by decide +kernel
theorem dX0_mayOf_8 : decode cX0_mayOf 8 = .ok (.aload_n 0, 1) := by decide +kernel
theorem dX0_mayOf_9 : decode cX0_mayOf 9 = .ok (.getfield 141, 3) := by decide +kernel
theorem dX0_mayOf_12 : decode cX0_mayOf 12 = .ok (.if_icmp .ge 99, 3) := by decide +kernel
theorem dX0_mayOf_15 : decode cX0_mayOf 15 = .ok (.iconst 0, 1) := by decide +kernel
theorem dX0_mayOf_16 : decode cX0_mayOf 16 = .ok (.istore 6, 2) := by decide +kernel
theorem dX0_mayOf_18 : decode cX0_mayOf 18 = .ok (.aload_n 1, 1) := by decide +kernel
theorem dX0_mayOf_19 : decode cX0_mayOf 19 = .ok (.getfield 357, 3) := by decide +kernel
theorem dX0_mayOf_22 : decode cX0_mayOf 22 = .ok (.istore 7, 2) := by decide +kernel
theorem dX0_mayOf_24 : decode cX0_mayOf 24 = .ok (.iload 7, 2) := by decide +kernel
theorem dX0_mayOf_26 : decode cX0_mayOf 26 = .ok (.aload_n 1, 1) := by decide +kernel
theorem dX0_mayOf_27 : decode cX0_mayOf 27 = .ok (.getfield 358, 3) := by decide +kernel
theorem dX0_mayOf_30 : decode cX0_mayOf 30 = .ok (.if_icmp .gt 57, 3) := by decide +kernel
theorem dX0_mayOf_33 : decode cX0_mayOf 33 = .ok (.iload 6, 2) := by decide +kernel
theorem dX0_mayOf_35 : decode cX0_mayOf 35 = .ok (.ifCond .ne 52, 3) := by decide +kernel
theorem dX0_mayOf_38 : decode cX0_mayOf 38 = .ok (.aload_n 0, 1) := by decide +kernel
theorem dX0_mayOf_39 : decode cX0_mayOf 39 = .ok (.aload_n 1, 1) := by decide +kernel
theorem dX0_mayOf_40 : decode cX0_mayOf 40 = .ok (.aload_n 0, 1) := by decide +kernel
theorem dX0_mayOf_41 : decode cX0_mayOf 41 = .ok (.getfield 24, 3) := by decide +kernel
theorem dX0_mayOf_44 : decode cX0_mayOf 44 = .ok (.iload 5, 2) := by decide +kernel
theorem dX0_mayOf_46 : decode cX0_mayOf 46 = .ok (.aaload, 1) := by decide +kernel
theorem dX0_mayOf_47 : decode cX0_mayOf 47 = .ok (.iload 7, 2) := by decide +kernel
theorem dX0_mayOf_49 : decode cX0_mayOf 49 = .ok (.iload_n 2, 1) := by decide +kernel
theorem dX0_mayOf_50 : decode cX0_mayOf 50 = .ok (.invokevirtual 359, 3) := by decide +kernel
theorem dX0_mayOf_53 : decode cX0_mayOf 53 = .ok (.ifCond .eq 25, 3) := by decide +kernel
theorem dX0_mayOf_56 : decode cX0_mayOf 56 = .ok (.aload_n 0, 1) := by decide +kernel
theorem dX0_mayOf_57 : decode cX0_mayOf 57 = .ok (.aload_n 1, 1) := by decide +kernel
theorem dX0_mayOf_58 : decode cX0_mayOf 58 = .ok (.aload_n 0, 1) := by decide +kernel
theorem dX0_mayOf_59 : decode cX0_mayOf 59 = .ok (.getfield 24, 3) := by decide +kernel
theorem dX0_mayOf_62 : decode cX0_mayOf 62 = .ok (.iload 5, 2) := by decide +kernel
theorem dX0_mayOf_64 : decode cX0_mayOf 64 = .ok (.aaload, 1) := by decide +kernel
theorem dX0_mayOf_65 : decode cX0_mayOf 65 = .ok (.iload 7, 2) := by decide +kernel
theorem dX0_mayOf_67 : decode cX0_mayOf 67 = .ok (.iload_n 3, 1) := by decide +kernel
theorem dX0_mayOf_68 : decode cX0_mayOf 68 = .ok (.invokevirtual 363, 3) := by decide +kernel
theorem dX0_mayOf_71 : decode cX0_mayOf 71 = .ok (.ifCond .eq 7, 3) := by decide +kernel
theorem dX0_mayOf_74 : decode cX0_mayOf 74 = .ok (.iconst 1, 1) := by decide +kernel
theorem dX0_mayOf_75 : decode cX0_mayOf 75 = .ok (.goto 4, 3) := by decide +kernel
theorem dX0_mayOf_78 : decode cX0_mayOf 78 = .ok (.iconst 0, 1) := by decide +kernel
theorem dX0_mayOf_79 : decode cX0_mayOf 79 = .ok (.istore 6, 2) := by decide +kernel
theorem dX0_mayOf_81 : decode cX0_mayOf 81 = .ok (.iinc 7 1, 3) := by decide +kernel
theorem dX0_mayOf_84 : decode cX0_mayOf 84 = .ok (.goto (-60), 3) := by decide +kernel
theorem dX0_mayOf_87 : decode cX0_mayOf 87 = .ok (.iload 4, 2) := by decide +kernel
theorem dX0_mayOf_89 : decode cX0_mayOf 89 = .ok (.iload 6, 2) := by decide +kernel
theorem dX0_mayOf_91 : decode cX0_mayOf 91 = .ok (.ifCond .eq 10, 3) := by decide +kernel
theorem dX0_mayOf_94 : decode cX0_mayOf 94 = .ok (.iconst 1, 1) := by decide +kernel
theorem dX0_mayOf_95 : decode cX0_mayOf 95 = .ok (.iload 5, 2) := by decide +kernel
theorem dX0_mayOf_97 : decode cX0_mayOf 97 = .ok (.ishl, 1) := by decide +kernel
theorem dX0_mayOf_98 : decode cX0_mayOf 98 = .ok (.goto 4, 3) := by decide +kernel
theorem dX0_mayOf_101 : decode cX0_mayOf 101 = .ok (.iconst 0, 1) := by decide +kernel
theorem dX0_mayOf_102 : decode cX0_mayOf 102 = .ok (.ior, 1) := by decide +kernel
theorem dX0_mayOf_103 : decode cX0_mayOf 103 = .ok (.istore 4, 2) := by decide +kernel
theorem dX0_mayOf_105 : decode cX0_mayOf 105 = .ok (.iinc 5 1, 3) := by decide +kernel
theorem dX0_mayOf_108 : decode cX0_mayOf 108 = .ok (.goto (-102), 3) := by decide +kernel
theorem dX0_mayOf_111 : decode cX0_mayOf 111 = .ok (.iload 4, 2) := by decide +kernel
theorem dX0_mayOf_113 : decode cX0_mayOf 113 = .ok (.ireturn, 1) := by decide +kernel
section
variable {v : Int32}
noncomputable def x0_mayOf_B24 (F : Nat) (K87 : Int32 × Int32 × XS → XR Int32) (x1 : Nat) (x2 : Int32) (x3 : Int32) (x4 : Int32) (x5 : Int32) (R : Int32 × Int32 × XS → XR Int32) (a : Int32 × Int32 × XS) : XR Int32 :=
  (gI a.2.2 x1 [20] 2).bind (fun v1 => if v1 < a.2.1 then (K87 (a.1, a.2.1, a.2.2)) else (if a.1 = 0 then (if okI x5 30 = true then (a.2.2.2.1 0 x5.toNatClampNeg).bind (fun n1 => (x0_isOpen F x1 n1 a.2.1 x2 a.2.2).bind (fun r1 => tk r1.2.2.1 r1.2.2.2 (if r1.1 = 0 then (R (0, a.2.1 + 1, r1.2.1)) else (if okI x5 30 = true then (r1.2.1.2.1 0 x5.toNatClampNeg).bind (fun n2 => (x0_isMeant F x1 n2 a.2.1 x3 r1.2.1).bind (fun r2 => tk r2.2.2.1 r2.2.2.2 (if r2.1 = 0 then (R (0, a.2.1 + 1, r2.2.1)) else (R (1, a.2.1 + 1, r2.2.1))))) else none)))) else none) else (K87 (a.1, a.2.1, a.2.2))))
theorem kx0_mayOf_B24 (M : XC γ cX0_mayOf 8 RX0 "mayOf" G o B 47 (some .int) (xQi G o B v τr) c0 s0) (x1 : Nat) (x2 : Int32) (x3 : Int32) (x4 : Int32) (x5 : Int32) (K87 : Int32 × Int32 × XS → XR Int32) (hK87 : ∀ a c s, K87 a = some (v, τr, c, s) → ∀ k n, k + c ≤ c0 ∧ n + s ≤ s0 → J γ (XW G o B a.2.2) k n 87 [(0, .ref o), (1, .ref x1), (2, .int x2), (3, .int x3), (4, .int x4), (5, .int x5), (6, .int a.1)] []) : ∀ R : Int32 × Int32 × XS → XR Int32, (∀ a c s, R a = some (v, τr, c, s) → ∀ k n, k + c ≤ c0 ∧ n + s ≤ s0 → J γ (XW G o B a.2.2) k n 24 [(0, .ref o), (1, .ref x1), (2, .int x2), (3, .int x3), (4, .int x4), (5, .int x5), (6, .int a.1), (7, .int a.2.1)] []) → ∀ a c s, x0_mayOf_B24 F K87 x1 x2 x3 x4 x5 R a = some (v, τr, c, s) → ∀ k n, k + c ≤ c0 ∧ n + s ≤ s0 → J γ (XW G o B a.2.2) k n 24 [(0, .ref o), (1, .ref x1), (2, .int x2), (3, .int x3), (4, .int x4), (5, .int x5), (6, .int a.1), (7, .int a.2.1)] [] := by
  intro R hR a c s hf k n hkn
  unfold x0_mayOf_B24 at hf
  refine j_iload (pc := 24) M.1 dX0_mayOf_24 7 rfl ?_
  refine j_aload_n (pc := 26) M.1 dX0_mayOf_26 1 rfl ?_
  obtain ⟨v1, g1, hf⟩ := o_bind hf
  refine jx_getI (pc := 27) M xfl_X0_358 g1 dX0_mayOf_27 ?_
  refine j_icmp_gt (pc := 30) M.1 87 dX0_mayOf_30 rfl (fun b1 => ?_) (fun b1 => ?_)
  · replace hf := o_pos b1 hf
    refine j_sub [0, 1, 2, 3, 4, 5, 6] (show lv_pick _ _ = [(0, .ref o), (1, .ref x1), (2, .int x2), (3, .int x3), (4, .int x4), (5, .int x5), (6, .int a.1)] from rfl) ?_
    have hy := hK87 _ _ _ hf _ _ hkn
    exact hy
  · replace hf := o_neg b1 hf
    refine j_iload (pc := 33) M.1 dX0_mayOf_33 6 rfl ?_
    refine j_if_ne (pc := 35) M.1 87 dX0_mayOf_35 rfl (fun b2 => ?_) (fun b2 => ?_)
    · replace hf := o_neg b2 hf
      refine j_sub [0, 1, 2, 3, 4, 5, 6] (show lv_pick _ _ = [(0, .ref o), (1, .ref x1), (2, .int x2), (3, .int x3), (4, .int x4), (5, .int x5), (6, .int a.1)] from rfl) ?_
      have hy := hK87 _ _ _ hf _ _ hkn
      exact hy
    · replace hf := o_pos b2 hf
      refine j_aload_n (pc := 38) M.1 dX0_mayOf_38 0 rfl ?_
      refine j_aload_n (pc := 39) M.1 dX0_mayOf_39 1 rfl ?_
      refine j_aload_n (pc := 40) M.1 dX0_mayOf_40 0 rfl ?_
      refine jx_getA (pc := 41) M xfa_24 dX0_mayOf_41 ?_
      refine j_iload (pc := 44) M.1 dX0_mayOf_44 5 rfl ?_
      obtain ⟨b3, hf⟩ := o_need hf
      obtain ⟨n1, g2, hf⟩ := o_bind hf
      refine jx_aald (pc := 46) M xax_0 (by decide) xrt_3 b3 g2 dX0_mayOf_46 ?_
      refine j_iload (pc := 47) M.1 dX0_mayOf_47 7 rfl ?_
      refine j_iload_n (pc := 49) M.1 dX0_mayOf_49 2 rfl ?_
      obtain ⟨r1, g3, hf⟩ := o_bind hf
      obtain ⟨c1, s1, hf, hc1, hs1⟩ := o_tk hf
      replace hkn := kn_step hkn hc1 hs1
      refine jx_i M (x_runV (pc := 50) (As := [.ref x1, .ref n1, .int a.2.1, .int x2]) (rest := []) (V := xV o a.2.2) M xcw_X0_359 (met_x0_isOpen g3) (fun H h => h.1 o _ xH_o) (by decide) rfl rfl rfl dX0_mayOf_50 (kn_le hkn)) ?_
      refine j_if_eq (pc := 53) M.1 78 dX0_mayOf_53 rfl (fun b4 => ?_) (fun b4 => ?_)
      · replace hf := o_pos b4 hf
        refine j_iconst (pc := 78) M.1 dX0_mayOf_78 kc_iconst_0 ?_
        refine j_istore (pc := 79) M.1 [(6, .int 0), (0, .ref o), (1, .ref x1), (2, .int x2), (3, .int x3), (4, .int x4), (5, .int x5), (7, .int a.2.1)] dX0_mayOf_79 rfl rfl ?_
        refine j_iinc (pc := 81) M.1 [(7, .int (a.2.1 + 1)), (6, .int 0), (0, .ref o), (1, .ref x1), (2, .int x2), (3, .int x3), (4, .int x4), (5, .int x5)] dX0_mayOf_81 7 rfl (congrArg _ kc_iconst_1) rfl rfl ?_
        refine j_goto (pc := 84) M.1 24 dX0_mayOf_84 rfl ?_
        refine j_sub [2, 3, 4, 5, 6, 7, 1, 0] (show lv_pick _ _ = [(0, .ref o), (1, .ref x1), (2, .int x2), (3, .int x3), (4, .int x4), (5, .int x5), (6, .int 0), (7, .int (a.2.1 + 1))] from rfl) ?_
        have hy := hR _ _ _ hf _ _ hkn
        exact hy
      · replace hf := o_neg b4 hf
        refine j_aload_n (pc := 56) M.1 dX0_mayOf_56 0 rfl ?_
        refine j_aload_n (pc := 57) M.1 dX0_mayOf_57 1 rfl ?_
        refine j_aload_n (pc := 58) M.1 dX0_mayOf_58 0 rfl ?_
        refine jx_getA (pc := 59) M xfa_24 dX0_mayOf_59 ?_
        refine j_iload (pc := 62) M.1 dX0_mayOf_62 5 rfl ?_
        obtain ⟨b5, hf⟩ := o_need hf
        obtain ⟨n2, g4, hf⟩ := o_bind hf
        refine jx_aald (pc := 64) M xax_0 (by decide) xrt_3 b5 g4 dX0_mayOf_64 ?_
        refine j_iload (pc := 65) M.1 dX0_mayOf_65 7 rfl ?_
        refine j_iload_n (pc := 67) M.1 dX0_mayOf_67 3 rfl ?_
        obtain ⟨r2, g5, hf⟩ := o_bind hf
        obtain ⟨c2, s2, hf, hc2, hs2⟩ := o_tk hf
        replace hkn := kn_step hkn hc2 hs2
        refine jx_i M (x_runV (pc := 68) (As := [.ref x1, .ref n2, .int a.2.1, .int x3]) (rest := []) (V := xV o r1.2.1) M xcw_X0_363 (met_x0_isMeant g5) (fun H h => h.1 o _ xH_o) (by decide) rfl rfl rfl dX0_mayOf_68 (kn_le hkn)) ?_
        refine j_if_eq (pc := 71) M.1 78 dX0_mayOf_71 rfl (fun b6 => ?_) (fun b6 => ?_)
        · replace hf := o_pos b6 hf
          refine j_iconst (pc := 78) M.1 dX0_mayOf_78 kc_iconst_0 ?_
          refine j_istore (pc := 79) M.1 [(6, .int 0), (0, .ref o), (1, .ref x1), (2, .int x2), (3, .int x3), (4, .int x4), (5, .int x5), (7, .int a.2.1)] dX0_mayOf_79 rfl rfl ?_
          refine j_iinc (pc := 81) M.1 [(7, .int (a.2.1 + 1)), (6, .int 0), (0, .ref o), (1, .ref x1), (2, .int x2), (3, .int x3), (4, .int x4), (5, .int x5)] dX0_mayOf_81 7 rfl (congrArg _ kc_iconst_1) rfl rfl ?_
          refine j_goto (pc := 84) M.1 24 dX0_mayOf_84 rfl ?_
          refine j_sub [2, 3, 4, 5, 6, 7, 1, 0] (show lv_pick _ _ = [(0, .ref o), (1, .ref x1), (2, .int x2), (3, .int x3), (4, .int x4), (5, .int x5), (6, .int 0), (7, .int (a.2.1 + 1))] from rfl) ?_
          have hy := hR _ _ _ hf _ _ hkn
          exact hy
        · replace hf := o_neg b6 hf
          refine j_iconst (pc := 74) M.1 dX0_mayOf_74 kc_iconst_1 ?_
          refine j_goto (pc := 75) M.1 79 dX0_mayOf_75 rfl ?_
          refine j_istore (pc := 79) M.1 [(6, .int 1), (0, .ref o), (1, .ref x1), (2, .int x2), (3, .int x3), (4, .int x4), (5, .int x5), (7, .int a.2.1)] dX0_mayOf_79 rfl rfl ?_
          refine j_iinc (pc := 81) M.1 [(7, .int (a.2.1 + 1)), (6, .int 1), (0, .ref o), (1, .ref x1), (2, .int x2), (3, .int x3), (4, .int x4), (5, .int x5)] dX0_mayOf_81 7 rfl (congrArg _ kc_iconst_1) rfl rfl ?_
          refine j_goto (pc := 84) M.1 24 dX0_mayOf_84 rfl ?_
          refine j_sub [2, 3, 4, 5, 6, 7, 1, 0] (show lv_pick _ _ = [(0, .ref o), (1, .ref x1), (2, .int x2), (3, .int x3), (4, .int x4), (5, .int x5), (6, .int 1), (7, .int (a.2.1 + 1))] from rfl) ?_
          have hy := hR _ _ _ hf _ _ hkn
          exact hy
noncomputable def x0_mayOf_87 (F : Nat) (R : Int32 × Int32 × XS → XR Int32) (x1 : Nat) (x2 : Int32) (x3 : Int32) (x4 : Int32) (x5 : Int32) (x6 : Int32) (τ : XS) : XR Int32 :=
  if x6 = 0 then (R (x4 ||| 0, x5 + 1, τ)) else (nx (x4 ||| (1 <<< (x5 &&& 31)) : Int32) (fun y1 => R (y1, x5 + 1, τ)))
theorem kx0_mayOf_87 (M : XC γ cX0_mayOf 8 RX0 "mayOf" G o B 47 (some .int) (xQi G o B v τr) c0 s0) (x1 : Nat) (x2 : Int32) (x3 : Int32) (x4 : Int32) (x5 : Int32) (x6 : Int32) (R : Int32 × Int32 × XS → XR Int32) (hR : ∀ a c s, R a = some (v, τr, c, s) → ∀ k n, k + c ≤ c0 ∧ n + s ≤ s0 → J γ (XW G o B a.2.2) k n 6 [(0, .ref o), (1, .ref x1), (2, .int x2), (3, .int x3), (4, .int a.1), (5, .int a.2.1)] []) (τ : XS) {c s k n : Nat} (hf : x0_mayOf_87 F R x1 x2 x3 x4 x5 x6 τ = some (v, τr, c, s)) (hkn : k + c ≤ c0 ∧ n + s ≤ s0) : J γ (XW G o B τ) k n 87 [(0, .ref o), (1, .ref x1), (2, .int x2), (3, .int x3), (4, .int x4), (5, .int x5), (6, .int x6)] [] := by
  unfold x0_mayOf_87 at hf
  refine j_iload (pc := 87) M.1 dX0_mayOf_87 4 rfl ?_
  refine j_iload (pc := 89) M.1 dX0_mayOf_89 6 rfl ?_
  refine j_if_eq (pc := 91) M.1 101 dX0_mayOf_91 rfl (fun b1 => ?_) (fun b1 => ?_)
  · replace hf := o_pos b1 hf
    refine j_iconst (pc := 101) M.1 dX0_mayOf_101 kc_iconst_0 ?_
    refine j_ior (pc := 102) M.1 dX0_mayOf_102 ?_
    refine j_istore (pc := 103) M.1 [(4, .int (x4 ||| 0)), (0, .ref o), (1, .ref x1), (2, .int x2), (3, .int x3), (5, .int x5), (6, .int x6)] dX0_mayOf_103 rfl rfl ?_
    refine j_iinc (pc := 105) M.1 [(5, .int (x5 + 1)), (4, .int (x4 ||| 0)), (0, .ref o), (1, .ref x1), (2, .int x2), (3, .int x3), (6, .int x6)] dX0_mayOf_105 5 rfl (congrArg _ kc_iconst_1) rfl rfl ?_
    refine j_goto (pc := 108) M.1 6 dX0_mayOf_108 rfl ?_
    refine j_sub [2, 3, 4, 5, 1, 0] (show lv_pick _ _ = [(0, .ref o), (1, .ref x1), (2, .int x2), (3, .int x3), (4, .int (x4 ||| 0)), (5, .int (x5 + 1))] from rfl) ?_
    have hy := hR _ _ _ hf _ _ hkn
    exact hy
  · replace hf := o_neg b1 hf
    refine j_iconst (pc := 94) M.1 dX0_mayOf_94 kc_iconst_1 ?_
    refine j_iload (pc := 95) M.1 dX0_mayOf_95 5 rfl ?_
    refine j_ishl (pc := 97) M.1 dX0_mayOf_97 ?_
    refine j_goto (pc := 98) M.1 102 dX0_mayOf_98 rfl ?_
    refine j_ior (pc := 102) M.1 dX0_mayOf_102 ?_
    obtain ⟨y1, e1, hf⟩ := o_nx hf
    refine j_top e1 ?_
    refine j_istore (pc := 103) M.1 [(4, .int y1), (0, .ref o), (1, .ref x1), (2, .int x2), (3, .int x3), (5, .int x5), (6, .int x6)] dX0_mayOf_103 rfl rfl ?_
    refine j_iinc (pc := 105) M.1 [(5, .int (x5 + 1)), (4, .int y1), (0, .ref o), (1, .ref x1), (2, .int x2), (3, .int x3), (6, .int x6)] dX0_mayOf_105 5 rfl (congrArg _ kc_iconst_1) rfl rfl ?_
    refine j_goto (pc := 108) M.1 6 dX0_mayOf_108 rfl ?_
    refine j_sub [2, 3, 4, 5, 1, 0] (show lv_pick _ _ = [(0, .ref o), (1, .ref x1), (2, .int x2), (3, .int x3), (4, .int y1), (5, .int (x5 + 1))] from rfl) ?_
    have hy := hR _ _ _ hf _ _ hkn
    exact hy
noncomputable def x0_mayOf_B6 (F : Nat) (x1 : Nat) (x2 : Int32) (x3 : Int32) (R : Int32 × Int32 × XS → XR Int32) (a : Int32 × Int32 × XS) : XR Int32 :=
  if (a.2.2.1.1 3) ≤ a.2.1 then (some (a.1, a.2.2, 0, 0)) else ((gI a.2.2 x1 [20] 1).bind (fun v1 => lp (x0_mayOf_B24 F (fun a1 => x0_mayOf_87 F R x1 x2 x3 a.1 a.2.1 a1.1 a1.2.2) x1 x2 x3 a.1 a.2.1) F (0, v1, a.2.2)))
theorem kx0_mayOf_B6 (M : XC γ cX0_mayOf 8 RX0 "mayOf" G o B 47 (some .int) (xQi G o B v τr) c0 s0) (x1 : Nat) (x2 : Int32) (x3 : Int32) : ∀ R : Int32 × Int32 × XS → XR Int32, (∀ a c s, R a = some (v, τr, c, s) → ∀ k n, k + c ≤ c0 ∧ n + s ≤ s0 → J γ (XW G o B a.2.2) k n 6 [(0, .ref o), (1, .ref x1), (2, .int x2), (3, .int x3), (4, .int a.1), (5, .int a.2.1)] []) → ∀ a c s, x0_mayOf_B6 F x1 x2 x3 R a = some (v, τr, c, s) → ∀ k n, k + c ≤ c0 ∧ n + s ≤ s0 → J γ (XW G o B a.2.2) k n 6 [(0, .ref o), (1, .ref x1), (2, .int x2), (3, .int x3), (4, .int a.1), (5, .int a.2.1)] [] := by
  intro R hR a c s hf k n hkn
  unfold x0_mayOf_B6 at hf
  refine j_iload (pc := 6) M.1 dX0_mayOf_6 5 rfl ?_
  refine j_aload_n (pc := 8) M.1 dX0_mayOf_8 0 rfl ?_
  refine jx_getS (pc := 9) M xfs_141 dX0_mayOf_9 ?_
  refine j_icmp_ge (pc := 12) M.1 111 dX0_mayOf_12 rfl (fun b1 => ?_) (fun b1 => ?_)
  · replace hf := o_pos b1 hf
    refine j_iload (pc := 111) M.1 dX0_mayOf_111 4 rfl ?_
    exact jx_iretF (pc := 113) M dX0_mayOf_113 hf hkn
  · replace hf := o_neg b1 hf
    refine j_iconst (pc := 15) M.1 dX0_mayOf_15 kc_iconst_0 ?_
    refine j_istore (pc := 16) M.1 [(6, .int 0), (0, .ref o), (1, .ref x1), (2, .int x2), (3, .int x3), (4, .int a.1), (5, .int a.2.1)] dX0_mayOf_16 rfl rfl ?_
    refine j_aload_n (pc := 18) M.1 dX0_mayOf_18 2 rfl ?_
    obtain ⟨v1, g1, hf⟩ := o_bind hf
    refine jx_getI (pc := 19) M xfl_X0_357 g1 dX0_mayOf_19 ?_
    refine j_istore (pc := 22) M.1 [(7, .int v1), (6, .int 0), (0, .ref o), (1, .ref x1), (2, .int x2), (3, .int x3), (4, .int a.1), (5, .int a.2.1)] dX0_mayOf_22 rfl rfl ?_
    refine j_sub [2, 3, 4, 5, 6, 7, 1, 0] (show lv_pick _ _ = [(0, .ref o), (1, .ref x1), (2, .int x2), (3, .int x3), (4, .int a.1), (5, .int a.2.1), (6, .int 0), (7, .int v1)] from rfl) ?_
    refine lp_Wc (kx0_mayOf_B24 M x1 x2 x3 a.1 a.2.1 _ ?_) F (0, v1, a.2.2) _ _ hf _ _ hkn
    · intro a1 c s hf k n hkn
      exact kx0_mayOf_87 M x1 x2 x3 a.1 a.2.1 a1.1 R hR a1.2.2 hf hkn
noncomputable def x0_mayOf (F : Nat) (x1 : Nat) (x2 : Int32) (x3 : Int32) (τ : XS) : XR Int32 :=
  lp (x0_mayOf_B6 F x1 x2 x3) F (0, 0, τ)
theorem met_x0_mayOf {l : Launch} {G : gG} {o B F : Nat} {x1 : Nat} {x2 : Int32} {x3 : Int32} {τ : XS} {r : Int32 × XS × Nat × Nat} (hf : x0_mayOf F x1 x2 x3 τ = some r) : MetX l G o B yX0_mayOf cX0_mayOf 8 (some .int) 47 [.ref o, .ref x1, .int x2, .int x3] τ (xQi G o B r.1 r.2.1) r.2.2.1 r.2.2.2 := by
  obtain ⟨v, τr, c, s⟩ := r
  refine metX_of (own := RX0) (mn := "mayOf") (by decide) rfl rfl rfl (fun γ hγ M => ?_)
  subst hγ
  show J γ (XW G o B τ) 0 0 0 [(0, .ref o), (1, .ref x1), (2, .int x2), (3, .int x3)] []
  have hkn : 0 + c ≤ c ∧ 0 + s ≤ s := ⟨by omega, by omega⟩
  unfold x0_mayOf at hf
  refine j_iconst (pc := 0) M.1 dX0_mayOf_0 kc_iconst_0 ?_
  refine j_istore (pc := 1) M.1 [(4, .int 0), (0, .ref o), (1, .ref x1), (2, .int x2), (3, .int x3)] dX0_mayOf_1 rfl rfl ?_
  refine j_iconst (pc := 3) M.1 dX0_mayOf_3 kc_iconst_0 ?_
  refine j_istore (pc := 4) M.1 [(5, .int 0), (4, .int 0), (0, .ref o), (1, .ref x1), (2, .int x2), (3, .int x3)] dX0_mayOf_4 rfl rfl ?_
  refine j_sub [2, 3, 4, 5, 1, 0] (show lv_pick _ _ = [(0, .ref o), (1, .ref x1), (2, .int x2), (3, .int x3), (4, .int 0), (5, .int 0)] from rfl) ?_
  refine lp_Wc (kx0_mayOf_B6 M x1 x2 x3) F (0, 0, τ) _ _ hf _ _ hkn
end
theorem dX0_may_0 : decode cX0_may 0 = .ok (.iload_n 1, 1) := by decide +kernel
theorem dX0_may_1 : decode cX0_may 1 = .ok (.aload_n 0, 1) := by decide +kernel
theorem dX0_may_2 : decode cX0_may 2 = .ok (.getfield 328, 3) := by decide +kernel
theorem dX0_may_5 : decode cX0_may 5 = .ok (.invokestatic 137, 3) := by decide +kernel
theorem dX0_may_8 : decode cX0_may 8 = .ok (.ifCond .eq 46, 3) := by decide +kernel
theorem dX0_may_11 : decode cX0_may 11 = .ok (.iload_n 2, 1) := by decide +kernel
theorem dX0_may_12 : decode cX0_may 12 = .ok (.invokestatic 154, 3) := by decide +kernel
theorem dX0_may_15 : decode cX0_may 15 = .ok (.ifCond .eq 39, 3) := by decide +kernel
theorem dX0_may_18 : decode cX0_may 18 = .ok (.aload_n 0, 1) := by decide +kernel
theorem dX0_may_19 : decode cX0_may 19 = .ok (.getfield 59, 3) := by decide +kernel
theorem dX0_may_22 : decode cX0_may 22 = .ok (.iload_n 1, 1) := by decide +kernel
theorem dX0_may_23 : decode cX0_may 23 = .ok (.aaload, 1) := by decide +kernel
theorem dX0_may_24 : decode cX0_may 24 = .ok (.getfield 366, 3) := by decide +kernel
theorem dX0_may_27 : decode cX0_may 27 = .ok (.iload_n 2, 1) := by decide +kernel
theorem dX0_may_28 : decode cX0_may 28 = .ok (.if_icmp .gt 26, 3) := by decide +kernel
theorem dX0_may_31 : decode cX0_may 31 = .ok (.aload_n 0, 1) := by decide +kernel
theorem dX0_may_32 : decode cX0_may 32 = .ok (.aload_n 0, 1) := by decide +kernel
theorem dX0_may_33 : decode cX0_may 33 = .ok (.getfield 59, 3) := by decide +kernel
theorem dX0_may_36 : decode cX0_may 36 = .ok (.iload_n 1, 1) := by decide +kernel
theorem dX0_may_37 : decode cX0_may 37 = .ok (.aaload, 1) := by decide +kernel
theorem dX0_may_38 : decode cX0_may 38 = .ok (.iload_n 2, 1) := by decide +kernel
theorem dX0_may_39 : decode cX0_may 39 = .ok (.aload_n 0, 1) := by decide +kernel
theorem dX0_may_40 : decode cX0_may 40 = .ok (.getfield 59, 3) := by decide +kernel
theorem dX0_may_43 : decode cX0_may 43 = .ok (.iload_n 1, 1) := by decide +kernel
theorem dX0_may_44 : decode cX0_may 44 = .ok (.aaload, 1) := by decide +kernel
theorem dX0_may_45 : decode cX0_may 45 = .ok (.getfield 340, 3) := by decide +kernel
theorem dX0_may_48 : decode cX0_may 48 = .ok (.invokevirtual 369, 3) := by decide +kernel
theorem dX0_may_51 : decode cX0_may 51 = .ok (.goto 4, 3) := by decide +kernel
theorem dX0_may_54 : decode cX0_may 54 = .ok (.iconst (-1), 1) := by decide +kernel
theorem dX0_may_55 : decode cX0_may 55 = .ok (.ireturn, 1) := by decide +kernel
section
variable {v : Int32}
noncomputable def x0_may (F : Nat) (x1 : Int32) (x2 : Int32) (τ : XS) : XR Int32 :=
  (x0_in F x1 (τ.1.1 16)).bind (fun r1 => if r1 = 0 then (some ((-1), τ, 0, 0)) else ((x0_isWeek F x2).bind (fun r2 => if r2 = 0 then (some ((-1), τ, 0, 0)) else (if okI x1 150 = true then (τ.2.1 7 x1.toNatClampNeg).bind (fun n1 => (gI τ n1 [20] 8).bind (fun v1 => if x2 < v1 then (some ((-1), τ, 0, 0)) else (if okI x1 150 = true then (τ.2.1 7 x1.toNatClampNeg).bind (fun n2 => if okI x1 150 = true then (τ.2.1 7 x1.toNatClampNeg).bind (fun n3 => (gI τ n3 [20] 0).bind (fun v2 => (x0_mayOf F n2 x2 v2 τ).bind (fun r3 => tk r3.2.2.1 r3.2.2.2 (some (r3.1, r3.2.1, 0, 0))))) else none) else none))) else none))))
theorem met_x0_may {l : Launch} {G : gG} {o B F : Nat} {x1 : Int32} {x2 : Int32} {τ : XS} {r : Int32 × XS × Nat × Nat} (hf : x0_may F x1 x2 τ = some r) : MetX l G o B yX0_may cX0_may 3 (some .int) 48 [.ref o, .int x1, .int x2] τ (xQi G o B r.1 r.2.1) r.2.2.1 r.2.2.2 := by
  obtain ⟨v, τr, c, s⟩ := r
  refine metX_of (own := RX0) (mn := "may") (by decide) rfl rfl rfl (fun γ hγ M => ?_)
  subst hγ
  show J γ (XW G o B τ) 0 0 0 [(0, .ref o), (1, .int x1), (2, .int x2)] []
  have hkn : 0 + c ≤ c ∧ 0 + s ≤ s := ⟨by omega, by omega⟩
  unfold x0_may at hf
  refine j_iload_n (pc := 0) M.1 dX0_may_0 1 rfl ?_
  refine j_aload_n (pc := 1) M.1 dX0_may_1 0 rfl ?_
  refine jx_getS (pc := 2) M xfs_328 dX0_may_2 ?_
  obtain ⟨r1, g1, hf⟩ := o_bind hf
  refine jx_calls (pc := 5) (As := [.int x1, .int (τ.1.1 16)]) (rest := []) M xcs_X0_137 (met_x0_in g1) rfl rfl rfl rfl dX0_may_5 (kn_le0 hkn) ?_
  refine j_if_eq (pc := 8) M.1 54 dX0_may_8 rfl (fun b1 => ?_) (fun b1 => ?_)
  · replace hf := o_pos b1 hf
    refine j_iconst (pc := 54) M.1 dX0_may_54 kc_iconst_m1 ?_
    exact jx_iretF (pc := 55) M dX0_may_55 hf hkn
  · replace hf := o_neg b1 hf
    refine j_iload_n (pc := 11) M.1 dX0_may_11 2 rfl ?_
    obtain ⟨r2, g2, hf⟩ := o_bind hf
    refine jx_calls (pc := 12) (As := [.int x2]) (rest := []) M xcs_X0_154 (met_x0_isWeek g2) rfl rfl rfl rfl dX0_may_12 (kn_le0 hkn) ?_
    refine j_if_eq (pc := 15) M.1 54 dX0_may_15 rfl (fun b2 => ?_) (fun b2 => ?_)
    · replace hf := o_pos b2 hf
      refine j_iconst (pc := 54) M.1 dX0_may_54 kc_iconst_m1 ?_
      exact jx_iretF (pc := 55) M dX0_may_55 hf hkn
    · replace hf := o_neg b2 hf
      refine j_aload_n (pc := 18) M.1 dX0_may_18 0 rfl ?_
      refine jx_getA (pc := 19) M xfa_59 dX0_may_19 ?_
      refine j_iload_n (pc := 22) M.1 dX0_may_22 1 rfl ?_
      obtain ⟨b3, hf⟩ := o_need hf
      obtain ⟨n1, g3, hf⟩ := o_bind hf
      refine jx_aald (pc := 23) M xax_7 (by decide) xrt_7 b3 g3 dX0_may_23 ?_
      obtain ⟨v1, g4, hf⟩ := o_bind hf
      refine jx_getI (pc := 24) M xfl_X0_366 g4 dX0_may_24 ?_
      refine j_iload_n (pc := 27) M.1 dX0_may_27 2 rfl ?_
      refine j_icmp_gt (pc := 28) M.1 54 dX0_may_28 rfl (fun b4 => ?_) (fun b4 => ?_)
      · replace hf := o_pos b4 hf
        refine j_iconst (pc := 54) M.1 dX0_may_54 kc_iconst_m1 ?_
        exact jx_iretF (pc := 55) M dX0_may_55 hf hkn
      · replace hf := o_neg b4 hf
        refine j_aload_n (pc := 31) M.1 dX0_may_31 0 rfl ?_
        refine j_aload_n (pc := 32) M.1 dX0_may_32 0 rfl ?_
        refine jx_getA (pc := 33) M xfa_59 dX0_may_33 ?_
        refine j_iload_n (pc := 36) M.1 dX0_may_36 1 rfl ?_
        obtain ⟨b5, hf⟩ := o_need hf
        obtain ⟨n2, g5, hf⟩ := o_bind hf
        refine jx_aald (pc := 37) M xax_7 (by decide) xrt_7 b5 g5 dX0_may_37 ?_
        refine j_iload_n (pc := 38) M.1 dX0_may_38 2 rfl ?_
        refine j_aload_n (pc := 39) M.1 dX0_may_39 0 rfl ?_
        refine jx_getA (pc := 40) M xfa_59 dX0_may_40 ?_
        refine j_iload_n (pc := 43) M.1 dX0_may_43 1 rfl ?_
        obtain ⟨b6, hf⟩ := o_need hf
        obtain ⟨n3, g6, hf⟩ := o_bind hf
        refine jx_aald (pc := 44) M xax_7 (by decide) xrt_7 b6 g6 dX0_may_44 ?_
        obtain ⟨v2, g7, hf⟩ := o_bind hf
        refine jx_getI (pc := 45) M xfl_X0_340 g7 dX0_may_45 ?_
        obtain ⟨r3, g8, hf⟩ := o_bind hf
        obtain ⟨c1, s1, hf, hc1, hs1⟩ := o_tk hf
        replace hkn := kn_step hkn hc1 hs1
        refine jx_i M (x_runV (pc := 48) (As := [.ref n2, .int x2, .int v2]) (rest := []) (V := xV o τ) M xcw_X0_369 (met_x0_mayOf g8) (fun H h => h.1 o _ xH_o) (by decide) rfl rfl rfl dX0_may_48 (kn_le hkn)) ?_
        refine j_goto (pc := 51) M.1 55 dX0_may_51 rfl ?_
        exact jx_iretF (pc := 55) M dX0_may_55 hf hkn
end
theorem dX0_sure_0 : decode cX0_sure 0 = .ok (.iload_n 1, 1) := by decide +kernel
theorem dX0_sure_1 : decode cX0_sure 1 = .ok (.invokestatic 154, 3) := by decide +kernel
theorem dX0_sure_4 : decode cX0_sure 4 = .ok (.ifCond .ne 5, 3) := by decide +kernel
theorem dX0_sure_7 : decode cX0_sure 7 = .ok (.iconst (-1), 1) := by decide +kernel
theorem dX0_sure_8 : decode cX0_sure 8 = .ok (.ireturn, 1) := by decide +kernel
theorem dX0_sure_9 : decode cX0_sure 9 = .ok (.iconst 0, 1) := by decide +kernel
theorem dX0_sure_10 : decode cX0_sure 10 = .ok (.istore_n 2, 1) := by decide +kernel
theorem dX0_sure_11 : decode cX0_sure 11 = .ok (.iconst 0, 1) := by decide +kernel
theorem dX0_sure_12 : decode cX0_sure 12 = .ok (.istore_n 3, 1) := by decide +kernel
theorem dX0_sure_13 : decode cX0_sure 13 = .ok (.iload_n 3, 1) := by decide +kernel
theorem dX0_sure_14 : decode cX0_sure 14 = .ok (.aload_n 0, 1) := by decide +kernel
theorem dX0_sure_15 : decode cX0_sure 15 = .ok (.getfield 328, 3) := by decide +kernel
theorem dX0_sure_18 : decode cX0_sure 18 = .ok (.if_icmp .ge 57, 3) := by decide +kernel
theorem dX0_sure_21 : decode cX0_sure 21 = .ok (.iload_n 2, 1) := by decide +kernel
theorem dX0_sure_22 : decode cX0_sure 22 = .ok (.aload_n 0, 1) := by decide +kernel
theorem dX0_sure_23 : decode cX0_sure 23 = .ok (.getfield 59, 3) := by decide +kernel
theorem dX0_sure_26 : decode cX0_sure 26 = .ok (.iload_n 3, 1) := by decide +kernel
theorem dX0_sure_27 : decode cX0_sure 27 = .ok (.aaload, 1) := by decide +kernel
theorem dX0_sure_28 : decode cX0_sure 28 = .ok (.getfield 366, 3) := by decide +kernel
theorem dX0_sure_31 : decode cX0_sure 31 = .ok (.iload_n 1, 1) := by decide +kernel
theorem dX0_sure_32 : decode cX0_sure 32 = .ok (.if_icmp .gt 34, 3) := by decide +kernel
theorem dX0_sure_35 : decode cX0_sure 35 = .ok (.aload_n 0, 1) := by decide +kernel
theorem dX0_sure_36 : decode cX0_sure 36 = .ok (.aload_n 0, 1) := by decide +kernel
theorem dX0_sure_37 : decode cX0_sure 37 = .ok (.getfield 59, 3) := by decide +kernel
theorem dX0_sure_40 : decode cX0_sure 40 = .ok (.iload_n 3, 1) := by decide +kernel
theorem dX0_sure_41 : decode cX0_sure 41 = .ok (.aaload, 1) := by decide +kernel
theorem dX0_sure_42 : decode cX0_sure 42 = .ok (.iload_n 1, 1) := by decide +kernel
theorem dX0_sure_43 : decode cX0_sure 43 = .ok (.aload_n 0, 1) := by decide +kernel
theorem dX0_sure_44 : decode cX0_sure 44 = .ok (.getfield 59, 3) := by decide +kernel
theorem dX0_sure_47 : decode cX0_sure 47 = .ok (.iload_n 3, 1) := by decide +kernel
theorem dX0_sure_48 : decode cX0_sure 48 = .ok (.aaload, 1) := by decide +kernel
theorem dX0_sure_49 : decode cX0_sure 49 = .ok (.getfield 340, 3) := by decide +kernel
theorem dX0_sure_52 : decode cX0_sure 52 = .ok (.invokevirtual 369, 3) := by decide +kernel
theorem dX0_sure_55 : decode cX0_sure 55 = .ok (.invokestatic 373, 3) := by decide +kernel
theorem dX0_sure_58 : decode cX0_sure 58 = .ok (.iconst 1, 1) := by decide +kernel
theorem dX0_sure_59 : decode cX0_sure 59 = .ok (.if_icmp .ne 7, 3) := by decide +kernel
theorem dX0_sure_62 : decode cX0_sure 62 = .ok (.iconst 1, 1) := by decide +kernel
theorem dX0_sure_63 : decode cX0_sure 63 = .ok (.goto 4, 3) := by decide +kernel
theorem dX0_sure_66 : decode cX0_sure 66 = .ok (.iconst 0, 1) := by decide +kernel
theorem dX0_sure_67 : decode cX0_sure 67 = .ok (.iadd, 1) := by decide +kernel
theorem dX0_sure_68 : decode cX0_sure 68 = .ok (.istore_n 2, 1) := by decide +kernel
theorem dX0_sure_69 : decode cX0_sure 69 = .ok (.iinc 3 1, 3) := by decide +kernel
theorem dX0_sure_72 : decode cX0_sure 72 = .ok (.goto (-59), 3) := by decide +kernel
theorem dX0_sure_75 : decode cX0_sure 75 = .ok (.iload_n 2, 1) := by decide +kernel
theorem dX0_sure_76 : decode cX0_sure 76 = .ok (.ireturn, 1) := by decide +kernel
section
variable {v : Int32}
noncomputable def x0_sure_B13 (F : Nat) (x1 : Int32) (R : Int32 × Int32 × XS → XR Int32) (a : Int32 × Int32 × XS) : XR Int32 :=
  if (a.2.2.1.1 16) ≤ a.2.1 then (some (a.1, a.2.2, 0, 0)) else (if okI a.2.1 150 = true then (a.2.2.2.1 7 a.2.1.toNatClampNeg).bind (fun n1 => (gI a.2.2 n1 [20] 8).bind (fun v1 => if x1 < v1 then (R (a.1 + 0, a.2.1 + 1, a.2.2)) else (if okI a.2.1 150 = true then (a.2.2.2.1 7 a.2.1.toNatClampNeg).bind (fun n2 => if okI a.2.1 150 = true then (a.2.2.2.1 7 a.2.1.toNatClampNeg).bind (fun n3 => (gI a.2.2 n3 [20] 0).bind (fun v2 => (x0_mayOf F n2 x1 v2 a.2.2).bind (fun r1 => tk r1.2.2.1 r1.2.2.2 ((x0_sizeOf F r1.1).bind (fun r2 => if r2 = 1 then (R (a.1 + 1, a.2.1 + 1, r1.2.1)) else (R (a.1 + 0, a.2.1 + 1, r1.2.1))))))) else none) else none))) else none)
theorem kx0_sure_B13 (M : XC γ cX0_sure 4 RX0 "sure" G o B 48 (some .int) (xQi G o B v τr) c0 s0) (x1 : Int32) : ∀ R : Int32 × Int32 × XS → XR Int32, (∀ a c s, R a = some (v, τr, c, s) → ∀ k n, k + c ≤ c0 ∧ n + s ≤ s0 → J γ (XW G o B a.2.2) k n 13 [(0, .ref o), (1, .int x1), (2, .int a.1), (3, .int a.2.1)] []) → ∀ a c s, x0_sure_B13 F x1 R a = some (v, τr, c, s) → ∀ k n, k + c ≤ c0 ∧ n + s ≤ s0 → J γ (XW G o B a.2.2) k n 13 [(0, .ref o), (1, .int x1), (2, .int a.1), (3, .int a.2.1)] [] := by
  intro R hR a c s hf k n hkn
  unfold x0_sure_B13 at hf
  refine j_iload_n (pc := 13) M.1 dX0_sure_13 3 rfl ?_
  refine j_aload_n (pc := 14) M.1 dX0_sure_14 0 rfl ?_
  refine jx_getS (pc := 15) M xfs_328 dX0_sure_15 ?_
  refine j_icmp_ge (pc := 18) M.1 75 dX0_sure_18 rfl (fun b1 => ?_) (fun b1 => ?_)
  · replace hf := o_pos b1 hf
    refine j_iload_n (pc := 75) M.1 dX0_sure_75 2 rfl ?_
    exact jx_iretF (pc := 76) M dX0_sure_76 hf hkn
  · replace hf := o_neg b1 hf
    refine j_iload_n (pc := 21) M.1 dX0_sure_21 2 rfl ?_
    refine j_aload_n (pc := 22) M.1 dX0_sure_22 0 rfl ?_
    refine jx_getA (pc := 23) M xfa_59 dX0_sure_23 ?_
    refine j_iload_n (pc := 26) M.1 dX0_sure_26 3 rfl ?_
    obtain ⟨b2, hf⟩ := o_need hf
    obtain ⟨n1, g1, hf⟩ := o_bind hf
    refine jx_aald (pc := 27) M xax_7 (by decide) xrt_7 b2 g1 dX0_sure_27 ?_
    obtain ⟨v1, g2, hf⟩ := o_bind hf
    refine jx_getI (pc := 28) M xfl_X0_366 g2 dX0_sure_28 ?_
    refine j_iload_n (pc := 31) M.1 dX0_sure_31 1 rfl ?_
    refine j_icmp_gt (pc := 32) M.1 66 dX0_sure_32 rfl (fun b3 => ?_) (fun b3 => ?_)
    · replace hf := o_pos b3 hf
      refine j_iconst (pc := 66) M.1 dX0_sure_66 kc_iconst_0 ?_
      refine j_iadd (pc := 67) M.1 dX0_sure_67 ?_
      refine j_istore_n (pc := 68) M.1 [(2, .int (a.1 + 0)), (0, .ref o), (1, .int x1), (3, .int a.2.1)] dX0_sure_68 rfl rfl ?_
      refine j_iinc (pc := 69) M.1 [(3, .int (a.2.1 + 1)), (2, .int (a.1 + 0)), (0, .ref o), (1, .int x1)] dX0_sure_69 3 rfl (congrArg _ kc_iconst_1) rfl rfl ?_
      refine j_goto (pc := 72) M.1 13 dX0_sure_72 rfl ?_
      refine j_sub [2, 3, 1, 0] (show lv_pick _ _ = [(0, .ref o), (1, .int x1), (2, .int (a.1 + 0)), (3, .int (a.2.1 + 1))] from rfl) ?_
      have hy := hR _ _ _ hf _ _ hkn
      exact hy
    · replace hf := o_neg b3 hf
      refine j_aload_n (pc := 35) M.1 dX0_sure_35 0 rfl ?_
      refine j_aload_n (pc := 36) M.1 dX0_sure_36 0 rfl ?_
      refine jx_getA (pc := 37) M xfa_59 dX0_sure_37 ?_
      refine j_iload_n (pc := 40) M.1 dX0_sure_40 3 rfl ?_
      obtain ⟨b4, hf⟩ := o_need hf
      obtain ⟨n2, g3, hf⟩ := o_bind hf
      refine jx_aald (pc := 41) M xax_7 (by decide) xrt_7 b4 g3 dX0_sure_41 ?_
      refine j_iload_n (pc := 42) M.1 dX0_sure_42 1 rfl ?_
      refine j_aload_n (pc := 43) M.1 dX0_sure_43 0 rfl ?_
      refine jx_getA (pc := 44) M xfa_59 dX0_sure_44 ?_
      refine j_iload_n (pc := 47) M.1 dX0_sure_47 3 rfl ?_
      obtain ⟨b5, hf⟩ := o_need hf
      obtain ⟨n3, g4, hf⟩ := o_bind hf
      refine jx_aald (pc := 48) M xax_7 (by decide) xrt_7 b5 g4 dX0_sure_48 ?_
      obtain ⟨v2, g5, hf⟩ := o_bind hf
      refine jx_getI (pc := 49) M xfl_X0_340 g5 dX0_sure_49 ?_
      obtain ⟨r1, g6, hf⟩ := o_bind hf
      obtain ⟨c1, s1, hf, hc1, hs1⟩ := o_tk hf
      replace hkn := kn_step hkn hc1 hs1
      refine jx_i M (x_runV (pc := 52) (As := [.ref n2, .int x1, .int v2]) (rest := [.int a.1]) (V := xV o a.2.2) M xcw_X0_369 (met_x0_mayOf g6) (fun H h => h.1 o _ xH_o) (by decide) rfl rfl rfl dX0_sure_52 (kn_le hkn)) ?_
      obtain ⟨r2, g7, hf⟩ := o_bind hf
      refine jx_calls (pc := 55) (As := [.int r1.1]) (rest := [.int a.1]) M xcs_X0_373 (met_x0_sizeOf g7) rfl rfl rfl rfl dX0_sure_55 (kn_le0 hkn) ?_
      refine j_iconst (pc := 58) M.1 dX0_sure_58 kc_iconst_1 ?_
      refine j_icmp_ne (pc := 59) M.1 66 dX0_sure_59 rfl (fun b6 => ?_) (fun b6 => ?_)
      · replace hf := o_neg b6 hf
        refine j_iconst (pc := 66) M.1 dX0_sure_66 kc_iconst_0 ?_
        refine j_iadd (pc := 67) M.1 dX0_sure_67 ?_
        refine j_istore_n (pc := 68) M.1 [(2, .int (a.1 + 0)), (0, .ref o), (1, .int x1), (3, .int a.2.1)] dX0_sure_68 rfl rfl ?_
        refine j_iinc (pc := 69) M.1 [(3, .int (a.2.1 + 1)), (2, .int (a.1 + 0)), (0, .ref o), (1, .int x1)] dX0_sure_69 3 rfl (congrArg _ kc_iconst_1) rfl rfl ?_
        refine j_goto (pc := 72) M.1 13 dX0_sure_72 rfl ?_
        refine j_sub [2, 3, 1, 0] (show lv_pick _ _ = [(0, .ref o), (1, .int x1), (2, .int (a.1 + 0)), (3, .int (a.2.1 + 1))] from rfl) ?_
        have hy := hR _ _ _ hf _ _ hkn
        exact hy
      · replace hf := o_pos b6 hf
        refine j_iconst (pc := 62) M.1 dX0_sure_62 kc_iconst_1 ?_
        refine j_goto (pc := 63) M.1 67 dX0_sure_63 rfl ?_
        refine j_iadd (pc := 67) M.1 dX0_sure_67 ?_
        refine j_istore_n (pc := 68) M.1 [(2, .int (a.1 + 1)), (0, .ref o), (1, .int x1), (3, .int a.2.1)] dX0_sure_68 rfl rfl ?_
        refine j_iinc (pc := 69) M.1 [(3, .int (a.2.1 + 1)), (2, .int (a.1 + 1)), (0, .ref o), (1, .int x1)] dX0_sure_69 3 rfl (congrArg _ kc_iconst_1) rfl rfl ?_
        refine j_goto (pc := 72) M.1 13 dX0_sure_72 rfl ?_
        refine j_sub [2, 3, 1, 0] (show lv_pick _ _ = [(0, .ref o), (1, .int x1), (2, .int (a.1 + 1)), (3, .int (a.2.1 + 1))] from rfl) ?_
        have hy := hR _ _ _ hf _ _ hkn
        exact hy
noncomputable def x0_sure (F : Nat) (x1 : Int32) (τ : XS) : XR Int32 :=
  (x0_isWeek F x1).bind (fun r1 => if r1 = 0 then (some ((-1), τ, 0, 0)) else (lp (x0_sure_B13 F x1) F (0, 0, τ)))
theorem met_x0_sure {l : Launch} {G : gG} {o B F : Nat} {x1 : Int32} {τ : XS} {r : Int32 × XS × Nat × Nat} (hf : x0_sure F x1 τ = some r) : MetX l G o B yX0_sure cX0_sure 4 (some .int) 48 [.ref o, .int x1] τ (xQi G o B r.1 r.2.1) r.2.2.1 r.2.2.2 := by
  obtain ⟨v, τr, c, s⟩ := r
  refine metX_of (own := RX0) (mn := "sure") (by decide) rfl rfl rfl (fun γ hγ M => ?_)
  subst hγ
  show J γ (XW G o B τ) 0 0 0 [(0, .ref o), (1, .int x1)] []
  have hkn : 0 + c ≤ c ∧ 0 + s ≤ s := ⟨by omega, by omega⟩
  unfold x0_sure at hf
  refine j_iload_n (pc := 0) M.1 dX0_sure_0 1 rfl ?_
  obtain ⟨r1, g1, hf⟩ := o_bind hf
  refine jx_calls (pc := 1) (As := [.int x1]) (rest := []) M xcs_X0_154 (met_x0_isWeek g1) rfl rfl rfl rfl dX0_sure_1 (kn_le0 hkn) ?_
  refine j_if_ne (pc := 4) M.1 9 dX0_sure_4 rfl (fun b1 => ?_) (fun b1 => ?_)
  · replace hf := o_neg b1 hf
    refine j_iconst (pc := 9) M.1 dX0_sure_9 kc_iconst_0 ?_
    refine j_istore_n (pc := 10) M.1 [(2, .int 0), (0, .ref o), (1, .int x1)] dX0_sure_10 rfl rfl ?_
    refine j_iconst (pc := 11) M.1 dX0_sure_11 kc_iconst_0 ?_
    refine j_istore_n (pc := 12) M.1 [(3, .int 0), (2, .int 0), (0, .ref o), (1, .int x1)] dX0_sure_12 rfl rfl ?_
    refine j_sub [2, 3, 1, 0] (show lv_pick _ _ = [(0, .ref o), (1, .int x1), (2, .int 0), (3, .int 0)] from rfl) ?_
    refine lp_Wc (kx0_sure_B13 M x1) F (0, 0, τ) _ _ hf _ _ hkn
  · replace hf := o_pos b1 hf
    refine j_iconst (pc := 7) M.1 dX0_sure_7 kc_iconst_m1 ?_
    exact jx_iretF (pc := 8) M dX0_sure_8 hf hkn
end
theorem dX0_nowhere_0 : decode cX0_nowhere 0 = .ok (.iload_n 1, 1) := by decide +kernel
theorem dX0_nowhere_1 : decode cX0_nowhere 1 = .ok (.ifCond .lt 10, 3) := by decide +kernel
theorem dX0_nowhere_4 : decode cX0_nowhere 4 = .ok (.iload_n 2, 1) := by decide +kernel
theorem dX0_nowhere_5 : decode cX0_nowhere 5 = .ok (.invokestatic 154, 3) := by decide +kernel
theorem dX0_nowhere_8 : decode cX0_nowhere 8 = .ok (.ifCond .ne 5, 3) := by decide +kernel
theorem dX0_nowhere_11 : decode cX0_nowhere 11 = .ok (.iconst (-1), 1) := by decide +kernel
theorem dX0_nowhere_12 : decode cX0_nowhere 12 = .ok (.ireturn, 1) := by decide +kernel
theorem dX0_nowhere_13 : decode cX0_nowhere 13 = .ok (.iconst 0, 1) := by decide +kernel
theorem dX0_nowhere_14 : decode cX0_nowhere 14 = .ok (.istore_n 3, 1) := by decide +kernel
theorem dX0_nowhere_15 : decode cX0_nowhere 15 = .ok (.iconst 0, 1) := by decide +kernel
theorem dX0_nowhere_16 : decode cX0_nowhere 16 = .ok (.istore 4, 2) := by decide +kernel
theorem dX0_nowhere_18 : decode cX0_nowhere 18 = .ok (.iload 4, 2) := by decide +kernel
theorem dX0_nowhere_20 : decode cX0_nowhere 20 = .ok (.aload_n 0, 1) := by decide +kernel
theorem dX0_nowhere_21 : decode cX0_nowhere 21 = .ok (.getfield 328, 3) := by decide +kernel
theorem dX0_nowhere_24 : decode cX0_nowhere 24 = .ok (.if_icmp .ge 62, 3) := by decide +kernel
theorem dX0_nowhere_27 : decode cX0_nowhere 27 = .ok (.aload_n 0, 1) := by decide +kernel
theorem dX0_nowhere_28 : decode cX0_nowhere 28 = .ok (.getfield 59, 3) := by decide +kernel
theorem dX0_nowhere_31 : decode cX0_nowhere 31 = .ok (.iload 4, 2) := by decide +kernel
theorem dX0_nowhere_33 : decode cX0_nowhere 33 = .ok (.aaload, 1) := by decide +kernel
theorem dX0_nowhere_34 : decode cX0_nowhere 34 = .ok (.getfield 366, 3) := by decide +kernel
theorem dX0_nowhere_37 : decode cX0_nowhere 37 = .ok (.iload_n 2, 1) := by decide +kernel
theorem dX0_nowhere_38 : decode cX0_nowhere 38 = .ok (.if_icmp .gt 42, 3) := by decide +kernel
theorem dX0_nowhere_41 : decode cX0_nowhere 41 = .ok (.aload_n 0, 1) := by decide +kernel
theorem dX0_nowhere_42 : decode cX0_nowhere 42 = .ok (.aload_n 0, 1) := by decide +kernel
theorem dX0_nowhere_43 : decode cX0_nowhere 43 = .ok (.getfield 59, 3) := by decide +kernel
theorem dX0_nowhere_46 : decode cX0_nowhere 46 = .ok (.iload 4, 2) := by decide +kernel
theorem dX0_nowhere_48 : decode cX0_nowhere 48 = .ok (.aaload, 1) := by decide +kernel
theorem dX0_nowhere_49 : decode cX0_nowhere 49 = .ok (.iload_n 2, 1) := by decide +kernel
theorem dX0_nowhere_50 : decode cX0_nowhere 50 = .ok (.aload_n 0, 1) := by decide +kernel
theorem dX0_nowhere_51 : decode cX0_nowhere 51 = .ok (.getfield 59, 3) := by decide +kernel
theorem dX0_nowhere_54 : decode cX0_nowhere 54 = .ok (.iload 4, 2) := by decide +kernel
theorem dX0_nowhere_56 : decode cX0_nowhere 56 = .ok (.aaload, 1) := by decide +kernel
theorem dX0_nowhere_57 : decode cX0_nowhere 57 = .ok (.getfield 340, 3) := by decide +kernel
theorem dX0_nowhere_60 : decode cX0_nowhere 60 = .ok (.invokevirtual 369, 3) := by decide +kernel
theorem dX0_nowhere_63 : decode cX0_nowhere 63 = .ok (.ifCond .eq 6, 3) := by decide +kernel
theorem dX0_nowhere_66 : decode cX0_nowhere 66 = .ok (.goto 14, 3) := by decide +kernel
theorem dX0_nowhere_69 : decode cX0_nowhere 69 = .ok (.iload_n 3, 1) := by decide +kernel
theorem dX0_nowhere_70 : decode cX0_nowhere 70 = .ok (.iload_n 1, 1) := by decide +kernel
theorem dX0_nowhere_71 : decode cX0_nowhere 71 = .ok (.if_icmp .ne 6, 3) := by decide +kernel
theorem dX0_nowhere_74 : decode cX0_nowhere 74 = .ok (.iload 4, 2) := by decide +kernel
theorem dX0_nowhere_76 : decode cX0_nowhere 76 = .ok (.ireturn, 1) := by decide +kernel
theorem dX0_nowhere_77 : decode cX0_nowhere 77 = .ok (.iinc 3 1, 3) := by decide +kernel
theorem dX0_nowhere_80 : decode cX0_nowhere 80 = .ok (.iinc 4 1, 3) := by decide +kernel
theorem dX0_nowhere_83 : decode cX0_nowhere 83 = .ok (.goto (-65), 3) := by decide +kernel
theorem dX0_nowhere_86 : decode cX0_nowhere 86 = .ok (.iconst (-1), 1) := by decide +kernel
theorem dX0_nowhere_87 : decode cX0_nowhere 87 = .ok (.ireturn, 1) := by decide +kernel
section
variable {v : Int32}
noncomputable def x0_nowhere_B18 (F : Nat) (x1 : Int32) (x2 : Int32) (R : Int32 × Int32 × XS → XR Int32) (a : Int32 × Int32 × XS) : XR Int32 :=
  if (a.2.2.1.1 16) ≤ a.2.1 then (some ((-1), a.2.2, 0, 0)) else (if okI a.2.1 150 = true then (a.2.2.2.1 7 a.2.1.toNatClampNeg).bind (fun n1 => (gI a.2.2 n1 [20] 8).bind (fun v1 => if x2 < v1 then (R (a.1, a.2.1 + 1, a.2.2)) else (if okI a.2.1 150 = true then (a.2.2.2.1 7 a.2.1.toNatClampNeg).bind (fun n2 => if okI a.2.1 150 = true then (a.2.2.2.1 7 a.2.1.toNatClampNeg).bind (fun n3 => (gI a.2.2 n3 [20] 0).bind (fun v2 => (x0_mayOf F n2 x2 v2 a.2.2).bind (fun r1 => tk r1.2.2.1 r1.2.2.2 (if r1.1 = 0 then (if a.1 = x1 then (some (a.2.1, r1.2.1, 0, 0)) else (R (a.1 + 1, a.2.1 + 1, r1.2.1))) else (R (a.1, a.2.1 + 1, r1.2.1)))))) else none) else none))) else none)
theorem kx0_nowhere_B18 (M : XC γ cX0_nowhere 5 RX0 "nowhere" G o B 48 (some .int) (xQi G o B v τr) c0 s0) (x1 : Int32) (x2 : Int32) : ∀ R : Int32 × Int32 × XS → XR Int32, (∀ a c s, R a = some (v, τr, c, s) → ∀ k n, k + c ≤ c0 ∧ n + s ≤ s0 → J γ (XW G o B a.2.2) k n 18 [(0, .ref o), (1, .int x1), (2, .int x2), (3, .int a.1), (4, .int a.2.1)] []) → ∀ a c s, x0_nowhere_B18 F x1 x2 R a = some (v, τr, c, s) → ∀ k n, k + c ≤ c0 ∧ n + s ≤ s0 → J γ (XW G o B a.2.2) k n 18 [(0, .ref o), (1, .int x1), (2, .int x2), (3, .int a.1), (4, .int a.2.1)] [] := by
  intro R hR a c s hf k n hkn
  unfold x0_nowhere_B18 at hf
  refine j_iload (pc := 18) M.1 dX0_nowhere_18 4 rfl ?_
  refine j_aload_n (pc := 20) M.1 dX0_nowhere_20 0 rfl ?_
  refine jx_getS (pc := 21) M xfs_328 dX0_nowhere_21 ?_
  refine j_icmp_ge (pc := 24) M.1 86 dX0_nowhere_24 rfl (fun b1 => ?_) (fun b1 => ?_)
  · replace hf := o_pos b1 hf
    refine j_iconst (pc := 86) M.1 dX0_nowhere_86 kc_iconst_m1 ?_
    exact jx_iretF (pc := 87) M dX0_nowhere_87 hf hkn
  · replace hf := o_neg b1 hf
    refine j_aload_n (pc := 27) M.1 dX0_nowhere_27 0 rfl ?_
    refine jx_getA (pc := 28) M xfa_59 dX0_nowhere_28 ?_
    refine j_iload (pc := 31) M.1 dX0_nowhere_31 4 rfl ?_
    obtain ⟨b2, hf⟩ := o_need hf
    obtain ⟨n1, g1, hf⟩ := o_bind hf
    refine jx_aald (pc := 33) M xax_7 (by decide) xrt_7 b2 g1 dX0_nowhere_33 ?_
    obtain ⟨v1, g2, hf⟩ := o_bind hf
    refine jx_getI (pc := 34) M xfl_X0_366 g2 dX0_nowhere_34 ?_
    refine j_iload_n (pc := 37) M.1 dX0_nowhere_37 2 rfl ?_
    refine j_icmp_gt (pc := 38) M.1 80 dX0_nowhere_38 rfl (fun b3 => ?_) (fun b3 => ?_)
    · replace hf := o_pos b3 hf
      refine j_iinc (pc := 80) M.1 [(4, .int (a.2.1 + 1)), (0, .ref o), (1, .int x1), (2, .int x2), (3, .int a.1)] dX0_nowhere_80 4 rfl (congrArg _ kc_iconst_1) rfl rfl ?_
      refine j_goto (pc := 83) M.1 18 dX0_nowhere_83 rfl ?_
      refine j_sub [1, 2, 3, 4, 0] (show lv_pick _ _ = [(0, .ref o), (1, .int x1), (2, .int x2), (3, .int a.1), (4, .int (a.2.1 + 1))] from rfl) ?_
      have hy := hR _ _ _ hf _ _ hkn
      exact hy
    · replace hf := o_neg b3 hf
      refine j_aload_n (pc := 41) M.1 dX0_nowhere_41 0 rfl ?_
      refine j_aload_n (pc := 42) M.1 dX0_nowhere_42 0 rfl ?_
      refine jx_getA (pc := 43) M xfa_59 dX0_nowhere_43 ?_
      refine j_iload (pc := 46) M.1 dX0_nowhere_46 4 rfl ?_
      obtain ⟨b4, hf⟩ := o_need hf
      obtain ⟨n2, g3, hf⟩ := o_bind hf
      refine jx_aald (pc := 48) M xax_7 (by decide) xrt_7 b4 g3 dX0_nowhere_48 ?_
      refine j_iload_n (pc := 49) M.1 dX0_nowhere_49 2 rfl ?_
      refine j_aload_n (pc := 50) M.1 dX0_nowhere_50 0 rfl ?_
      refine jx_getA (pc := 51) M xfa_59 dX0_nowhere_51 ?_
      refine j_iload (pc := 54) M.1 dX0_nowhere_54 4 rfl ?_
      obtain ⟨b5, hf⟩ := o_need hf
      obtain ⟨n3, g4, hf⟩ := o_bind hf
      refine jx_aald (pc := 56) M xax_7 (by decide) xrt_7 b5 g4 dX0_nowhere_56 ?_
      obtain ⟨v2, g5, hf⟩ := o_bind hf
      refine jx_getI (pc := 57) M xfl_X0_340 g5 dX0_nowhere_57 ?_
      obtain ⟨r1, g6, hf⟩ := o_bind hf
      obtain ⟨c1, s1, hf, hc1, hs1⟩ := o_tk hf
      replace hkn := kn_step hkn hc1 hs1
      refine jx_i M (x_runV (pc := 60) (As := [.ref n2, .int x2, .int v2]) (rest := []) (V := xV o a.2.2) M xcw_X0_369 (met_x0_mayOf g6) (fun H h => h.1 o _ xH_o) (by decide) rfl rfl rfl dX0_nowhere_60 (kn_le hkn)) ?_
      refine j_if_eq (pc := 63) M.1 69 dX0_nowhere_63 rfl (fun b6 => ?_) (fun b6 => ?_)
      · replace hf := o_pos b6 hf
        refine j_iload_n (pc := 69) M.1 dX0_nowhere_69 3 rfl ?_
        refine j_iload_n (pc := 70) M.1 dX0_nowhere_70 1 rfl ?_
        refine j_icmp_ne (pc := 71) M.1 77 dX0_nowhere_71 rfl (fun b7 => ?_) (fun b7 => ?_)
        · replace hf := o_neg b7 hf
          refine j_iinc (pc := 77) M.1 [(3, .int (a.1 + 1)), (0, .ref o), (1, .int x1), (2, .int x2), (4, .int a.2.1)] dX0_nowhere_77 3 rfl (congrArg _ kc_iconst_1) rfl rfl ?_
          refine j_iinc (pc := 80) M.1 [(4, .int (a.2.1 + 1)), (3, .int (a.1 + 1)), (0, .ref o), (1, .int x1), (2, .int x2)] dX0_nowhere_80 4 rfl (congrArg _ kc_iconst_1) rfl rfl ?_
          refine j_goto (pc := 83) M.1 18 dX0_nowhere_83 rfl ?_
          refine j_sub [2, 3, 4, 1, 0] (show lv_pick _ _ = [(0, .ref o), (1, .int x1), (2, .int x2), (3, .int (a.1 + 1)), (4, .int (a.2.1 + 1))] from rfl) ?_
          have hy := hR _ _ _ hf _ _ hkn
          exact hy
        · replace hf := o_pos b7 hf
          refine j_iload (pc := 74) M.1 dX0_nowhere_74 4 rfl ?_
          exact jx_iretF (pc := 76) M dX0_nowhere_76 hf hkn
      · replace hf := o_neg b6 hf
        refine j_goto (pc := 66) M.1 80 dX0_nowhere_66 rfl ?_
        refine j_iinc (pc := 80) M.1 [(4, .int (a.2.1 + 1)), (0, .ref o), (1, .int x1), (2, .int x2), (3, .int a.1)] dX0_nowhere_80 4 rfl (congrArg _ kc_iconst_1) rfl rfl ?_
        refine j_goto (pc := 83) M.1 18 dX0_nowhere_83 rfl ?_
        refine j_sub [1, 2, 3, 4, 0] (show lv_pick _ _ = [(0, .ref o), (1, .int x1), (2, .int x2), (3, .int a.1), (4, .int (a.2.1 + 1))] from rfl) ?_
        have hy := hR _ _ _ hf _ _ hkn
        exact hy
noncomputable def x0_nowhere (F : Nat) (x1 : Int32) (x2 : Int32) (τ : XS) : XR Int32 :=
  if x1 < 0 then (some ((-1), τ, 0, 0)) else ((x0_isWeek F x2).bind (fun r1 => if r1 = 0 then (some ((-1), τ, 0, 0)) else (lp (x0_nowhere_B18 F x1 x2) F (0, 0, τ))))
theorem met_x0_nowhere {l : Launch} {G : gG} {o B F : Nat} {x1 : Int32} {x2 : Int32} {τ : XS} {r : Int32 × XS × Nat × Nat} (hf : x0_nowhere F x1 x2 τ = some r) : MetX l G o B yX0_nowhere cX0_nowhere 5 (some .int) 48 [.ref o, .int x1, .int x2] τ (xQi G o B r.1 r.2.1) r.2.2.1 r.2.2.2 := by
  obtain ⟨v, τr, c, s⟩ := r
  refine metX_of (own := RX0) (mn := "nowhere") (by decide) rfl rfl rfl (fun γ hγ M => ?_)
  subst hγ
  show J γ (XW G o B τ) 0 0 0 [(0, .ref o), (1, .int x1), (2, .int x2)] []
  have hkn : 0 + c ≤ c ∧ 0 + s ≤ s := ⟨by omega, by omega⟩
  unfold x0_nowhere at hf
  refine j_iload_n (pc := 0) M.1 dX0_nowhere_0 1 rfl ?_
  refine j_if_lt (pc := 1) M.1 11 dX0_nowhere_1 rfl (fun b1 => ?_) (fun b1 => ?_)
  · replace hf := o_pos b1 hf
    refine j_iconst (pc := 11) M.1 dX0_nowhere_11 kc_iconst_m1 ?_
    exact jx_iretF (pc := 12) M dX0_nowhere_12 hf hkn
  · replace hf := o_neg b1 hf
    refine j_iload_n (pc := 4) M.1 dX0_nowhere_4 2 rfl ?_
    obtain ⟨r1, g1, hf⟩ := o_bind hf
    refine jx_calls (pc := 5) (As := [.int x2]) (rest := []) M xcs_X0_154 (met_x0_isWeek g1) rfl rfl rfl rfl dX0_nowhere_5 (kn_le0 hkn) ?_
    refine j_if_ne (pc := 8) M.1 13 dX0_nowhere_8 rfl (fun b2 => ?_) (fun b2 => ?_)
    · replace hf := o_neg b2 hf
      refine j_iconst (pc := 13) M.1 dX0_nowhere_13 kc_iconst_0 ?_
      refine j_istore_n (pc := 14) M.1 [(3, .int 0), (0, .ref o), (1, .int x1), (2, .int x2)] dX0_nowhere_14 rfl rfl ?_
      refine j_iconst (pc := 15) M.1 dX0_nowhere_15 kc_iconst_0 ?_
      refine j_istore (pc := 16) M.1 [(4, .int 0), (3, .int 0), (0, .ref o), (1, .int x1), (2, .int x2)] dX0_nowhere_16 rfl rfl ?_
      refine j_sub [2, 3, 4, 1, 0] (show lv_pick _ _ = [(0, .ref o), (1, .int x1), (2, .int x2), (3, .int 0), (4, .int 0)] from rfl) ?_
      refine lp_Wc (kx0_nowhere_B18 M x1 x2) F (0, 0, τ) _ _ hf _ _ hkn
    · replace hf := o_pos b2 hf
      refine j_iconst (pc := 11) M.1 dX0_nowhere_11 kc_iconst_m1 ?_
      exact jx_iretF (pc := 12) M dX0_nowhere_12 hf hkn
end
theorem dX0_beside_0 : decode cX0_beside 0 = .ok (.iload_n 1, 1) := by decide +kernel
theorem dX0_beside_1 : decode cX0_beside 1 = .ok (.bipush 8, 2) := by decide +kernel
theorem dX0_beside_3 : decode cX0_beside 3 = .ok (.invokestatic 137, 3) := by decide +kernel
theorem dX0_beside_6 : decode cX0_beside 6 = .ok (.ifCond .ne 5, 3) := by decide +kernel
theorem dX0_beside_9 : decode cX0_beside 9 = .ok (.iconst (-1), 1) := by decide +kernel
theorem dX0_beside_10 : decode cX0_beside 10 = .ok (.ireturn, 1) := by decide +kernel
theorem dX0_beside_11 : decode cX0_beside 11 = .ok (.iconst 0, 1) := by decide +kernel
theorem dX0_beside_12 : decode cX0_beside 12 = .ok (.istore_n 2, 1) := by decide +kernel
theorem dX0_beside_13 : decode cX0_beside 13 = .ok (.iconst 0, 1) := by decide +kernel
theorem dX0_beside_14 : decode cX0_beside 14 = .ok (.istore_n 3, 1) := by decide +kernel
theorem dX0_beside_15 : decode cX0_beside 15 = .ok (.iload_n 3, 1) := by decide +kernel
theorem dX0_beside_16 : decode cX0_beside 16 = .ok (.aload_n 0, 1) := by decide +kernel
theorem dX0_beside_17 : decode cX0_beside 17 = .ok (.getfield 328, 3) := by decide +kernel
theorem dX0_beside_20 : decode cX0_beside 20 = .ok (.if_icmp .ge 39, 3) := by decide +kernel
theorem dX0_beside_23 : decode cX0_beside 23 = .ok (.iload_n 2, 1) := by decide +kernel
theorem dX0_beside_24 : decode cX0_beside 24 = .ok (.aload_n 0, 1) := by decide +kernel
theorem dX0_beside_25 : decode cX0_beside 25 = .ok (.aload_n 0, 1) := by decide +kernel
theorem dX0_beside_26 : decode cX0_beside 26 = .ok (.getfield 59, 3) := by decide +kernel
theorem dX0_beside_29 : decode cX0_beside 29 = .ok (.iload_n 3, 1) := by decide +kernel
theorem dX0_beside_30 : decode cX0_beside 30 = .ok (.aaload, 1) := by decide +kernel
theorem dX0_beside_31 : decode cX0_beside 31 = .ok (.aload_n 0, 1) := by decide +kernel
theorem dX0_beside_32 : decode cX0_beside 32 = .ok (.getfield 158, 3) := by decide +kernel
theorem dX0_beside_35 : decode cX0_beside 35 = .ok (.iload_n 1, 1) := by decide +kernel
theorem dX0_beside_36 : decode cX0_beside 36 = .ok (.invokevirtual 369, 3) := by decide +kernel
theorem dX0_beside_39 : decode cX0_beside 39 = .ok (.invokestatic 373, 3) := by decide +kernel
theorem dX0_beside_42 : decode cX0_beside 42 = .ok (.iconst 1, 1) := by decide +kernel
theorem dX0_beside_43 : decode cX0_beside 43 = .ok (.if_icmp .ne 7, 3) := by decide +kernel
theorem dX0_beside_46 : decode cX0_beside 46 = .ok (.iconst 1, 1) := by decide +kernel
theorem dX0_beside_47 : decode cX0_beside 47 = .ok (.goto 4, 3) := by decide +kernel
theorem dX0_beside_50 : decode cX0_beside 50 = .ok (.iconst 0, 1) := by decide +kernel
theorem dX0_beside_51 : decode cX0_beside 51 = .ok (.iadd, 1) := by decide +kernel
theorem dX0_beside_52 : decode cX0_beside 52 = .ok (.istore_n 2, 1) := by decide +kernel
theorem dX0_beside_53 : decode cX0_beside 53 = .ok (.iinc 3 1, 3) := by decide +kernel
theorem dX0_beside_56 : decode cX0_beside 56 = .ok (.goto (-41), 3) := by decide +kernel
theorem dX0_beside_59 : decode cX0_beside 59 = .ok (.iload_n 2, 1) := by decide +kernel
theorem dX0_beside_60 : decode cX0_beside 60 = .ok (.ireturn, 1) := by decide +kernel
section
variable {v : Int32}
noncomputable def x0_beside_B15 (F : Nat) (x1 : Int32) (R : Int32 × Int32 × XS → XR Int32) (a : Int32 × Int32 × XS) : XR Int32 :=
  if (a.2.2.1.1 16) ≤ a.2.1 then (some (a.1, a.2.2, 0, 0)) else (if okI a.2.1 150 = true then (a.2.2.2.1 7 a.2.1.toNatClampNeg).bind (fun n1 => (x0_mayOf F n1 (a.2.2.1.1 2) x1 a.2.2).bind (fun r1 => tk r1.2.2.1 r1.2.2.2 ((x0_sizeOf F r1.1).bind (fun r2 => if r2 = 1 then (R (a.1 + 1, a.2.1 + 1, r1.2.1)) else (R (a.1 + 0, a.2.1 + 1, r1.2.1)))))) else none)
theorem kx0_beside_B15 (M : XC γ cX0_beside 4 RX0 "beside" G o B 48 (some .int) (xQi G o B v τr) c0 s0) (x1 : Int32) : ∀ R : Int32 × Int32 × XS → XR Int32, (∀ a c s, R a = some (v, τr, c, s) → ∀ k n, k + c ≤ c0 ∧ n + s ≤ s0 → J γ (XW G o B a.2.2) k n 15 [(0, .ref o), (1, .int x1), (2, .int a.1), (3, .int a.2.1)] []) → ∀ a c s, x0_beside_B15 F x1 R a = some (v, τr, c, s) → ∀ k n, k + c ≤ c0 ∧ n + s ≤ s0 → J γ (XW G o B a.2.2) k n 15 [(0, .ref o), (1, .int x1), (2, .int a.1), (3, .int a.2.1)] [] := by
  intro R hR a c s hf k n hkn
  unfold x0_beside_B15 at hf
  refine j_iload_n (pc := 15) M.1 dX0_beside_15 3 rfl ?_
  refine j_aload_n (pc := 16) M.1 dX0_beside_16 0 rfl ?_
  refine jx_getS (pc := 17) M xfs_328 dX0_beside_17 ?_
  refine j_icmp_ge (pc := 20) M.1 59 dX0_beside_20 rfl (fun b1 => ?_) (fun b1 => ?_)
  · replace hf := o_pos b1 hf
    refine j_iload_n (pc := 59) M.1 dX0_beside_59 2 rfl ?_
    exact jx_iretF (pc := 60) M dX0_beside_60 hf hkn
  · replace hf := o_neg b1 hf
    refine j_iload_n (pc := 23) M.1 dX0_beside_23 2 rfl ?_
    refine j_aload_n (pc := 24) M.1 dX0_beside_24 0 rfl ?_
    refine j_aload_n (pc := 25) M.1 dX0_beside_25 0 rfl ?_
    refine jx_getA (pc := 26) M xfa_59 dX0_beside_26 ?_
    refine j_iload_n (pc := 29) M.1 dX0_beside_29 3 rfl ?_
    obtain ⟨b2, hf⟩ := o_need hf
    obtain ⟨n1, g1, hf⟩ := o_bind hf
    refine jx_aald (pc := 30) M xax_7 (by decide) xrt_7 b2 g1 dX0_beside_30 ?_
    refine j_aload_n (pc := 31) M.1 dX0_beside_31 0 rfl ?_
    refine jx_getS (pc := 32) M xfs_158 dX0_beside_32 ?_
    refine j_iload_n (pc := 35) M.1 dX0_beside_35 1 rfl ?_
    obtain ⟨r1, g2, hf⟩ := o_bind hf
    obtain ⟨c1, s1, hf, hc1, hs1⟩ := o_tk hf
    replace hkn := kn_step hkn hc1 hs1
    refine jx_i M (x_runV (pc := 36) (As := [.ref n1, .int (a.2.2.1.1 2), .int x1]) (rest := [.int a.1]) (V := xV o a.2.2) M xcw_X0_369 (met_x0_mayOf g2) (fun H h => h.1 o _ xH_o) (by decide) rfl rfl rfl dX0_beside_36 (kn_le hkn)) ?_
    obtain ⟨r2, g3, hf⟩ := o_bind hf
    refine jx_calls (pc := 39) (As := [.int r1.1]) (rest := [.int a.1]) M xcs_X0_373 (met_x0_sizeOf g3) rfl rfl rfl rfl dX0_beside_39 (kn_le0 hkn) ?_
    refine j_iconst (pc := 42) M.1 dX0_beside_42 kc_iconst_1 ?_
    refine j_icmp_ne (pc := 43) M.1 50 dX0_beside_43 rfl (fun b3 => ?_) (fun b3 => ?_)
    · replace hf := o_neg b3 hf
      refine j_iconst (pc := 50) M.1 dX0_beside_50 kc_iconst_0 ?_
      refine j_iadd (pc := 51) M.1 dX0_beside_51 ?_
      refine j_istore_n (pc := 52) M.1 [(2, .int (a.1 + 0)), (0, .ref o), (1, .int x1), (3, .int a.2.1)] dX0_beside_52 rfl rfl ?_
      refine j_iinc (pc := 53) M.1 [(3, .int (a.2.1 + 1)), (2, .int (a.1 + 0)), (0, .ref o), (1, .int x1)] dX0_beside_53 3 rfl (congrArg _ kc_iconst_1) rfl rfl ?_
      refine j_goto (pc := 56) M.1 15 dX0_beside_56 rfl ?_
      refine j_sub [2, 3, 1, 0] (show lv_pick _ _ = [(0, .ref o), (1, .int x1), (2, .int (a.1 + 0)), (3, .int (a.2.1 + 1))] from rfl) ?_
      have hy := hR _ _ _ hf _ _ hkn
      exact hy
    · replace hf := o_pos b3 hf
      refine j_iconst (pc := 46) M.1 dX0_beside_46 kc_iconst_1 ?_
      refine j_goto (pc := 47) M.1 51 dX0_beside_47 rfl ?_
      refine j_iadd (pc := 51) M.1 dX0_beside_51 ?_
      refine j_istore_n (pc := 52) M.1 [(2, .int (a.1 + 1)), (0, .ref o), (1, .int x1), (3, .int a.2.1)] dX0_beside_52 rfl rfl ?_
      refine j_iinc (pc := 53) M.1 [(3, .int (a.2.1 + 1)), (2, .int (a.1 + 1)), (0, .ref o), (1, .int x1)] dX0_beside_53 3 rfl (congrArg _ kc_iconst_1) rfl rfl ?_
      refine j_goto (pc := 56) M.1 15 dX0_beside_56 rfl ?_
      refine j_sub [2, 3, 1, 0] (show lv_pick _ _ = [(0, .ref o), (1, .int x1), (2, .int (a.1 + 1)), (3, .int (a.2.1 + 1))] from rfl) ?_
      have hy := hR _ _ _ hf _ _ hkn
      exact hy
noncomputable def x0_beside (F : Nat) (x1 : Int32) (τ : XS) : XR Int32 :=
  (x0_in F x1 8).bind (fun r1 => if r1 = 0 then (some ((-1), τ, 0, 0)) else (lp (x0_beside_B15 F x1) F (0, 0, τ)))
theorem met_x0_beside {l : Launch} {G : gG} {o B F : Nat} {x1 : Int32} {τ : XS} {r : Int32 × XS × Nat × Nat} (hf : x0_beside F x1 τ = some r) : MetX l G o B yX0_beside cX0_beside 4 (some .int) 48 [.ref o, .int x1] τ (xQi G o B r.1 r.2.1) r.2.2.1 r.2.2.2 := by
  obtain ⟨v, τr, c, s⟩ := r
  refine metX_of (own := RX0) (mn := "beside") (by decide) rfl rfl rfl (fun γ hγ M => ?_)
  subst hγ
  show J γ (XW G o B τ) 0 0 0 [(0, .ref o), (1, .int x1)] []
  have hkn : 0 + c ≤ c ∧ 0 + s ≤ s := ⟨by omega, by omega⟩
  unfold x0_beside at hf
  refine j_iload_n (pc := 0) M.1 dX0_beside_0 1 rfl ?_
  refine j_bipush (pc := 1) M.1 dX0_beside_1 kc_bipush_8 ?_
  obtain ⟨r1, g1, hf⟩ := o_bind hf
  refine jx_calls (pc := 3) (As := [.int x1, .int 8]) (rest := []) M xcs_X0_137 (met_x0_in g1) rfl rfl rfl rfl dX0_beside_3 (kn_le0 hkn) ?_
  refine j_if_ne (pc := 6) M.1 11 dX0_beside_6 rfl (fun b1 => ?_) (fun b1 => ?_)
  · replace hf := o_neg b1 hf
    refine j_iconst (pc := 11) M.1 dX0_beside_11 kc_iconst_0 ?_
    refine j_istore_n (pc := 12) M.1 [(2, .int 0), (0, .ref o), (1, .int x1)] dX0_beside_12 rfl rfl ?_
    refine j_iconst (pc := 13) M.1 dX0_beside_13 kc_iconst_0 ?_
    refine j_istore_n (pc := 14) M.1 [(3, .int 0), (2, .int 0), (0, .ref o), (1, .int x1)] dX0_beside_14 rfl rfl ?_
    refine j_sub [2, 3, 1, 0] (show lv_pick _ _ = [(0, .ref o), (1, .int x1), (2, .int 0), (3, .int 0)] from rfl) ?_
    refine lp_Wc (kx0_beside_B15 M x1) F (0, 0, τ) _ _ hf _ _ hkn
  · replace hf := o_pos b1 hf
    refine j_iconst (pc := 9) M.1 dX0_beside_9 kc_iconst_m1 ?_
    exact jx_iretF (pc := 10) M dX0_beside_10 hf hkn
end
theorem dX5_kind_0 : decode cX5_kind 0 = .ok (.iconst 0, 1) := by decide +kernel
theorem dX5_kind_1 : decode cX5_kind 1 = .ok (.ireturn, 1) := by decide +kernel
section
variable {v : Int32}
noncomputable def x5_kind (F : Nat) (x0 : Nat) (τ : XS) : XR Int32 :=
  some (0, τ, 0, 0)
theorem met_x5_kind {l : Launch} {G : gG} {o B F : Nat} {x0 : Nat} {τ : XS} {r : Int32 × XS × Nat × Nat} (hf : x5_kind F x0 τ = some r) : MetX l G o B yX5_kind cX5_kind 1 (some .int) 1 [.ref x0] τ (xQi G o B r.1 r.2.1) r.2.2.1 r.2.2.2 := by
  obtain ⟨v, τr, c, s⟩ := r
  refine metX_of (own := RX5) (mn := "kind") (by decide) rfl rfl rfl (fun γ hγ M => ?_)
  subst hγ
  show J γ (XW G o B τ) 0 0 0 [(0, .ref x0)] []
  have hkn : 0 + c ≤ c ∧ 0 + s ≤ s := ⟨by omega, by omega⟩
  unfold x5_kind at hf
  refine j_iconst (pc := 0) M.1 dX5_kind_0 kc_iconst_0 ?_
  exact jx_iretF (pc := 1) M dX5_kind_1 hf hkn
end
theorem dX7_kind_0 : decode cX7_kind 0 = .ok (.iconst 2, 1) := by decide +kernel
theorem dX7_kind_1 : decode cX7_kind 1 = .ok (.ireturn, 1) := by decide +kernel
section
variable {v : Int32}
noncomputable def x7_kind (F : Nat) (x0 : Nat) (τ : XS) : XR Int32 :=
  some (2, τ, 0, 0)
theorem met_x7_kind {l : Launch} {G : gG} {o B F : Nat} {x0 : Nat} {τ : XS} {r : Int32 × XS × Nat × Nat} (hf : x7_kind F x0 τ = some r) : MetX l G o B yX7_kind cX7_kind 1 (some .int) 1 [.ref x0] τ (xQi G o B r.1 r.2.1) r.2.2.1 r.2.2.2 := by
  obtain ⟨v, τr, c, s⟩ := r
  refine metX_of (own := RX7) (mn := "kind") (by decide) rfl rfl rfl (fun γ hγ M => ?_)
  subst hγ
  show J γ (XW G o B τ) 0 0 0 [(0, .ref x0)] []
  have hkn : 0 + c ≤ c ∧ 0 + s ≤ s := ⟨by omega, by omega⟩
  unfold x7_kind at hf
  refine j_iconst (pc := 0) M.1 dX7_kind_0 kc_iconst_2 ?_
  exact jx_iretF (pc := 1) M dX7_kind_1 hf hkn
end
theorem dX6_kind_0 : decode cX6_kind 0 = .ok (.iconst 1, 1) := by decide +kernel
theorem dX6_kind_1 : decode cX6_kind 1 = .ok (.ireturn, 1) := by decide +kernel
section
variable {v : Int32}
noncomputable def x6_kind (F : Nat) (x0 : Nat) (τ : XS) : XR Int32 :=
  some (1, τ, 0, 0)
theorem met_x6_kind {l : Launch} {G : gG} {o B F : Nat} {x0 : Nat} {τ : XS} {r : Int32 × XS × Nat × Nat} (hf : x6_kind F x0 τ = some r) : MetX l G o B yX6_kind cX6_kind 1 (some .int) 1 [.ref x0] τ (xQi G o B r.1 r.2.1) r.2.2.1 r.2.2.2 := by
  obtain ⟨v, τr, c, s⟩ := r
  refine metX_of (own := RX6) (mn := "kind") (by decide) rfl rfl rfl (fun γ hγ M => ?_)
  subst hγ
  show J γ (XW G o B τ) 0 0 0 [(0, .ref x0)] []
  have hkn : 0 + c ≤ c ∧ 0 + s ≤ s := ⟨by omega, by omega⟩
  unfold x6_kind at hf
  refine j_iconst (pc := 0) M.1 dX6_kind_0 kc_iconst_1 ?_
  exact jx_iretF (pc := 1) M dX6_kind_1 hf hkn
end
noncomputable def xd_kind (F x0 : Nat) (τ : XS) : XR Int32 :=
  if isC τ x0 [5] = true then x5_kind F x0 τ else if isC τ x0 [6] = true then x6_kind F x0 τ else if isC τ x0 [7] = true then x7_kind F x0 τ else none
theorem metd_kind {l : Launch} {G : gG} {o B F : Nat} {x0 : Nat} {τ : XS} {r : Int32 × XS × Nat × Nat} (hf : xd_kind F x0 τ = some r) : MetV l G o B 1 (some .int) al_kind x0 [] τ r := by
  unfold xd_kind at hf
  by_cases b0 : isC τ x0 [5] = true
  · exact ⟨0, _, rfl, b0, met_x5_kind (o_pos b0 hf)⟩
  replace hf := o_neg b0 hf
  by_cases b1 : isC τ x0 [6] = true
  · exact ⟨1, _, rfl, b1, met_x6_kind (o_pos b1 hf)⟩
  replace hf := o_neg b1 hf
  by_cases b2 : isC τ x0 [7] = true
  · exact ⟨2, _, rfl, b2, met_x7_kind (o_pos b2 hf)⟩
  replace hf := o_neg b2 hf
  cases hf
theorem dX0_barred_0 : decode cX0_barred 0 = .ok (.iload_n 1, 1) := by decide +kernel
theorem dX0_barred_1 : decode cX0_barred 1 = .ok (.aload_n 0, 1) := by decide +kernel
theorem dX0_barred_2 : decode cX0_barred 2 = .ok (.getfield 148, 3) := by decide +kernel
theorem dX0_barred_5 : decode cX0_barred 5 = .ok (.invokestatic 137, 3) := by decide +kernel
theorem dX0_barred_8 : decode cX0_barred 8 = .ok (.ifCond .eq 16, 3) := by decide +kernel
theorem dX0_barred_11 : decode cX0_barred 11 = .ok (.aload_n 0, 1) := by decide +kernel
theorem dX0_barred_12 : decode cX0_barred 12 = .ok (.getfield 30, 3) := by decide +kernel
theorem dX0_barred_15 : decode cX0_barred 15 = .ok (.iload_n 1, 1) := by decide +kernel
theorem dX0_barred_16 : decode cX0_barred 16 = .ok (.aaload, 1) := by decide +kernel
theorem dX0_barred_17 : decode cX0_barred 17 = .ok (.invokevirtual 376, 3) := by decide +kernel
theorem dX0_barred_20 : decode cX0_barred 20 = .ok (.iconst 2, 1) := by decide +kernel
theorem dX0_barred_21 : decode cX0_barred 21 = .ok (.if_icmp .ne 5, 3) := by decide +kernel
theorem dX0_barred_24 : decode cX0_barred 24 = .ok (.iconst (-1), 1) := by decide +kernel
theorem dX0_barred_25 : decode cX0_barred 25 = .ok (.ireturn, 1) := by decide +kernel
theorem dX0_barred_26 : decode cX0_barred 26 = .ok (.aload_n 0, 1) := by decide +kernel
theorem dX0_barred_27 : decode cX0_barred 27 = .ok (.getfield 30, 3) := by decide +kernel
theorem dX0_barred_30 : decode cX0_barred 30 = .ok (.iload_n 1, 1) := by decide +kernel
theorem dX0_barred_31 : decode cX0_barred 31 = .ok (.aaload, 1) := by decide +kernel
theorem dX0_barred_32 : decode cX0_barred 32 = .ok (.astore_n 2, 1) := by decide +kernel
theorem dX0_barred_33 : decode cX0_barred 33 = .ok (.aload_n 2, 1) := by decide +kernel
theorem dX0_barred_34 : decode cX0_barred 34 = .ok (.getfield 349, 3) := by decide +kernel
theorem dX0_barred_37 : decode cX0_barred 37 = .ok (.aload_n 0, 1) := by decide +kernel
theorem dX0_barred_38 : decode cX0_barred 38 = .ok (.bipush 102, 2) := by decide +kernel
theorem dX0_barred_40 : decode cX0_barred 40 = .ok (.new 305, 3) := by decide +kernel
theorem dX0_barred_43 : decode cX0_barred 43 = .ok (.dup, 1) := by decide +kernel
theorem dX0_barred_44 : decode cX0_barred 44 = .ok (.aload_n 2, 1) := by decide +kernel
theorem dX0_barred_45 : decode cX0_barred 45 = .ok (.getfield 217, 3) := by decide +kernel
theorem dX0_barred_48 : decode cX0_barred 48 = .ok (.aload_n 2, 1) := by decide +kernel
theorem dX0_barred_49 : decode cX0_barred 49 = .ok (.getfield 337, 3) := by decide +kernel
theorem dX0_barred_52 : decode cX0_barred 52 = .ok (.aload_n 2, 1) := by decide +kernel
theorem dX0_barred_53 : decode cX0_barred 53 = .ok (.invokevirtual 376, 3) := by decide +kernel
theorem dX0_barred_56 : decode cX0_barred 56 = .ok (.iconst 0, 1) := by decide +kernel
theorem dX0_barred_57 : decode cX0_barred 57 = .ok (.iconst (-1), 1) := by decide +kernel
theorem dX0_barred_58 : decode cX0_barred 58 = .ok (.invokespecial 319, 3) := by decide +kernel
theorem dX0_barred_61 : decode cX0_barred 61 = .ok (.bipush 7, 2) := by decide +kernel
theorem dX0_barred_63 : decode cX0_barred 63 = .ok (.invokevirtual 320, 3) := by decide +kernel
theorem dX0_barred_66 : decode cX0_barred 66 = .ok (.if_icmp .le 7, 3) := by decide +kernel
theorem dX0_barred_69 : decode cX0_barred 69 = .ok (.iconst 1, 1) := by decide +kernel
theorem dX0_barred_70 : decode cX0_barred 70 = .ok (.goto 4, 3) := by decide +kernel
theorem dX0_barred_73 : decode cX0_barred 73 = .ok (.iconst 0, 1) := by decide +kernel
theorem dX0_barred_74 : decode cX0_barred 74 = .ok (.ireturn, 1) := by decide +kernel
section
variable {v : Int32}
noncomputable def x0_barred (F : Nat) (x1 : Int32) (τ : XS) : XR Int32 :=
  (x0_in F x1 (τ.1.1 4)).bind (fun r1 => if r1 = 0 then (some ((-1), τ, 0, 0)) else (if okI x1 100 = true then (τ.2.1 1 x1.toNatClampNeg).bind (fun n1 => (xd_kind F n1 τ).bind (fun r2 => tk r2.2.2.1 r2.2.2.2 (if r2.1 = 2 then (some ((-1), r2.2.1, 0, 0)) else (if okI x1 100 = true then (r2.2.1.2.1 1 x1.toNatClampNeg).bind (fun n2 => (gI r2.2.1 n2 [5, 6, 7] 3).bind (fun v1 => nx (xN r2.2.1 (.inr (19, fun q => defaultValue (tyX19 q)))) (fun τ1 => tk 1 6 ((gI τ1 n2 [5, 6, 7] 4).bind (fun v2 => (gI τ1 n2 [5, 6, 7] 1).bind (fun v3 => (xd_kind F n2 τ1).bind (fun r3 => tk r3.2.2.1 r3.2.2.2 ((x19_init F r2.2.1.2.2.2.2 v2 v3 r3.1 0 ((-1)) r3.2.1).bind (fun r4 => tk r4.2.2.1 r4.2.2.2 ((x0_numberOf F 102 r2.2.1.2.2.2.2 7 r4.2.1).bind (fun r5 => tk r5.2.2.1 r5.2.2.2 (if v1 ≤ r5.1 then (some (0, r5.2.1, 0, 0)) else (some (1, r5.2.1, 0, 0)))))))))))))) else none)))) else none))
theorem met_x0_barred {l : Launch} {G : gG} {o B F : Nat} {x1 : Int32} {τ : XS} {r : Int32 × XS × Nat × Nat} (hf : x0_barred F x1 τ = some r) : MetX l G o B yX0_barred cX0_barred 3 (some .int) 46 [.ref o, .int x1] τ (xQi G o B r.1 r.2.1) r.2.2.1 r.2.2.2 := by
  obtain ⟨v, τr, c, s⟩ := r
  refine metX_of (own := RX0) (mn := "barred") (by decide) rfl rfl rfl (fun γ hγ M => ?_)
  subst hγ
  show J γ (XW G o B τ) 0 0 0 [(0, .ref o), (1, .int x1)] []
  have hkn : 0 + c ≤ c ∧ 0 + s ≤ s := ⟨by omega, by omega⟩
  unfold x0_barred at hf
  refine j_iload_n (pc := 0) M.1 dX0_barred_0 1 rfl ?_
  refine j_aload_n (pc := 1) M.1 dX0_barred_1 0 rfl ?_
  refine jx_getS (pc := 2) M xfs_148 dX0_barred_2 ?_
  obtain ⟨r1, g1, hf⟩ := o_bind hf
  refine jx_calls (pc := 5) (As := [.int x1, .int (τ.1.1 4)]) (rest := []) M xcs_X0_137 (met_x0_in g1) rfl rfl rfl rfl dX0_barred_5 (kn_le0 hkn) ?_
  refine j_if_eq (pc := 8) M.1 24 dX0_barred_8 rfl (fun b1 => ?_) (fun b1 => ?_)
  · replace hf := o_pos b1 hf
    refine j_iconst (pc := 24) M.1 dX0_barred_24 kc_iconst_m1 ?_
    exact jx_iretF (pc := 25) M dX0_barred_25 hf hkn
  · replace hf := o_neg b1 hf
    refine j_aload_n (pc := 11) M.1 dX0_barred_11 0 rfl ?_
    refine jx_getA (pc := 12) M xfa_30 dX0_barred_12 ?_
    refine j_iload_n (pc := 15) M.1 dX0_barred_15 1 rfl ?_
    obtain ⟨b2, hf⟩ := o_need hf
    obtain ⟨n1, g2, hf⟩ := o_bind hf
    refine jx_aald (pc := 16) M xax_1 (by decide) xrt_4 b2 g2 dX0_barred_16 ?_
    obtain ⟨r2, g3, hf⟩ := o_bind hf
    obtain ⟨c1, s1, hf, hc1, hs1⟩ := o_tk hf
    replace hkn := kn_step hkn hc1 hs1
    refine jx_i M (x_runD (pc := 17) (As := []) (rest := []) M xcv_X0_376 (metd_kind g3) (by decide) rfl rfl rfl dX0_barred_17 (kn_le hkn)) ?_
    refine j_iconst (pc := 20) M.1 dX0_barred_20 kc_iconst_2 ?_
    refine j_icmp_ne (pc := 21) M.1 26 dX0_barred_21 rfl (fun b3 => ?_) (fun b3 => ?_)
    · replace hf := o_neg b3 hf
      refine j_aload_n (pc := 26) M.1 dX0_barred_26 0 rfl ?_
      refine jx_getA (pc := 27) M xfa_30 dX0_barred_27 ?_
      refine j_iload_n (pc := 30) M.1 dX0_barred_30 1 rfl ?_
      obtain ⟨b4, hf⟩ := o_need hf
      obtain ⟨n2, g4, hf⟩ := o_bind hf
      refine jx_aald (pc := 31) M xax_1 (by decide) xrt_4 b4 g4 dX0_barred_31 ?_
      refine j_astore_n (pc := 32) M.1 [(2, .ref n2), (0, .ref o), (1, .int x1)] dX0_barred_32 rfl rfl ?_
      refine j_aload_n (pc := 33) M.1 dX0_barred_33 0 rfl ?_
      obtain ⟨v1, g5, hf⟩ := o_bind hf
      refine jx_getI (pc := 34) M xfl_X0_349 g5 dX0_barred_34 ?_
      refine j_aload_n (pc := 37) M.1 dX0_barred_37 1 rfl ?_
      refine j_bipush (pc := 38) M.1 dX0_barred_38 kc_bipush_102 ?_
      obtain ⟨τ1, e1, hf⟩ := o_nx hf
      obtain ⟨c2, s2, hf, hc2, hs2⟩ := o_tk hf
      replace hkn := kn_step hkn hc2 hs2
      refine jx_new (pc := 40) M xnew_X0_305 dX0_barred_40 (kn_le hkn) e1 ?_
      refine j_dup (pc := 43) M.1 dX0_barred_43 rfl ?_
      refine j_aload_n (pc := 44) M.1 dX0_barred_44 0 rfl ?_
      obtain ⟨v2, g6, hf⟩ := o_bind hf
      refine jx_getI (pc := 45) M xfl_X0_217 g6 dX0_barred_45 ?_
      refine j_aload_n (pc := 48) M.1 dX0_barred_48 0 rfl ?_
      obtain ⟨v3, g7, hf⟩ := o_bind hf
      refine jx_getI (pc := 49) M xfl_X0_337 g7 dX0_barred_49 ?_
      refine j_aload_n (pc := 52) M.1 dX0_barred_52 0 rfl ?_
      obtain ⟨r3, g8, hf⟩ := o_bind hf
      obtain ⟨c3, s3, hf, hc3, hs3⟩ := o_tk hf
      replace hkn := kn_step hkn hc3 hs3
      refine jx_i M (x_runD (pc := 53) (As := []) (rest := [.int v3, .int v2, .ref r2.2.1.2.2.2.2, .ref r2.2.1.2.2.2.2, .int 102, .ref o, .int v1]) M xcv_X0_376 (metd_kind g8) (by decide) rfl rfl rfl dX0_barred_53 (kn_le hkn)) ?_
      refine j_iconst (pc := 56) M.1 dX0_barred_56 kc_iconst_0 ?_
      refine j_iconst (pc := 57) M.1 dX0_barred_57 kc_iconst_m1 ?_
      obtain ⟨r4, g9, hf⟩ := o_bind hf
      obtain ⟨c4, s4, hf, hc4, hs4⟩ := o_tk hf
      replace hkn := kn_step hkn hc4 hs4
      refine jx_v (r := r4.1) M (x_runI (pc := 58) (As := [.int v2, .int v3, .int r3.1, .int 0, .int ((-1))]) (rest := [.ref r2.2.1.2.2.2.2, .int 102, .ref o, .int v1]) M xci_X0_319 (met_x19_init g9) (by decide) rfl rfl rfl dX0_barred_58 (kn_le hkn)) ?_
      refine j_bipush (pc := 61) M.1 dX0_barred_61 kc_bipush_7 ?_
      obtain ⟨r5, g10, hf⟩ := o_bind hf
      obtain ⟨c5, s5, hf, hc5, hs5⟩ := o_tk hf
      replace hkn := kn_step hkn hc5 hs5
      refine jx_i M (x_runV (pc := 63) (As := [.int 102, .ref r2.2.1.2.2.2.2, .int 7]) (rest := [.int v1]) (V := xV o r4.2.1) M xcw_X0_320 (met_x0_numberOf g10) (fun H h => h.1 o _ xH_o) (by decide) rfl rfl rfl dX0_barred_63 (kn_le hkn)) ?_
      refine j_icmp_le (pc := 66) M.1 73 dX0_barred_66 rfl (fun b5 => ?_) (fun b5 => ?_)
      · replace hf := o_pos b5 hf
        refine j_iconst (pc := 73) M.1 dX0_barred_73 kc_iconst_0 ?_
        exact jx_iretF (pc := 74) M dX0_barred_74 hf hkn
      · replace hf := o_neg b5 hf
        refine j_iconst (pc := 69) M.1 dX0_barred_69 kc_iconst_1 ?_
        refine j_goto (pc := 70) M.1 74 dX0_barred_70 rfl ?_
        exact jx_iretF (pc := 74) M dX0_barred_74 hf hkn
    · replace hf := o_pos b3 hf
      refine j_iconst (pc := 24) M.1 dX0_barred_24 kc_iconst_m1 ?_
      exact jx_iretF (pc := 25) M dX0_barred_25 hf hkn
end
theorem dX21_init_0 : decode cX21_init 0 = .ok (.aload_n 0, 1) := by decide +kernel
theorem dX21_init_1 : decode cX21_init 1 = .ok (.invokespecial 1, 3) := by decide +kernel
theorem dX21_init_4 : decode cX21_init 4 = .ok (.aload_n 0, 1) := by decide +kernel
theorem dX21_init_5 : decode cX21_init 5 = .ok (.iload_n 1, 1) := by decide +kernel
theorem dX21_init_6 : decode cX21_init 6 = .ok (.putfield 7, 3) := by decide +kernel
theorem dX21_init_9 : decode cX21_init 9 = .ok (.aload_n 0, 1) := by decide +kernel
theorem dX21_init_10 : decode cX21_init 10 = .ok (.iload_n 2, 1) := by decide +kernel
theorem dX21_init_11 : decode cX21_init 11 = .ok (.putfield 13, 3) := by decide +kernel
theorem dX21_init_14 : decode cX21_init 14 = .ok (.aload_n 0, 1) := by decide +kernel
theorem dX21_init_15 : decode cX21_init 15 = .ok (.iload_n 3, 1) := by decide +kernel
theorem dX21_init_16 : decode cX21_init 16 = .ok (.putfield 16, 3) := by decide +kernel
theorem dX21_init_19 : decode cX21_init 19 = .ok (.return_, 1) := by decide +kernel
section
variable {v : Int32}
noncomputable def x21_init (F : Nat) (x0 : Nat) (x1 : Int32) (x2 : Int32) (x3 : Int32) (τ : XS) : XR Int32 :=
  (pF τ x0 [21] 0 (.int x1)).bind (fun τ1 => (pF τ1 x0 [21] 1 (.int x2)).bind (fun τ2 => (pF τ2 x0 [21] 2 (.int x3)).bind (fun τ3 => some (0, τ3, 0, 0))))
theorem met_x21_init {l : Launch} {G : gG} {o B F : Nat} {x0 : Nat} {x1 : Int32} {x2 : Int32} {x3 : Int32} {τ : XS} {r : Int32 × XS × Nat × Nat} (hf : x21_init F x0 x1 x2 x3 τ = some r) : MetX l G o B yX21_init cX21_init 4 none 2 [.ref x0, .int x1, .int x2, .int x3] τ (xQv G o B r.1 r.2.1) r.2.2.1 r.2.2.2 := by
  obtain ⟨v, τr, c, s⟩ := r
  refine metX_of (own := RX21) (mn := "<init>") (by decide) rfl rfl rfl (fun γ hγ M => ?_)
  subst hγ
  show J γ (XW G o B τ) 0 0 0 [(0, .ref x0), (1, .int x1), (2, .int x2), (3, .int x3)] []
  have hkn : 0 + c ≤ c ∧ 0 + s ≤ s := ⟨by omega, by omega⟩
  unfold x21_init at hf
  refine j_aload_n (pc := 0) M.1 dX21_init_0 0 rfl ?_
  refine j_objInit (pc := 1) M.1 q1087 dX21_init_1 (M.room (by decide)) rfl ?_
  refine j_aload_n (pc := 4) M.1 dX21_init_4 0 rfl ?_
  refine j_iload_n (pc := 5) M.1 dX21_init_5 1 rfl ?_
  obtain ⟨τ1, g1, hf⟩ := o_bind hf
  refine jx_putW (pc := 6) M q1088 xfw_X21_7 rfl rfl g1 dX21_init_6 ?_
  refine j_aload_n (pc := 9) M.1 dX21_init_9 0 rfl ?_
  refine j_iload_n (pc := 10) M.1 dX21_init_10 2 rfl ?_
  obtain ⟨τ2, g2, hf⟩ := o_bind hf
  refine jx_putW (pc := 11) M q1090 xfw_X21_13 rfl rfl g2 dX21_init_11 ?_
  refine j_aload_n (pc := 14) M.1 dX21_init_14 0 rfl ?_
  refine j_iload_n (pc := 15) M.1 dX21_init_15 3 rfl ?_
  obtain ⟨τ3, g3, hf⟩ := o_bind hf
  refine jx_putW (pc := 16) M q1092 xfw_X21_16 rfl rfl g3 dX21_init_16 ?_
  exact jx_vretF (pc := 19) M dX21_init_19 hf hkn
end
theorem dX0_thing_0 : decode cX0_thing 0 = .ok (.iload_n 1, 1) := by decide +kernel
theorem dX0_thing_1 : decode cX0_thing 1 = .ok (.bipush 10, 2) := by decide +kernel
theorem dX0_thing_3 : decode cX0_thing 3 = .ok (.invokestatic 137, 3) := by decide +kernel
theorem dX0_thing_6 : decode cX0_thing 6 = .ok (.ifCond .eq 31, 3) := by decide +kernel
theorem dX0_thing_9 : decode cX0_thing 9 = .ok (.iload_n 2, 1) := by decide +kernel
theorem dX0_thing_10 : decode cX0_thing 10 = .ok (.bipush 8, 2) := by decide +kernel
theorem dX0_thing_12 : decode cX0_thing 12 = .ok (.invokestatic 137, 3) := by decide +kernel
theorem dX0_thing_15 : decode cX0_thing 15 = .ok (.ifCond .eq 22, 3) := by decide +kernel
theorem dX0_thing_18 : decode cX0_thing 18 = .ok (.iload_n 3, 1) := by decide +kernel
theorem dX0_thing_19 : decode cX0_thing 19 = .ok (.sipush 256, 3) := by decide +kernel
theorem dX0_thing_22 : decode cX0_thing 22 = .ok (.invokestatic 137, 3) := by decide +kernel
theorem dX0_thing_25 : decode cX0_thing 25 = .ok (.ifCond .eq 12, 3) := by decide +kernel
theorem dX0_thing_28 : decode cX0_thing 28 = .ok (.aload_n 0, 1) := by decide +kernel
theorem dX0_thing_29 : decode cX0_thing 29 = .ok (.getfield 378, 3) := by decide +kernel
theorem dX0_thing_32 : decode cX0_thing 32 = .ok (.bipush 60, 2) := by decide +kernel
theorem dX0_thing_34 : decode cX0_thing 34 = .ok (.if_icmp .ne 5, 3) := by decide +kernel
theorem dX0_thing_37 : decode cX0_thing 37 = .ok (.iconst (-1), 1) := by decide +kernel
theorem dX0_thing_38 : decode cX0_thing 38 = .ok (.ireturn, 1) := by decide +kernel
theorem dX0_thing_39 : decode cX0_thing 39 = .ok (.aload_n 0, 1) := by decide +kernel
theorem dX0_thing_40 : decode cX0_thing 40 = .ok (.getfield 65, 3) := by decide +kernel
theorem dX0_thing_43 : decode cX0_thing 43 = .ok (.aload_n 0, 1) := by decide +kernel
theorem dX0_thing_44 : decode cX0_thing 44 = .ok (.getfield 378, 3) := by decide +kernel
theorem dX0_thing_47 : decode cX0_thing 47 = .ok (.new 63, 3) := by decide +kernel
theorem dX0_thing_50 : decode cX0_thing 50 = .ok (.dup, 1) := by decide +kernel
theorem dX0_thing_51 : decode cX0_thing 51 = .ok (.iload_n 1, 1) := by decide +kernel
theorem dX0_thing_52 : decode cX0_thing 52 = .ok (.iload_n 2, 1) := by decide +kernel
theorem dX0_thing_53 : decode cX0_thing 53 = .ok (.iload_n 3, 1) := by decide +kernel
theorem dX0_thing_54 : decode cX0_thing 54 = .ok (.invokespecial 381, 3) := by decide +kernel
theorem dX0_thing_57 : decode cX0_thing 57 = .ok (.aastore, 1) := by decide +kernel
theorem dX0_thing_58 : decode cX0_thing 58 = .ok (.aload_n 0, 1) := by decide +kernel
theorem dX0_thing_59 : decode cX0_thing 59 = .ok (.dup, 1) := by decide +kernel
theorem dX0_thing_60 : decode cX0_thing 60 = .ok (.getfield 378, 3) := by decide +kernel
theorem dX0_thing_63 : decode cX0_thing 63 = .ok (.iconst 1, 1) := by decide +kernel
theorem dX0_thing_64 : decode cX0_thing 64 = .ok (.iadd, 1) := by decide +kernel
theorem dX0_thing_65 : decode cX0_thing 65 = .ok (.putfield 378, 3) := by decide +kernel
theorem dX0_thing_68 : decode cX0_thing 68 = .ok (.aload_n 0, 1) := by decide +kernel
theorem dX0_thing_69 : decode cX0_thing 69 = .ok (.getfield 378, 3) := by decide +kernel
theorem dX0_thing_72 : decode cX0_thing 72 = .ok (.iconst 1, 1) := by decide +kernel
theorem dX0_thing_73 : decode cX0_thing 73 = .ok (.isub, 1) := by decide +kernel
theorem dX0_thing_74 : decode cX0_thing 74 = .ok (.ireturn, 1) := by decide +kernel
section
variable {v : Int32}
noncomputable def x0_thing (F : Nat) (x1 : Int32) (x2 : Int32) (x3 : Int32) (τ : XS) : XR Int32 :=
  (x0_in F x1 10).bind (fun r1 => if r1 = 0 then (some ((-1), τ, 0, 0)) else ((x0_in F x2 8).bind (fun r2 => if r2 = 0 then (some ((-1), τ, 0, 0)) else ((x0_in F x3 256).bind (fun r3 => if r3 = 0 then (some ((-1), τ, 0, 0)) else (if (τ.1.1 18) = 60 then (some ((-1), τ, 0, 0)) else (nx (xN τ (.inr (21, fun q => defaultValue (tyX21 q)))) (fun τ1 => tk 1 4 ((x21_init F τ.2.2.2.2 x1 x2 x3 τ1).bind (fun r4 => tk r4.2.2.1 r4.2.2.2 (if isC r4.2.1 τ.2.2.2.2 [21] = true then if okI (τ.1.1 18) 60 = true then nx (xR r4.2.1 8 (τ.1.1 18).toNatClampNeg (some τ.2.2.2.2)) (fun τ2 => nx (xS τ2 18 ((τ2.1.1 18) + 1)) (fun τ3 => some ((τ3.1.1 18) - 1, τ3, 0, 0))) else none else none)))))))))))
theorem met_x0_thing {l : Launch} {G : gG} {o B F : Nat} {x1 : Int32} {x2 : Int32} {x3 : Int32} {τ : XS} {r : Int32 × XS × Nat × Nat} (hf : x0_thing F x1 x2 x3 τ = some r) : MetX l G o B yX0_thing cX0_thing 4 (some .int) 3 [.ref o, .int x1, .int x2, .int x3] τ (xQi G o B r.1 r.2.1) r.2.2.1 r.2.2.2 := by
  obtain ⟨v, τr, c, s⟩ := r
  refine metX_of (own := RX0) (mn := "thing") (by decide) rfl rfl rfl (fun γ hγ M => ?_)
  subst hγ
  show J γ (XW G o B τ) 0 0 0 [(0, .ref o), (1, .int x1), (2, .int x2), (3, .int x3)] []
  have hkn : 0 + c ≤ c ∧ 0 + s ≤ s := ⟨by omega, by omega⟩
  unfold x0_thing at hf
  refine j_iload_n (pc := 0) M.1 dX0_thing_0 1 rfl ?_
  refine j_bipush (pc := 1) M.1 dX0_thing_1 kc_bipush_10 ?_
  obtain ⟨r1, g1, hf⟩ := o_bind hf
  refine jx_calls (pc := 3) (As := [.int x1, .int 10]) (rest := []) M xcs_X0_137 (met_x0_in g1) rfl rfl rfl rfl dX0_thing_3 (kn_le0 hkn) ?_
  refine j_if_eq (pc := 6) M.1 37 dX0_thing_6 rfl (fun b1 => ?_) (fun b1 => ?_)
  · replace hf := o_pos b1 hf
    refine j_iconst (pc := 37) M.1 dX0_thing_37 kc_iconst_m1 ?_
    exact jx_iretF (pc := 38) M dX0_thing_38 hf hkn
  · replace hf := o_neg b1 hf
    refine j_iload_n (pc := 9) M.1 dX0_thing_9 2 rfl ?_
    refine j_bipush (pc := 10) M.1 dX0_thing_10 kc_bipush_8 ?_
    obtain ⟨r2, g2, hf⟩ := o_bind hf
    refine jx_calls (pc := 12) (As := [.int x2, .int 8]) (rest := []) M xcs_X0_137 (met_x0_in g2) rfl rfl rfl rfl dX0_thing_12 (kn_le0 hkn) ?_
    refine j_if_eq (pc := 15) M.1 37 dX0_thing_15 rfl (fun b2 => ?_) (fun b2 => ?_)
    · replace hf := o_pos b2 hf
      refine j_iconst (pc := 37) M.1 dX0_thing_37 kc_iconst_m1 ?_
      exact jx_iretF (pc := 38) M dX0_thing_38 hf hkn
    · replace hf := o_neg b2 hf
      refine j_iload_n (pc := 18) M.1 dX0_thing_18 3 rfl ?_
      refine j_sipush (pc := 19) M.1 dX0_thing_19 kc_sipush_256 ?_
      obtain ⟨r3, g3, hf⟩ := o_bind hf
      refine jx_calls (pc := 22) (As := [.int x3, .int 256]) (rest := []) M xcs_X0_137 (met_x0_in g3) rfl rfl rfl rfl dX0_thing_22 (kn_le0 hkn) ?_
      refine j_if_eq (pc := 25) M.1 37 dX0_thing_25 rfl (fun b3 => ?_) (fun b3 => ?_)
      · replace hf := o_pos b3 hf
        refine j_iconst (pc := 37) M.1 dX0_thing_37 kc_iconst_m1 ?_
        exact jx_iretF (pc := 38) M dX0_thing_38 hf hkn
      · replace hf := o_neg b3 hf
        refine j_aload_n (pc := 28) M.1 dX0_thing_28 0 rfl ?_
        refine jx_getS (pc := 29) M xfs_378 dX0_thing_29 ?_
        refine j_bipush (pc := 32) M.1 dX0_thing_32 kc_bipush_60 ?_
        refine j_icmp_ne (pc := 34) M.1 39 dX0_thing_34 rfl (fun b4 => ?_) (fun b4 => ?_)
        · replace hf := o_neg b4 hf
          refine j_aload_n (pc := 39) M.1 dX0_thing_39 0 rfl ?_
          refine jx_getA (pc := 40) M xfa_65 dX0_thing_40 ?_
          refine j_aload_n (pc := 43) M.1 dX0_thing_43 0 rfl ?_
          refine jx_getS (pc := 44) M xfs_378 dX0_thing_44 ?_
          obtain ⟨τ1, e1, hf⟩ := o_nx hf
          obtain ⟨c1, s1, hf, hc1, hs1⟩ := o_tk hf
          replace hkn := kn_step hkn hc1 hs1
          refine jx_new (pc := 47) M xnew_X0_63 dX0_thing_47 (kn_le hkn) e1 ?_
          refine j_dup (pc := 50) M.1 dX0_thing_50 rfl ?_
          refine j_iload_n (pc := 51) M.1 dX0_thing_51 1 rfl ?_
          refine j_iload_n (pc := 52) M.1 dX0_thing_52 2 rfl ?_
          refine j_iload_n (pc := 53) M.1 dX0_thing_53 3 rfl ?_
          obtain ⟨r4, g4, hf⟩ := o_bind hf
          obtain ⟨c2, s2, hf, hc2, hs2⟩ := o_tk hf
          replace hkn := kn_step hkn hc2 hs2
          refine jx_v (r := r4.1) M (x_runI (pc := 54) (As := [.int x1, .int x2, .int x3]) (rest := [.ref τ.2.2.2.2, .int (τ.1.1 18), .ref (o + 1 + 8)]) M xci_X0_381 (met_x21_init g4) (by decide) rfl rfl rfl dX0_thing_54 (kn_le hkn)) ?_
          obtain ⟨b5, hf⟩ := o_need hf
          obtain ⟨b6, hf⟩ := o_need hf
          obtain ⟨τ2, e2, hf⟩ := o_nx hf
          refine jx_aast (pc := 57) M xax_8 (by decide) (by decide) xel_8 b5 b6 dX0_thing_57 e2 ?_
          refine j_aload_n (pc := 58) M.1 dX0_thing_58 0 rfl ?_
          refine j_dup (pc := 59) M.1 dX0_thing_59 rfl ?_
          refine jx_getS (pc := 60) M xfs_378 dX0_thing_60 ?_
          refine j_iconst (pc := 63) M.1 dX0_thing_63 kc_iconst_1 ?_
          refine j_iadd (pc := 64) M.1 dX0_thing_64 ?_
          obtain ⟨τ3, e3, hf⟩ := o_nx hf
          refine jx_putS (pc := 65) M xfs_378 dX0_thing_65 e3 ?_
          refine j_aload_n (pc := 68) M.1 dX0_thing_68 0 rfl ?_
          refine jx_getS (pc := 69) M xfs_378 dX0_thing_69 ?_
          refine j_iconst (pc := 72) M.1 dX0_thing_72 kc_iconst_1 ?_
          refine j_isub (pc := 73) M.1 dX0_thing_73 ?_
          exact jx_iretF (pc := 74) M dX0_thing_74 hf hkn
        · replace hf := o_pos b4 hf
          refine j_iconst (pc := 37) M.1 dX0_thing_37 kc_iconst_m1 ?_
          exact jx_iretF (pc := 38) M dX0_thing_38 hf hkn
end
theorem dX0_gone_0 : decode cX0_gone 0 = .ok (.iload_n 1, 1) := by decide +kernel
theorem dX0_gone_1 : decode cX0_gone 1 = .ok (.aload_n 0, 1) := by decide +kernel
theorem dX0_gone_2 : decode cX0_gone 2 = .ok (.getfield 378, 3) := by decide +kernel
theorem dX0_gone_5 : decode cX0_gone 5 = .ok (.invokestatic 137, 3) := by decide +kernel
theorem dX0_gone_8 : decode cX0_gone 8 = .ok (.ifCond .eq 16, 3) := by decide +kernel
theorem dX0_gone_11 : decode cX0_gone 11 = .ok (.aload_n 0, 1) := by decide +kernel
theorem dX0_gone_12 : decode cX0_gone 12 = .ok (.getfield 65, 3) := by decide +kernel
theorem dX0_gone_15 : decode cX0_gone 15 = .ok (.iload_n 1, 1) := by decide +kernel
theorem dX0_gone_16 : decode cX0_gone 16 = .ok (.aaload, 1) := by decide +kernel
theorem dX0_gone_17 : decode cX0_gone 17 = .ok (.getfield 384, 3) := by decide +kernel
theorem dX0_gone_20 : decode cX0_gone 20 = .ok (.iload_n 2, 1) := by decide +kernel
theorem dX0_gone_21 : decode cX0_gone 21 = .ok (.if_icmp .ne 5, 3) := by decide +kernel
theorem dX0_gone_24 : decode cX0_gone 24 = .ok (.iconst 0, 1) := by decide +kernel
theorem dX0_gone_25 : decode cX0_gone 25 = .ok (.ireturn, 1) := by decide +kernel
theorem dX0_gone_26 : decode cX0_gone 26 = .ok (.aload_n 0, 1) := by decide +kernel
theorem dX0_gone_27 : decode cX0_gone 27 = .ok (.getfield 65, 3) := by decide +kernel
theorem dX0_gone_30 : decode cX0_gone 30 = .ok (.iload_n 1, 1) := by decide +kernel
theorem dX0_gone_31 : decode cX0_gone 31 = .ok (.aaload, 1) := by decide +kernel
theorem dX0_gone_32 : decode cX0_gone 32 = .ok (.iload_n 2, 1) := by decide +kernel
theorem dX0_gone_33 : decode cX0_gone 33 = .ok (.putfield 384, 3) := by decide +kernel
theorem dX0_gone_36 : decode cX0_gone 36 = .ok (.iconst 1, 1) := by decide +kernel
theorem dX0_gone_37 : decode cX0_gone 37 = .ok (.ireturn, 1) := by decide +kernel
section
variable {v : Int32}
noncomputable def x0_gone (F : Nat) (x1 : Int32) (x2 : Int32) (τ : XS) : XR Int32 :=
  (x0_in F x1 (τ.1.1 18)).bind (fun r1 => if r1 = 0 then (some (0, τ, 0, 0)) else (if okI x1 60 = true then (τ.2.1 8 x1.toNatClampNeg).bind (fun n1 => (gI τ n1 [21] 3).bind (fun v1 => if v1 = x2 then (some (0, τ, 0, 0)) else (if okI x1 60 = true then (τ.2.1 8 x1.toNatClampNeg).bind (fun n2 => if okB x2 = true then (pF τ n2 [21] 3 (.int x2)).bind (fun τ1 => some (1, τ1, 0, 0)) else none) else none))) else none))
theorem met_x0_gone {l : Launch} {G : gG} {o B F : Nat} {x1 : Int32} {x2 : Int32} {τ : XS} {r : Int32 × XS × Nat × Nat} (hf : x0_gone F x1 x2 τ = some r) : MetX l G o B yX0_gone cX0_gone 3 (some .boolean) 2 [.ref o, .int x1, .int x2] τ (xQi G o B r.1 r.2.1) r.2.2.1 r.2.2.2 := by
  obtain ⟨v, τr, c, s⟩ := r
  refine metX_of (own := RX0) (mn := "gone") (by decide) rfl rfl rfl (fun γ hγ M => ?_)
  subst hγ
  show J γ (XW G o B τ) 0 0 0 [(0, .ref o), (1, .int x1), (2, .int x2)] []
  have hkn : 0 + c ≤ c ∧ 0 + s ≤ s := ⟨by omega, by omega⟩
  unfold x0_gone at hf
  refine j_iload_n (pc := 0) M.1 dX0_gone_0 1 rfl ?_
  refine j_aload_n (pc := 1) M.1 dX0_gone_1 0 rfl ?_
  refine jx_getS (pc := 2) M xfs_378 dX0_gone_2 ?_
  obtain ⟨r1, g1, hf⟩ := o_bind hf
  refine jx_calls (pc := 5) (As := [.int x1, .int (τ.1.1 18)]) (rest := []) M xcs_X0_137 (met_x0_in g1) rfl rfl rfl rfl dX0_gone_5 (kn_le0 hkn) ?_
  refine j_if_eq (pc := 8) M.1 24 dX0_gone_8 rfl (fun b1 => ?_) (fun b1 => ?_)
  · replace hf := o_pos b1 hf
    refine j_iconst (pc := 24) M.1 dX0_gone_24 kc_iconst_0 ?_
    exact jx_zretF (pc := 25) M dX0_gone_25 rfl hf hkn
  · replace hf := o_neg b1 hf
    refine j_aload_n (pc := 11) M.1 dX0_gone_11 0 rfl ?_
    refine jx_getA (pc := 12) M xfa_65 dX0_gone_12 ?_
    refine j_iload_n (pc := 15) M.1 dX0_gone_15 1 rfl ?_
    obtain ⟨b2, hf⟩ := o_need hf
    obtain ⟨n1, g2, hf⟩ := o_bind hf
    refine jx_aald (pc := 16) M xax_8 (by decide) xrt_8 b2 g2 dX0_gone_16 ?_
    obtain ⟨v1, g3, hf⟩ := o_bind hf
    refine jx_getI (pc := 17) M xfl_X0_384 g3 dX0_gone_17 ?_
    refine j_iload_n (pc := 20) M.1 dX0_gone_20 2 rfl ?_
    refine j_icmp_ne (pc := 21) M.1 26 dX0_gone_21 rfl (fun b3 => ?_) (fun b3 => ?_)
    · replace hf := o_neg b3 hf
      refine j_aload_n (pc := 26) M.1 dX0_gone_26 0 rfl ?_
      refine jx_getA (pc := 27) M xfa_65 dX0_gone_27 ?_
      refine j_iload_n (pc := 30) M.1 dX0_gone_30 1 rfl ?_
      obtain ⟨b4, hf⟩ := o_need hf
      obtain ⟨n2, g4, hf⟩ := o_bind hf
      refine jx_aald (pc := 31) M xax_8 (by decide) xrt_8 b4 g4 dX0_gone_31 ?_
      refine j_iload_n (pc := 32) M.1 dX0_gone_32 2 rfl ?_
      obtain ⟨b5, hf⟩ := o_need hf
      obtain ⟨τ1, g5, hf⟩ := o_bind hf
      refine jx_putV (pc := 33) M xfl_X0_384 (okB_nar b5) (okB_fit b5) g5 dX0_gone_33 ?_
      refine j_iconst (pc := 36) M.1 dX0_gone_36 kc_iconst_1 ?_
      exact jx_zretF (pc := 37) M dX0_gone_37 rfl hf hkn
    · replace hf := o_pos b3 hf
      refine j_iconst (pc := 24) M.1 dX0_gone_24 kc_iconst_0 ?_
      exact jx_zretF (pc := 25) M dX0_gone_25 rfl hf hkn
end
theorem dX21_agrees_0 : decode cX21_agrees 0 = .ok (.bipush 8, 2) := by decide +kernel
theorem dX21_agrees_2 : decode cX21_agrees 2 = .ok (.aload_n 0, 1) := by decide +kernel
theorem dX21_agrees_3 : decode cX21_agrees 3 = .ok (.getfield 16, 3) := by decide +kernel
theorem dX21_agrees_6 : decode cX21_agrees 6 = .ok (.aload_n 1, 1) := by decide +kernel
theorem dX21_agrees_7 : decode cX21_agrees 7 = .ok (.getfield 19, 3) := by decide +kernel
theorem dX21_agrees_10 : decode cX21_agrees 10 = .ok (.ixor, 1) := by decide +kernel
theorem dX21_agrees_11 : decode cX21_agrees 11 = .ok (.invokestatic 22, 3) := by decide +kernel
theorem dX21_agrees_14 : decode cX21_agrees 14 = .ok (.isub, 1) := by decide +kernel
theorem dX21_agrees_15 : decode cX21_agrees 15 = .ok (.ireturn, 1) := by decide +kernel
section
variable {v : Int32}
noncomputable def x21_agrees (F : Nat) (x0 : Nat) (x1 : Nat) (τ : XS) : XR Int32 :=
  (gI τ x0 [21] 2).bind (fun v1 => (gI τ x1 [20] 7).bind (fun v2 => (x0_sizeOf F (v1 ^^^ v2)).bind (fun r1 => some (8 - r1, τ, 0, 0))))
theorem met_x21_agrees {l : Launch} {G : gG} {o B F : Nat} {x0 : Nat} {x1 : Nat} {τ : XS} {r : Int32 × XS × Nat × Nat} (hf : x21_agrees F x0 x1 τ = some r) : MetX l G o B yX21_agrees cX21_agrees 2 (some .int) 3 [.ref x0, .ref x1] τ (xQi G o B r.1 r.2.1) r.2.2.1 r.2.2.2 := by
  obtain ⟨v, τr, c, s⟩ := r
  refine metX_of (own := RX21) (mn := "agrees") (by decide) rfl rfl rfl (fun γ hγ M => ?_)
  subst hγ
  show J γ (XW G o B τ) 0 0 0 [(0, .ref x0), (1, .ref x1)] []
  have hkn : 0 + c ≤ c ∧ 0 + s ≤ s := ⟨by omega, by omega⟩
  unfold x21_agrees at hf
  refine j_bipush (pc := 0) M.1 dX21_agrees_0 kc_bipush_8 ?_
  refine j_aload_n (pc := 2) M.1 dX21_agrees_2 0 rfl ?_
  obtain ⟨v1, g1, hf⟩ := o_bind hf
  refine jx_getI (pc := 3) M xfl_X21_16 g1 dX21_agrees_3 ?_
  refine j_aload_n (pc := 6) M.1 dX21_agrees_6 1 rfl ?_
  obtain ⟨v2, g2, hf⟩ := o_bind hf
  refine jx_getI (pc := 7) M xfl_X21_19 g2 dX21_agrees_7 ?_
  refine j_ixor (pc := 10) M.1 dX21_agrees_10 ?_
  obtain ⟨r1, g3, hf⟩ := o_bind hf
  refine jx_callsN (pc := 11) (As := [.int (v1 ^^^ v2)]) (rest := [.int 8]) M xcn_X21_22 (met_x0_sizeOf g3) rfl rfl rfl rfl dX21_agrees_11 (kn_le0 hkn) ?_
  refine j_isub (pc := 14) M.1 dX21_agrees_14 ?_
  exact jx_iretF (pc := 15) M dX21_agrees_15 hf hkn
end
theorem dX0_fits_0 : decode cX0_fits 0 = .ok (.aload_n 0, 1) := by decide +kernel
theorem dX0_fits_1 : decode cX0_fits 1 = .ok (.getfield 352, 3) := by decide +kernel
theorem dX0_fits_4 : decode cX0_fits 4 = .ok (.aload_n 1, 1) := by decide +kernel
theorem dX0_fits_5 : decode cX0_fits 5 = .ok (.getfield 388, 3) := by decide +kernel
theorem dX0_fits_8 : decode cX0_fits 8 = .ok (.if_icmp .ne 16, 3) := by decide +kernel
theorem dX0_fits_11 : decode cX0_fits 11 = .ok (.aload_n 1, 1) := by decide +kernel
theorem dX0_fits_12 : decode cX0_fits 12 = .ok (.aload_n 0, 1) := by decide +kernel
theorem dX0_fits_13 : decode cX0_fits 13 = .ok (.invokevirtual 389, 3) := by decide +kernel
theorem dX0_fits_16 : decode cX0_fits 16 = .ok (.iload_n 2, 1) := by decide +kernel
theorem dX0_fits_17 : decode cX0_fits 17 = .ok (.if_icmp .lt 7, 3) := by decide +kernel
theorem dX0_fits_20 : decode cX0_fits 20 = .ok (.iconst 1, 1) := by decide +kernel
theorem dX0_fits_21 : decode cX0_fits 21 = .ok (.goto 4, 3) := by decide +kernel
theorem dX0_fits_24 : decode cX0_fits 24 = .ok (.iconst 0, 1) := by decide +kernel
theorem dX0_fits_25 : decode cX0_fits 25 = .ok (.ireturn, 1) := by decide +kernel
section
variable {v : Int32}
noncomputable def x0_fits (F : Nat) (x0 : Nat) (x1 : Nat) (x2 : Int32) (τ : XS) : XR Int32 :=
  (gI τ x0 [20] 6).bind (fun v1 => (gI τ x1 [21] 1).bind (fun v2 => if v1 = v2 then (if isC τ x1 [21] = true then (x21_agrees F x1 x0 τ).bind (fun r1 => tk r1.2.2.1 r1.2.2.2 (if r1.1 < x2 then (some (0, r1.2.1, 0, 0)) else (some (1, r1.2.1, 0, 0)))) else none) else (some (0, τ, 0, 0))))
theorem met_x0_fits {l : Launch} {G : gG} {o B F : Nat} {x0 : Nat} {x1 : Nat} {x2 : Int32} {τ : XS} {r : Int32 × XS × Nat × Nat} (hf : x0_fits F x0 x1 x2 τ = some r) : MetX l G o B yX0_fits cX0_fits 3 (some .boolean) 4 [.ref x0, .ref x1, .int x2] τ (xQi G o B r.1 r.2.1) r.2.2.1 r.2.2.2 := by
  obtain ⟨v, τr, c, s⟩ := r
  refine metX_of (own := RX0) (mn := "fits") (by decide) rfl rfl rfl (fun γ hγ M => ?_)
  subst hγ
  show J γ (XW G o B τ) 0 0 0 [(0, .ref x0), (1, .ref x1), (2, .int x2)] []
  have hkn : 0 + c ≤ c ∧ 0 + s ≤ s := ⟨by omega, by omega⟩
  unfold x0_fits at hf
  refine j_aload_n (pc := 0) M.1 dX0_fits_0 0 rfl ?_
  obtain ⟨v1, g1, hf⟩ := o_bind hf
  refine jx_getI (pc := 1) M xfl_X0_352 g1 dX0_fits_1 ?_
  refine j_aload_n (pc := 4) M.1 dX0_fits_4 1 rfl ?_
  obtain ⟨v2, g2, hf⟩ := o_bind hf
  refine jx_getI (pc := 5) M xfl_X0_388 g2 dX0_fits_5 ?_
  refine j_icmp_ne (pc := 8) M.1 24 dX0_fits_8 rfl (fun b1 => ?_) (fun b1 => ?_)
  · replace hf := o_neg b1 hf
    refine j_iconst (pc := 24) M.1 dX0_fits_24 kc_iconst_0 ?_
    exact jx_zretF (pc := 25) M dX0_fits_25 rfl hf hkn
  · replace hf := o_pos b1 hf
    refine j_aload_n (pc := 11) M.1 dX0_fits_11 1 rfl ?_
    refine j_aload_n (pc := 12) M.1 dX0_fits_12 0 rfl ?_
    obtain ⟨b2, hf⟩ := o_need hf
    obtain ⟨r1, g3, hf⟩ := o_bind hf
    obtain ⟨c1, s1, hf, hc1, hs1⟩ := o_tk hf
    replace hkn := kn_step hkn hc1 hs1
    refine jx_i M (x_runW (pc := 13) (As := [.ref x0]) (rest := []) M xcw_X0_389 (met_x21_agrees g3) b2 (by decide) rfl rfl rfl dX0_fits_13 (kn_le hkn)) ?_
    refine j_iload_n (pc := 16) M.1 dX0_fits_16 2 rfl ?_
    refine j_icmp_lt (pc := 17) M.1 24 dX0_fits_17 rfl (fun b3 => ?_) (fun b3 => ?_)
    · replace hf := o_pos b3 hf
      refine j_iconst (pc := 24) M.1 dX0_fits_24 kc_iconst_0 ?_
      exact jx_zretF (pc := 25) M dX0_fits_25 rfl hf hkn
    · replace hf := o_neg b3 hf
      refine j_iconst (pc := 20) M.1 dX0_fits_20 kc_iconst_1 ?_
      refine j_goto (pc := 21) M.1 25 dX0_fits_21 rfl ?_
      exact jx_zretF (pc := 25) M dX0_fits_25 rfl hf hkn
end
