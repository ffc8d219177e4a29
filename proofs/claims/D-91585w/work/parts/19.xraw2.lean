set_option maxRecDepth 100000
variable {γ : jG} {G : gG} {o B F c0 s0 : Nat} {τr : XS}
theorem dX9_here_0 : decode cX9_here 0 = .ok (.aload_n 0, 1) := by decide +kernel
theorem dX9_here_1 : decode cX9_here 1 = .ok (.getfield 32, 3) := by decide +kernel
theorem dX9_here_4 : decode cX9_here 4 = .ok (.aload_n 0, 1) := by decide +kernel
theorem dX9_here_5 : decode cX9_here 5 = .ok (.getfield 28, 3) := by decide +kernel
theorem dX9_here_8 : decode cX9_here 8 = .ok (.arraylength, 1) := by decide +kernel
theorem dX9_here_9 : decode cX9_here 9 = .ok (.if_icmp .ge 19, 3) := by decide +kernel
theorem dX9_here_12 : decode cX9_here 12 = .ok (.aload_n 0, 1) := by decide +kernel
theorem dX9_here_13 : decode cX9_here 13 = .ok (.getfield 28, 3) := by decide +kernel
theorem dX9_here_16 : decode cX9_here 16 = .ok (.aload_n 0, 1) := by decide +kernel
theorem dX9_here_17 : decode cX9_here 17 = .ok (.getfield 32, 3) := by decide +kernel
theorem dX9_here_20 : decode cX9_here 20 = .ok (.baload, 1) := by decide +kernel
theorem dX9_here_21 : decode cX9_here 21 = .ok (.sipush 255, 3) := by decide +kernel
theorem dX9_here_24 : decode cX9_here 24 = .ok (.iand, 1) := by decide +kernel
theorem dX9_here_25 : decode cX9_here 25 = .ok (.goto 4, 3) := by decide +kernel
theorem dX9_here_28 : decode cX9_here 28 = .ok (.iconst 0, 1) := by decide +kernel
theorem dX9_here_29 : decode cX9_here 29 = .ok (.ireturn, 1) := by decide +kernel
section
variable {v : Int32}
noncomputable def x9_here (F : Nat) (x0 : Nat) (τ : XS) : XR Int32 :=
  (gI τ x0 [9] 6).bind (fun v1 => (gN τ x0 [9] 5).bind (fun n1 => (gA τ n1 1).bind (fun A1 => if (nI A1.1) ≤ v1 then (some (0, τ, 0, 0)) else ((gN τ x0 [9] 5).bind (fun n2 => (gI τ x0 [9] 6).bind (fun v2 => (gA τ n2 1).bind (fun A2 => if okI v2 A2.1 = true then some ((A2.2 v2.toNatClampNeg) &&& 255, τ, 0, 0) else none)))))))
theorem met_x9_here {l : Launch} {G : gG} {o B F : Nat} {x0 : Nat} {τ : XS} {r : Int32 × XS × Nat × Nat} (hf : x9_here F x0 τ = some r) : MetX l G o B yX9_here cX9_here 1 (some .int) 1 [.ref x0] τ (xQi G o B r.1 r.2.1) r.2.2.1 r.2.2.2 := by
  obtain ⟨v, τr, c, s⟩ := r
  refine metX_of (own := RX9) (mn := "here") (by decide) rfl rfl rfl (fun γ hγ M => ?_)
  subst hγ
  show J γ (XW G o B τ) 0 0 0 [(0, .ref x0)] []
  have hkn : 0 + c ≤ c ∧ 0 + s ≤ s := ⟨by omega, by omega⟩
  unfold x9_here at hf
  refine j_aload_n (pc := 0) M.1 dX9_here_0 0 rfl ?_
  obtain ⟨v1, g1, hf⟩ := o_bind hf
  refine jx_getI (pc := 1) M xfl_X9_32 g1 dX9_here_1 ?_
  refine j_aload_n (pc := 4) M.1 dX9_here_4 0 rfl ?_
  obtain ⟨n1, g2, hf⟩ := o_bind hf
  refine jx_getN (pc := 5) M xfl_X9_28 g2 dX9_here_5 ?_
  obtain ⟨A1, g3, hf⟩ := o_bind hf
  refine jx_alen (pc := 8) M (fun _ => rfl) g3 dX9_here_8 ?_
  refine j_icmp_ge (pc := 9) M.1 28 dX9_here_9 rfl (fun b1 => ?_) (fun b1 => ?_)
  · replace hf := o_pos b1 hf
    refine j_iconst (pc := 28) M.1 dX9_here_28 kc_iconst_0 ?_
    exact jx_iretF (pc := 29) M dX9_here_29 hf hkn
  · replace hf := o_neg b1 hf
    refine j_aload_n (pc := 12) M.1 dX9_here_12 0 rfl ?_
    obtain ⟨n2, g4, hf⟩ := o_bind hf
    refine jx_getN (pc := 13) M xfl_X9_28 g4 dX9_here_13 ?_
    refine j_aload_n (pc := 16) M.1 dX9_here_16 0 rfl ?_
    obtain ⟨v2, g5, hf⟩ := o_bind hf
    refine jx_getI (pc := 17) M xfl_X9_32 g5 dX9_here_17 ?_
    obtain ⟨A2, g6, hf⟩ := o_bind hf
    obtain ⟨b2, hf⟩ := o_need hf
    refine jx_pald1 (pc := 20) M g6 b2 dX9_here_20 ?_
    refine j_sipush (pc := 21) M.1 dX9_here_21 kc_sipush_255 ?_
    refine j_iand (pc := 24) M.1 dX9_here_24 ?_
    refine j_goto (pc := 25) M.1 29 dX9_here_25 rfl ?_
    exact jx_iretF (pc := 29) M dX9_here_29 hf hkn
end
theorem dX9_isGood_0 : decode cX9_isGood 0 = .ok (.aload_n 0, 1) := by decide +kernel
theorem dX9_isGood_1 : decode cX9_isGood 1 = .ok (.getfield 35, 3) := by decide +kernel
theorem dX9_isGood_4 : decode cX9_isGood 4 = .ok (.ifCond .ne 7, 3) := by decide +kernel
theorem dX9_isGood_7 : decode cX9_isGood 7 = .ok (.iconst 1, 1) := by decide +kernel
theorem dX9_isGood_8 : decode cX9_isGood 8 = .ok (.goto 4, 3) := by decide +kernel
theorem dX9_isGood_11 : decode cX9_isGood 11 = .ok (.iconst 0, 1) := by decide +kernel
theorem dX9_isGood_12 : decode cX9_isGood 12 = .ok (.ireturn, 1) := by decide +kernel
section
variable {v : Int32}
noncomputable def x9_isGood (F : Nat) (x0 : Nat) (τ : XS) : XR Int32 :=
  (gI τ x0 [9] 8).bind (fun v1 => if v1 = 0 then (some (1, τ, 0, 0)) else (some (0, τ, 0, 0)))
theorem met_x9_isGood {l : Launch} {G : gG} {o B F : Nat} {x0 : Nat} {τ : XS} {r : Int32 × XS × Nat × Nat} (hf : x9_isGood F x0 τ = some r) : MetX l G o B yX9_isGood cX9_isGood 1 (some .boolean) 1 [.ref x0] τ (xQi G o B r.1 r.2.1) r.2.2.1 r.2.2.2 := by
  obtain ⟨v, τr, c, s⟩ := r
  refine metX_of (own := RX9) (mn := "isGood") (by decide) rfl rfl rfl (fun γ hγ M => ?_)
  subst hγ
  show J γ (XW G o B τ) 0 0 0 [(0, .ref x0)] []
  have hkn : 0 + c ≤ c ∧ 0 + s ≤ s := ⟨by omega, by omega⟩
  unfold x9_isGood at hf
  refine j_aload_n (pc := 0) M.1 dX9_isGood_0 0 rfl ?_
  obtain ⟨v1, g1, hf⟩ := o_bind hf
  refine jx_getI (pc := 1) M xfl_X9_35 g1 dX9_isGood_1 ?_
  refine j_if_ne (pc := 4) M.1 11 dX9_isGood_4 rfl (fun b1 => ?_) (fun b1 => ?_)
  · replace hf := o_neg b1 hf
    refine j_iconst (pc := 11) M.1 dX9_isGood_11 kc_iconst_0 ?_
    exact jx_zretF (pc := 12) M dX9_isGood_12 rfl hf hkn
  · replace hf := o_pos b1 hf
    refine j_iconst (pc := 7) M.1 dX9_isGood_7 kc_iconst_1 ?_
    refine j_goto (pc := 8) M.1 12 dX9_isGood_8 rfl ?_
    exact jx_zretF (pc := 12) M dX9_isGood_12 rfl hf hkn
end
theorem dX9_must_0 : decode cX9_must 0 = .ok (.aload_n 0, 1) := by decide +kernel
theorem dX9_must_1 : decode cX9_must 1 = .ok (.invokevirtual 41, 3) := by decide +kernel
theorem dX9_must_4 : decode cX9_must 4 = .ok (.iload_n 1, 1) := by decide +kernel
theorem dX9_must_5 : decode cX9_must 5 = .ok (.if_icmp .eq 12, 3) := by decide +kernel
theorem dX9_must_8 : decode cX9_must 8 = .ok (.aload_n 0, 1) := by decide +kernel
theorem dX9_must_9 : decode cX9_must 9 = .ok (.iconst 1, 1) := by decide +kernel
theorem dX9_must_10 : decode cX9_must 10 = .ok (.aload_n 0, 1) := by decide +kernel
theorem dX9_must_11 : decode cX9_must 11 = .ok (.getfield 32, 3) := by decide +kernel
theorem dX9_must_14 : decode cX9_must 14 = .ok (.invokevirtual 49, 3) := by decide +kernel
theorem dX9_must_17 : decode cX9_must 17 = .ok (.aload_n 0, 1) := by decide +kernel
theorem dX9_must_18 : decode cX9_must 18 = .ok (.dup, 1) := by decide +kernel
theorem dX9_must_19 : decode cX9_must 19 = .ok (.getfield 32, 3) := by decide +kernel
theorem dX9_must_22 : decode cX9_must 22 = .ok (.iconst 1, 1) := by decide +kernel
theorem dX9_must_23 : decode cX9_must 23 = .ok (.iadd, 1) := by decide +kernel
theorem dX9_must_24 : decode cX9_must 24 = .ok (.putfield 32, 3) := by decide +kernel
theorem dX9_must_27 : decode cX9_must 27 = .ok (.return_, 1) := by decide +kernel
section
variable {v : Int32}
noncomputable def x9_must_17 (F : Nat) (x0 : Nat) (τ : XS) : XR Int32 :=
  (gI τ x0 [9] 6).bind (fun v1 => (pF τ x0 [9] 6 (.int (v1 + 1))).bind (fun τ1 => some (0, τ1, 0, 0)))
theorem kx9_must_17 (M : XC γ cX9_must 2 RX9 "must" G o B 2 none (xQv G o B v τr) c0 s0) (x0 : Nat) (τ : XS) {c s k n : Nat} (hf : x9_must_17 F x0 τ = some (v, τr, c, s)) (hkn : k + c ≤ c0 ∧ n + s ≤ s0) : J γ (XW G o B τ) k n 17 [(0, .ref x0)] [] := by
  unfold x9_must_17 at hf
  refine j_aload_n (pc := 17) M.1 dX9_must_17 0 rfl ?_
  refine j_dup (pc := 18) M.1 dX9_must_18 rfl ?_
  obtain ⟨v1, g1, hf⟩ := o_bind hf
  refine jx_getI (pc := 19) M xfl_X9_32 g1 dX9_must_19 ?_
  refine j_iconst (pc := 22) M.1 dX9_must_22 kc_iconst_1 ?_
  refine j_iadd (pc := 23) M.1 dX9_must_23 ?_
  obtain ⟨τ1, g2, hf⟩ := o_bind hf
  refine jx_putV (pc := 24) M xfl_X9_32 rfl rfl g2 dX9_must_24 ?_
  exact jx_vretF (pc := 27) M dX9_must_27 hf hkn
noncomputable def x9_must (F : Nat) (x0 : Nat) (x1 : Int32) (τ : XS) : XR Int32 :=
  if isC τ x0 [9] = true then (x9_here F x0 τ).bind (fun r1 => tk r1.2.2.1 r1.2.2.2 (if r1.1 = x1 then (x9_must_17 F x0 r1.2.1) else ((gI r1.2.1 x0 [9] 6).bind (fun v1 => if isC r1.2.1 x0 [9] = true then (x9_bad F x0 1 v1 r1.2.1).bind (fun r2 => tk r2.2.2.1 r2.2.2.2 (x9_must_17 F x0 r2.2.1)) else none)))) else none
theorem met_x9_must {l : Launch} {G : gG} {o B F : Nat} {x0 : Nat} {x1 : Int32} {τ : XS} {r : Int32 × XS × Nat × Nat} (hf : x9_must F x0 x1 τ = some r) : MetX l G o B yX9_must cX9_must 2 none 2 [.ref x0, .int x1] τ (xQv G o B r.1 r.2.1) r.2.2.1 r.2.2.2 := by
  obtain ⟨v, τr, c, s⟩ := r
  refine metX_of (own := RX9) (mn := "must") (by decide) rfl rfl rfl (fun γ hγ M => ?_)
  subst hγ
  show J γ (XW G o B τ) 0 0 0 [(0, .ref x0), (1, .int x1)] []
  have hkn : 0 + c ≤ c ∧ 0 + s ≤ s := ⟨by omega, by omega⟩
  unfold x9_must at hf
  refine j_aload_n (pc := 0) M.1 dX9_must_0 0 rfl ?_
  obtain ⟨b1, hf⟩ := o_need hf
  obtain ⟨r1, g1, hf⟩ := o_bind hf
  obtain ⟨c1, s1, hf, hc1, hs1⟩ := o_tk hf
  replace hkn := kn_step hkn hc1 hs1
  refine jx_i M (x_runW (pc := 1) (As := []) (rest := []) M xcw_X9_41 (met_x9_here g1) b1 (by decide) rfl rfl rfl dX9_must_1 (kn_le hkn)) ?_
  refine j_iload_n (pc := 4) M.1 dX9_must_4 1 rfl ?_
  refine j_icmp_eq (pc := 5) M.1 17 dX9_must_5 rfl (fun b2 => ?_) (fun b2 => ?_)
  · replace hf := o_pos b2 hf
    refine j_sub [0] (show lv_pick _ _ = [(0, .ref x0)] from rfl) ?_
    exact kx9_must_17 M x0 r1.2.1 hf hkn
  · replace hf := o_neg b2 hf
    refine j_aload_n (pc := 8) M.1 dX9_must_8 0 rfl ?_
    refine j_iconst (pc := 9) M.1 dX9_must_9 kc_iconst_1 ?_
    refine j_aload_n (pc := 10) M.1 dX9_must_10 0 rfl ?_
    obtain ⟨v1, g2, hf⟩ := o_bind hf
    refine jx_getI (pc := 11) M xfl_X9_32 g2 dX9_must_11 ?_
    obtain ⟨b3, hf⟩ := o_need hf
    obtain ⟨r2, g3, hf⟩ := o_bind hf
    obtain ⟨c2, s2, hf, hc2, hs2⟩ := o_tk hf
    replace hkn := kn_step hkn hc2 hs2
    refine jx_v (r := r2.1) M (x_runW (pc := 14) (As := [.int 1, .int v1]) (rest := []) M xcw_X9_49 (met_x9_bad g3) b3 (by decide) rfl rfl rfl dX9_must_14 (kn_le hkn)) ?_
    refine j_sub [0] (show lv_pick _ _ = [(0, .ref x0)] from rfl) ?_
    exact kx9_must_17 M x0 r2.2.1 hf hkn
end
theorem dX9_seesDigit_0 : decode cX9_seesDigit 0 = .ok (.aload_n 0, 1) := by decide +kernel
theorem dX9_seesDigit_1 : decode cX9_seesDigit 1 = .ok (.invokevirtual 41, 3) := by decide +kernel
theorem dX9_seesDigit_4 : decode cX9_seesDigit 4 = .ok (.bipush 48, 2) := by decide +kernel
theorem dX9_seesDigit_6 : decode cX9_seesDigit 6 = .ok (.if_icmp .lt 16, 3) := by decide +kernel
theorem dX9_seesDigit_9 : decode cX9_seesDigit 9 = .ok (.aload_n 0, 1) := by decide +kernel
theorem dX9_seesDigit_10 : decode cX9_seesDigit 10 = .ok (.invokevirtual 41, 3) := by decide +kernel
theorem dX9_seesDigit_13 : decode cX9_seesDigit 13 = .ok (.bipush 57, 2) := by decide +kernel
theorem dX9_seesDigit_15 : decode cX9_seesDigit 15 = .ok (.if_icmp .gt 7, 3) := by decide +kernel
theorem dX9_seesDigit_18 : decode cX9_seesDigit 18 = .ok (.iconst 1, 1) := by decide +kernel
theorem dX9_seesDigit_19 : decode cX9_seesDigit 19 = .ok (.goto 4, 3) := by decide +kernel
theorem dX9_seesDigit_22 : decode cX9_seesDigit 22 = .ok (.iconst 0, 1) := by decide +kernel
theorem dX9_seesDigit_23 : decode cX9_seesDigit 23 = .ok (.ireturn, 1) := by decide +kernel
section
variable {v : Int32}
noncomputable def x9_seesDigit (F : Nat) (x0 : Nat) (τ : XS) : XR Int32 :=
  if isC τ x0 [9] = true then (x9_here F x0 τ).bind (fun r1 => tk r1.2.2.1 r1.2.2.2 (if r1.1 < 48 then (some (0, r1.2.1, 0, 0)) else (if isC r1.2.1 x0 [9] = true then (x9_here F x0 r1.2.1).bind (fun r2 => tk r2.2.2.1 r2.2.2.2 (if 57 < r2.1 then (some (0, r2.2.1, 0, 0)) else (some (1, r2.2.1, 0, 0)))) else none))) else none
theorem met_x9_seesDigit {l : Launch} {G : gG} {o B F : Nat} {x0 : Nat} {τ : XS} {r : Int32 × XS × Nat × Nat} (hf : x9_seesDigit F x0 τ = some r) : MetX l G o B yX9_seesDigit cX9_seesDigit 1 (some .boolean) 2 [.ref x0] τ (xQi G o B r.1 r.2.1) r.2.2.1 r.2.2.2 := by
  obtain ⟨v, τr, c, s⟩ := r
  refine metX_of (own := RX9) (mn := "seesDigit") (by decide) rfl rfl rfl (fun γ hγ M => ?_)
  subst hγ
  show J γ (XW G o B τ) 0 0 0 [(0, .ref x0)] []
  have hkn : 0 + c ≤ c ∧ 0 + s ≤ s := ⟨by omega, by omega⟩
  unfold x9_seesDigit at hf
  refine j_aload_n (pc := 0) M.1 dX9_seesDigit_0 0 rfl ?_
  obtain ⟨b1, hf⟩ := o_need hf
  obtain ⟨r1, g1, hf⟩ := o_bind hf
  obtain ⟨c1, s1, hf, hc1, hs1⟩ := o_tk hf
  replace hkn := kn_step hkn hc1 hs1
  refine jx_i M (x_runW (pc := 1) (As := []) (rest := []) M xcw_X9_41 (met_x9_here g1) b1 (by decide) rfl rfl rfl dX9_seesDigit_1 (kn_le hkn)) ?_
  refine j_bipush (pc := 4) M.1 dX9_seesDigit_4 kc_bipush_48 ?_
  refine j_icmp_lt (pc := 6) M.1 22 dX9_seesDigit_6 rfl (fun b2 => ?_) (fun b2 => ?_)
  · replace hf := o_pos b2 hf
    refine j_iconst (pc := 22) M.1 dX9_seesDigit_22 kc_iconst_0 ?_
    exact jx_zretF (pc := 23) M dX9_seesDigit_23 rfl hf hkn
  · replace hf := o_neg b2 hf
    refine j_aload_n (pc := 9) M.1 dX9_seesDigit_9 0 rfl ?_
    obtain ⟨b3, hf⟩ := o_need hf
    obtain ⟨r2, g2, hf⟩ := o_bind hf
    obtain ⟨c2, s2, hf, hc2, hs2⟩ := o_tk hf
    replace hkn := kn_step hkn hc2 hs2
    refine jx_i M (x_runW (pc := 10) (As := []) (rest := []) M xcw_X9_41 (met_x9_here g2) b3 (by decide) rfl rfl rfl dX9_seesDigit_10 (kn_le hkn)) ?_
    refine j_bipush (pc := 13) M.1 dX9_seesDigit_13 kc_bipush_57 ?_
    refine j_icmp_gt (pc := 15) M.1 22 dX9_seesDigit_15 rfl (fun b4 => ?_) (fun b4 => ?_)
    · replace hf := o_pos b4 hf
      refine j_iconst (pc := 22) M.1 dX9_seesDigit_22 kc_iconst_0 ?_
      exact jx_zretF (pc := 23) M dX9_seesDigit_23 rfl hf hkn
    · replace hf := o_neg b4 hf
      refine j_iconst (pc := 18) M.1 dX9_seesDigit_18 kc_iconst_1 ?_
      refine j_goto (pc := 19) M.1 23 dX9_seesDigit_19 rfl ?_
      exact jx_zretF (pc := 23) M dX9_seesDigit_23 rfl hf hkn
end
theorem dX9_number_0 : decode cX9_number 0 = .ok (.aload_n 0, 1) := by decide +kernel
theorem dX9_number_1 : decode cX9_number 1 = .ok (.getfield 32, 3) := by decide +kernel
theorem dX9_number_4 : decode cX9_number 4 = .ok (.istore_n 2, 1) := by decide +kernel
theorem dX9_number_5 : decode cX9_number 5 = .ok (.iconst 0, 1) := by decide +kernel
theorem dX9_number_6 : decode cX9_number 6 = .ok (.istore_n 3, 1) := by decide +kernel
theorem dX9_number_7 : decode cX9_number 7 = .ok (.aload_n 0, 1) := by decide +kernel
theorem dX9_number_8 : decode cX9_number 8 = .ok (.invokevirtual 45, 3) := by decide +kernel
theorem dX9_number_11 : decode cX9_number 11 = .ok (.ifCond .ne 12, 3) := by decide +kernel
theorem dX9_number_14 : decode cX9_number 14 = .ok (.aload_n 0, 1) := by decide +kernel
theorem dX9_number_15 : decode cX9_number 15 = .ok (.iconst 1, 1) := by decide +kernel
theorem dX9_number_16 : decode cX9_number 16 = .ok (.aload_n 0, 1) := by decide +kernel
theorem dX9_number_17 : decode cX9_number 17 = .ok (.getfield 32, 3) := by decide +kernel
theorem dX9_number_20 : decode cX9_number 20 = .ok (.invokevirtual 49, 3) := by decide +kernel
theorem dX9_number_23 : decode cX9_number 23 = .ok (.aload_n 0, 1) := by decide +kernel
theorem dX9_number_24 : decode cX9_number 24 = .ok (.invokevirtual 53, 3) := by decide +kernel
theorem dX9_number_27 : decode cX9_number 27 = .ok (.ifCond .eq 55, 3) := by decide +kernel
theorem dX9_number_30 : decode cX9_number 30 = .ok (.aload_n 0, 1) := by decide +kernel
theorem dX9_number_31 : decode cX9_number 31 = .ok (.invokevirtual 45, 3) := by decide +kernel
theorem dX9_number_34 : decode cX9_number 34 = .ok (.ifCond .eq 48, 3) := by decide +kernel
theorem dX9_number_37 : decode cX9_number 37 = .ok (.aload_n 0, 1) := by decide +kernel
theorem dX9_number_38 : decode cX9_number 38 = .ok (.getfield 32, 3) := by decide +kernel
theorem dX9_number_41 : decode cX9_number 41 = .ok (.iload_n 2, 1) := by decide +kernel
theorem dX9_number_42 : decode cX9_number 42 = .ok (.iconst 5, 1) := by decide +kernel
theorem dX9_number_43 : decode cX9_number 43 = .ok (.iadd, 1) := by decide +kernel
theorem dX9_number_44 : decode cX9_number 44 = .ok (.if_icmp .ne 12, 3) := by decide +kernel
theorem dX9_number_47 : decode cX9_number 47 = .ok (.aload_n 0, 1) := by decide +kernel
theorem dX9_number_48 : decode cX9_number 48 = .ok (.iconst 2, 1) := by decide +kernel
theorem dX9_number_49 : decode cX9_number 49 = .ok (.aload_n 0, 1) := by decide +kernel
theorem dX9_number_50 : decode cX9_number 50 = .ok (.getfield 32, 3) := by decide +kernel
theorem dX9_number_53 : decode cX9_number 53 = .ok (.invokevirtual 49, 3) := by decide +kernel
theorem dX9_number_56 : decode cX9_number 56 = .ok (.bipush 10, 2) := by decide +kernel
theorem dX9_number_58 : decode cX9_number 58 = .ok (.iload_n 3, 1) := by decide +kernel
theorem dX9_number_59 : decode cX9_number 59 = .ok (.imul, 1) := by decide +kernel
theorem dX9_number_60 : decode cX9_number 60 = .ok (.aload_n 0, 1) := by decide +kernel
theorem dX9_number_61 : decode cX9_number 61 = .ok (.invokevirtual 41, 3) := by decide +kernel
theorem dX9_number_64 : decode cX9_number 64 = .ok (.iadd, 1) := by decide +kernel
theorem dX9_number_65 : decode cX9_number 65 = .ok (.bipush 48, 2) := by decide +kernel
theorem dX9_number_67 : decode cX9_number 67 = .ok (.isub, 1) := by decide +kernel
theorem dX9_number_68 : decode cX9_number 68 = .ok (.istore_n 3, 1) := by decide +kernel
theorem dX9_number_69 : decode cX9_number 69 = .ok (.aload_n 0, 1) := by decide +kernel
theorem dX9_number_70 : decode cX9_number 70 = .ok (.dup, 1) := by decide +kernel
theorem dX9_number_71 : decode cX9_number 71 = .ok (.getfield 32, 3) := by decide +kernel
theorem dX9_number_74 : decode cX9_number 74 = .ok (.iconst 1, 1) := by decide +kernel
theorem dX9_number_75 : decode cX9_number 75 = .ok (.iadd, 1) := by decide +kernel
theorem dX9_number_76 : decode cX9_number 76 = .ok (.putfield 32, 3) := by decide +kernel
theorem dX9_number_79 : decode cX9_number 79 = .ok (.goto (-56), 3) := by decide +kernel
theorem dX9_number_82 : decode cX9_number 82 = .ok (.iload_n 3, 1) := by decide +kernel
theorem dX9_number_83 : decode cX9_number 83 = .ok (.iload_n 1, 1) := by decide +kernel
theorem dX9_number_84 : decode cX9_number 84 = .ok (.if_icmp .le 9, 3) := by decide +kernel
theorem dX9_number_87 : decode cX9_number 87 = .ok (.aload_n 0, 1) := by decide +kernel
theorem dX9_number_88 : decode cX9_number 88 = .ok (.iconst 3, 1) := by decide +kernel
theorem dX9_number_89 : decode cX9_number 89 = .ok (.iload_n 2, 1) := by decide +kernel
theorem dX9_number_90 : decode cX9_number 90 = .ok (.invokevirtual 49, 3) := by decide +kernel
theorem dX9_number_93 : decode cX9_number 93 = .ok (.iload_n 3, 1) := by decide +kernel
theorem dX9_number_94 : decode cX9_number 94 = .ok (.ireturn, 1) := by decide +kernel
section
variable {v : Int32}
noncomputable def x9_number_56 (F : Nat) (K82 : Int32 × XS → XR Int32) (R : Int32 × XS → XR Int32) (x0 : Nat) (x1 : Int32) (x2 : Int32) (x3 : Int32) (τ : XS) : XR Int32 :=
  if isC τ x0 [9] = true then (x9_here F x0 τ).bind (fun r1 => tk r1.2.2.1 r1.2.2.2 (nx (((10 * x3) + r1.1) - 48 : Int32) (fun y1 => (gI r1.2.1 x0 [9] 6).bind (fun v1 => (pF r1.2.1 x0 [9] 6 (.int (v1 + 1))).bind (fun τ1 => R (y1, τ1)))))) else none
theorem kx9_number_56 (M : XC γ cX9_number 4 RX9 "number" G o B 3 (some .int) (xQi G o B v τr) c0 s0) (x0 : Nat) (x1 : Int32) (x2 : Int32) (x3 : Int32) (K82 : Int32 × XS → XR Int32) (hK82 : ∀ a c s, K82 a = some (v, τr, c, s) → ∀ k n, k + c ≤ c0 ∧ n + s ≤ s0 → J γ (XW G o B a.2) k n 82 [(0, .ref x0), (1, .int x1), (2, .int x2), (3, .int a.1)] []) (R : Int32 × XS → XR Int32) (hR : ∀ a c s, R a = some (v, τr, c, s) → ∀ k n, k + c ≤ c0 ∧ n + s ≤ s0 → J γ (XW G o B a.2) k n 23 [(0, .ref x0), (1, .int x1), (2, .int x2), (3, .int a.1)] []) (τ : XS) {c s k n : Nat} (hf : x9_number_56 F K82 R x0 x1 x2 x3 τ = some (v, τr, c, s)) (hkn : k + c ≤ c0 ∧ n + s ≤ s0) : J γ (XW G o B τ) k n 56 [(0, .ref x0), (1, .int x1), (2, .int x2), (3, .int x3)] [] := by
  unfold x9_number_56 at hf
  refine j_bipush (pc := 56) M.1 dX9_number_56 kc_bipush_10 ?_
  refine j_iload_n (pc := 58) M.1 dX9_number_58 3 rfl ?_
  refine j_imul (pc := 59) M.1 dX9_number_59 ?_
  refine j_aload_n (pc := 60) M.1 dX9_number_60 0 rfl ?_
  obtain ⟨b1, hf⟩ := o_need hf
  obtain ⟨r1, g1, hf⟩ := o_bind hf
  obtain ⟨c1, s1, hf, hc1, hs1⟩ := o_tk hf
  replace hkn := kn_step hkn hc1 hs1
  refine jx_i M (x_runW (pc := 61) (As := []) (rest := [.int (10 * x3)]) M xcw_X9_41 (met_x9_here g1) b1 (by decide) rfl rfl rfl dX9_number_61 (kn_le hkn)) ?_
  refine j_iadd (pc := 64) M.1 dX9_number_64 ?_
  refine j_bipush (pc := 65) M.1 dX9_number_65 kc_bipush_48 ?_
  refine j_isub (pc := 67) M.1 dX9_number_67 ?_
  obtain ⟨y1, e1, hf⟩ := o_nx hf
  refine j_top e1 ?_
  refine j_istore_n (pc := 68) M.1 [(3, .int y1), (0, .ref x0), (1, .int x1), (2, .int x2)] dX9_number_68 rfl rfl ?_
  refine j_aload_n (pc := 69) M.1 dX9_number_69 1 rfl ?_
  refine j_dup (pc := 70) M.1 dX9_number_70 rfl ?_
  obtain ⟨v1, g2, hf⟩ := o_bind hf
  refine jx_getI (pc := 71) M xfl_X9_32 g2 dX9_number_71 ?_
  refine j_iconst (pc := 74) M.1 dX9_number_74 kc_iconst_1 ?_
  refine j_iadd (pc := 75) M.1 dX9_number_75 ?_
  obtain ⟨τ1, g3, hf⟩ := o_bind hf
  refine jx_putV (pc := 76) M xfl_X9_32 rfl rfl g3 dX9_number_76 ?_
  refine j_goto (pc := 79) M.1 23 dX9_number_79 rfl ?_
  refine j_sub [1, 2, 3, 0] (show lv_pick _ _ = [(0, .ref x0), (1, .int x1), (2, .int x2), (3, .int y1)] from rfl) ?_
  have hy := hR _ _ _ hf _ _ hkn
  exact hy
noncomputable def x9_number_B23 (F : Nat) (K82 : Int32 × XS → XR Int32) (x0 : Nat) (x1 : Int32) (x2 : Int32) (R : Int32 × XS → XR Int32) (a : Int32 × XS) : XR Int32 :=
  if isC a.2 x0 [9] = true then (x9_isGood F x0 a.2).bind (fun r1 => tk r1.2.2.1 r1.2.2.2 (if r1.1 = 0 then (K82 (a.1, r1.2.1)) else (if isC r1.2.1 x0 [9] = true then (x9_seesDigit F x0 r1.2.1).bind (fun r2 => tk r2.2.2.1 r2.2.2.2 (if r2.1 = 0 then (K82 (a.1, r2.2.1)) else ((gI r2.2.1 x0 [9] 6).bind (fun v1 => if v1 = (x2 + 5) then ((gI r2.2.1 x0 [9] 6).bind (fun v2 => if isC r2.2.1 x0 [9] = true then (x9_bad F x0 2 v2 r2.2.1).bind (fun r3 => tk r3.2.2.1 r3.2.2.2 (x9_number_56 F K82 R x0 x1 x2 a.1 r3.2.1)) else none)) else (x9_number_56 F K82 R x0 x1 x2 a.1 r2.2.1))))) else none))) else none
theorem kx9_number_B23 (M : XC γ cX9_number 4 RX9 "number" G o B 3 (some .int) (xQi G o B v τr) c0 s0) (x0 : Nat) (x1 : Int32) (x2 : Int32) (K82 : Int32 × XS → XR Int32) (hK82 : ∀ a c s, K82 a = some (v, τr, c, s) → ∀ k n, k + c ≤ c0 ∧ n + s ≤ s0 → J γ (XW G o B a.2) k n 82 [(0, .ref x0), (1, .int x1), (2, .int x2), (3, .int a.1)] []) : ∀ R : Int32 × XS → XR Int32, (∀ a c s, R a = some (v, τr, c, s) → ∀ k n, k + c ≤ c0 ∧ n + s ≤ s0 → J γ (XW G o B a.2) k n 23 [(0, .ref x0), (1, .int x1), (2, .int x2), (3, .int a.1)] []) → ∀ a c s, x9_number_B23 F K82 x0 x1 x2 R a = some (v, τr, c, s) → ∀ k n, k + c ≤ c0 ∧ n + s ≤ s0 → J γ (XW G o B a.2) k n 23 [(0, .ref x0), (1, .int x1), (2, .int x2), (3, .int a.1)] [] := by
  intro R hR a c s hf k n hkn
  unfold x9_number_B23 at hf
  refine j_aload_n (pc := 23) M.1 dX9_number_23 0 rfl ?_
  obtain ⟨b1, hf⟩ := o_need hf
  obtain ⟨r1, g1, hf⟩ := o_bind hf
  obtain ⟨c1, s1, hf, hc1, hs1⟩ := o_tk hf
  replace hkn := kn_step hkn hc1 hs1
  refine jx_i M (x_runW (pc := 24) (As := []) (rest := []) M xcw_X9_53 (met_x9_isGood g1) b1 (by decide) rfl rfl rfl dX9_number_24 (kn_le hkn)) ?_
  refine j_if_eq (pc := 27) M.1 82 dX9_number_27 rfl (fun b2 => ?_) (fun b2 => ?_)
  · replace hf := o_pos b2 hf
    have hy := hK82 _ _ _ hf _ _ hkn
    exact hy
  · replace hf := o_neg b2 hf
    refine j_aload_n (pc := 30) M.1 dX9_number_30 0 rfl ?_
    obtain ⟨b3, hf⟩ := o_need hf
    obtain ⟨r2, g2, hf⟩ := o_bind hf
    obtain ⟨c2, s2, hf, hc2, hs2⟩ := o_tk hf
    replace hkn := kn_step hkn hc2 hs2
    refine jx_i M (x_runW (pc := 31) (As := []) (rest := []) M xcw_X9_45 (met_x9_seesDigit g2) b3 (by decide) rfl rfl rfl dX9_number_31 (kn_le hkn)) ?_
    refine j_if_eq (pc := 34) M.1 82 dX9_number_34 rfl (fun b4 => ?_) (fun b4 => ?_)
    · replace hf := o_pos b4 hf
      have hy := hK82 _ _ _ hf _ _ hkn
      exact hy
    · replace hf := o_neg b4 hf
      refine j_aload_n (pc := 37) M.1 dX9_number_37 0 rfl ?_
      obtain ⟨v1, g3, hf⟩ := o_bind hf
      refine jx_getI (pc := 38) M xfl_X9_32 g3 dX9_number_38 ?_
      refine j_iload_n (pc := 41) M.1 dX9_number_41 2 rfl ?_
      refine j_iconst (pc := 42) M.1 dX9_number_42 kc_iconst_5 ?_
      refine j_iadd (pc := 43) M.1 dX9_number_43 ?_
      refine j_icmp_ne (pc := 44) M.1 56 dX9_number_44 rfl (fun b5 => ?_) (fun b5 => ?_)
      · replace hf := o_neg b5 hf
        exact kx9_number_56 M x0 x1 x2 a.1 K82 hK82 R hR r2.2.1 hf hkn
      · replace hf := o_pos b5 hf
        refine j_aload_n (pc := 47) M.1 dX9_number_47 0 rfl ?_
        refine j_iconst (pc := 48) M.1 dX9_number_48 kc_iconst_2 ?_
        refine j_aload_n (pc := 49) M.1 dX9_number_49 0 rfl ?_
        obtain ⟨v2, g4, hf⟩ := o_bind hf
        refine jx_getI (pc := 50) M xfl_X9_32 g4 dX9_number_50 ?_
        obtain ⟨b6, hf⟩ := o_need hf
        obtain ⟨r3, g5, hf⟩ := o_bind hf
        obtain ⟨c3, s3, hf, hc3, hs3⟩ := o_tk hf
        replace hkn := kn_step hkn hc3 hs3
        refine jx_v (r := r3.1) M (x_runW (pc := 53) (As := [.int 2, .int v2]) (rest := []) M xcw_X9_49 (met_x9_bad g5) b6 (by decide) rfl rfl rfl dX9_number_53 (kn_le hkn)) ?_
        exact kx9_number_56 M x0 x1 x2 a.1 K82 hK82 R hR r3.2.1 hf hkn
noncomputable def x9_number_82 (F : Nat) (x0 : Nat) (x1 : Int32) (x2 : Int32) (x3 : Int32) (τ : XS) : XR Int32 :=
  if x3 ≤ x1 then (some (x3, τ, 0, 0)) else (if isC τ x0 [9] = true then (x9_bad F x0 3 x2 τ).bind (fun r1 => tk r1.2.2.1 r1.2.2.2 (some (x3, r1.2.1, 0, 0))) else none)
theorem kx9_number_82 (M : XC γ cX9_number 4 RX9 "number" G o B 3 (some .int) (xQi G o B v τr) c0 s0) (x0 : Nat) (x1 : Int32) (x2 : Int32) (x3 : Int32) (τ : XS) {c s k n : Nat} (hf : x9_number_82 F x0 x1 x2 x3 τ = some (v, τr, c, s)) (hkn : k + c ≤ c0 ∧ n + s ≤ s0) : J γ (XW G o B τ) k n 82 [(0, .ref x0), (1, .int x1), (2, .int x2), (3, .int x3)] [] := by
  unfold x9_number_82 at hf
  refine j_iload_n (pc := 82) M.1 dX9_number_82 3 rfl ?_
  refine j_iload_n (pc := 83) M.1 dX9_number_83 1 rfl ?_
  refine j_icmp_le (pc := 84) M.1 93 dX9_number_84 rfl (fun b1 => ?_) (fun b1 => ?_)
  · replace hf := o_pos b1 hf
    refine j_iload_n (pc := 93) M.1 dX9_number_93 3 rfl ?_
    exact jx_iretF (pc := 94) M dX9_number_94 hf hkn
  · replace hf := o_neg b1 hf
    refine j_aload_n (pc := 87) M.1 dX9_number_87 0 rfl ?_
    refine j_iconst (pc := 88) M.1 dX9_number_88 kc_iconst_3 ?_
    refine j_iload_n (pc := 89) M.1 dX9_number_89 2 rfl ?_
    obtain ⟨b2, hf⟩ := o_need hf
    obtain ⟨r1, g1, hf⟩ := o_bind hf
    obtain ⟨c1, s1, hf, hc1, hs1⟩ := o_tk hf
    replace hkn := kn_step hkn hc1 hs1
    refine jx_v (r := r1.1) M (x_runW (pc := 90) (As := [.int 3, .int x2]) (rest := []) M xcw_X9_49 (met_x9_bad g1) b2 (by decide) rfl rfl rfl dX9_number_90 (kn_le hkn)) ?_
    refine j_iload_n (pc := 93) M.1 dX9_number_93 3 rfl ?_
    exact jx_iretF (pc := 94) M dX9_number_94 hf hkn
noncomputable def x9_number (F : Nat) (x0 : Nat) (x1 : Int32) (τ : XS) : XR Int32 :=
  (gI τ x0 [9] 6).bind (fun v1 => if isC τ x0 [9] = true then (x9_seesDigit F x0 τ).bind (fun r1 => tk r1.2.2.1 r1.2.2.2 (if r1.1 = 0 then ((gI r1.2.1 x0 [9] 6).bind (fun v2 => if isC r1.2.1 x0 [9] = true then (x9_bad F x0 1 v2 r1.2.1).bind (fun r2 => tk r2.2.2.1 r2.2.2.2 (lp (x9_number_B23 F (fun a2 => x9_number_82 F x0 x1 v1 a2.1 a2.2) x0 x1 v1) F (0, r2.2.1))) else none)) else (lp (x9_number_B23 F (fun a1 => x9_number_82 F x0 x1 v1 a1.1 a1.2) x0 x1 v1) F (0, r1.2.1)))) else none)
theorem met_x9_number {l : Launch} {G : gG} {o B F : Nat} {x0 : Nat} {x1 : Int32} {τ : XS} {r : Int32 × XS × Nat × Nat} (hf : x9_number F x0 x1 τ = some r) : MetX l G o B yX9_number cX9_number 4 (some .int) 3 [.ref x0, .int x1] τ (xQi G o B r.1 r.2.1) r.2.2.1 r.2.2.2 := by
  obtain ⟨v, τr, c, s⟩ := r
  refine metX_of (own := RX9) (mn := "number") (by decide) rfl rfl rfl (fun γ hγ M => ?_)
  subst hγ
  show J γ (XW G o B τ) 0 0 0 [(0, .ref x0), (1, .int x1)] []
  have hkn : 0 + c ≤ c ∧ 0 + s ≤ s := ⟨by omega, by omega⟩
  unfold x9_number at hf
  refine j_aload_n (pc := 0) M.1 dX9_number_0 0 rfl ?_
  obtain ⟨v1, g1, hf⟩ := o_bind hf
  refine jx_getI (pc := 1) M xfl_X9_32 g1 dX9_number_1 ?_
  refine j_istore_n (pc := 4) M.1 [(2, .int v1), (0, .ref x0), (1, .int x1)] dX9_number_4 rfl rfl ?_
  refine j_iconst (pc := 5) M.1 dX9_number_5 kc_iconst_0 ?_
  refine j_istore_n (pc := 6) M.1 [(3, .int 0), (2, .int v1), (0, .ref x0), (1, .int x1)] dX9_number_6 rfl rfl ?_
  refine j_aload_n (pc := 7) M.1 dX9_number_7 2 rfl ?_
  obtain ⟨b1, hf⟩ := o_need hf
  obtain ⟨r1, g2, hf⟩ := o_bind hf
  obtain ⟨c1, s1, hf, hc1, hs1⟩ := o_tk hf
  replace hkn := kn_step hkn hc1 hs1
  refine jx_i M (x_runW (pc := 8) (As := []) (rest := []) M xcw_X9_45 (met_x9_seesDigit g2) b1 (by decide) rfl rfl rfl dX9_number_8 (kn_le hkn)) ?_
  refine j_if_ne (pc := 11) M.1 23 dX9_number_11 rfl (fun b2 => ?_) (fun b2 => ?_)
  · replace hf := o_neg b2 hf
    refine j_sub [2, 3, 1, 0] (show lv_pick _ _ = [(0, .ref x0), (1, .int x1), (2, .int v1), (3, .int 0)] from rfl) ?_
    refine lp_Wc (kx9_number_B23 M x0 x1 v1 _ ?_) F (0, r1.2.1) _ _ hf _ _ hkn
    · intro a1 c s hf k n hkn
      exact kx9_number_82 M x0 x1 v1 a1.1 a1.2 hf hkn
  · replace hf := o_pos b2 hf
    refine j_aload_n (pc := 14) M.1 dX9_number_14 2 rfl ?_
    refine j_iconst (pc := 15) M.1 dX9_number_15 kc_iconst_1 ?_
    refine j_aload_n (pc := 16) M.1 dX9_number_16 2 rfl ?_
    obtain ⟨v2, g3, hf⟩ := o_bind hf
    refine jx_getI (pc := 17) M xfl_X9_32 g3 dX9_number_17 ?_
    obtain ⟨b3, hf⟩ := o_need hf
    obtain ⟨r2, g4, hf⟩ := o_bind hf
    obtain ⟨c2, s2, hf, hc2, hs2⟩ := o_tk hf
    replace hkn := kn_step hkn hc2 hs2
    refine jx_v (r := r2.1) M (x_runW (pc := 20) (As := [.int 1, .int v2]) (rest := []) M xcw_X9_49 (met_x9_bad g4) b3 (by decide) rfl rfl rfl dX9_number_20 (kn_le hkn)) ?_
    refine j_sub [2, 3, 1, 0] (show lv_pick _ _ = [(0, .ref x0), (1, .int x1), (2, .int v1), (3, .int 0)] from rfl) ?_
    refine lp_Wc (kx9_number_B23 M x0 x1 v1 _ ?_) F (0, r2.2.1) _ _ hf _ _ hkn
    · intro a2 c s hf k n hkn
      exact kx9_number_82 M x0 x1 v1 a2.1 a2.2 hf hkn
end
theorem dX9_opens_0 : decode cX9_opens 0 = .ok (.aload_n 0, 1) := by decide +kernel
theorem dX9_opens_1 : decode cX9_opens 1 = .ok (.getfield 56, 3) := by decide +kernel
theorem dX9_opens_4 : decode cX9_opens 4 = .ok (.bipush 6, 2) := by decide +kernel
theorem dX9_opens_6 : decode cX9_opens 6 = .ok (.if_icmp .ne 12, 3) := by decide +kernel
theorem dX9_opens_9 : decode cX9_opens 9 = .ok (.aload_n 0, 1) := by decide +kernel
theorem dX9_opens_10 : decode cX9_opens 10 = .ok (.iconst 5, 1) := by decide +kernel
theorem dX9_opens_11 : decode cX9_opens 11 = .ok (.aload_n 0, 1) := by decide +kernel
theorem dX9_opens_12 : decode cX9_opens 12 = .ok (.getfield 32, 3) := by decide +kernel
theorem dX9_opens_15 : decode cX9_opens 15 = .ok (.invokevirtual 49, 3) := by decide +kernel
theorem dX9_opens_18 : decode cX9_opens 18 = .ok (.aload_n 0, 1) := by decide +kernel
theorem dX9_opens_19 : decode cX9_opens 19 = .ok (.dup, 1) := by decide +kernel
theorem dX9_opens_20 : decode cX9_opens 20 = .ok (.getfield 56, 3) := by decide +kernel
theorem dX9_opens_23 : decode cX9_opens 23 = .ok (.iconst 1, 1) := by decide +kernel
theorem dX9_opens_24 : decode cX9_opens 24 = .ok (.iadd, 1) := by decide +kernel
theorem dX9_opens_25 : decode cX9_opens 25 = .ok (.putfield 56, 3) := by decide +kernel
theorem dX9_opens_28 : decode cX9_opens 28 = .ok (.aload_n 0, 1) := by decide +kernel
theorem dX9_opens_29 : decode cX9_opens 29 = .ok (.dup, 1) := by decide +kernel
theorem dX9_opens_30 : decode cX9_opens 30 = .ok (.getfield 32, 3) := by decide +kernel
theorem dX9_opens_33 : decode cX9_opens 33 = .ok (.iconst 1, 1) := by decide +kernel
theorem dX9_opens_34 : decode cX9_opens 34 = .ok (.iadd, 1) := by decide +kernel
theorem dX9_opens_35 : decode cX9_opens 35 = .ok (.putfield 32, 3) := by decide +kernel
theorem dX9_opens_38 : decode cX9_opens 38 = .ok (.return_, 1) := by decide +kernel
section
variable {v : Int32}
noncomputable def x9_opens_18 (F : Nat) (x0 : Nat) (τ : XS) : XR Int32 :=
  (gI τ x0 [9] 7).bind (fun v1 => (pF τ x0 [9] 7 (.int (v1 + 1))).bind (fun τ1 => (gI τ1 x0 [9] 6).bind (fun v2 => (pF τ1 x0 [9] 6 (.int (v2 + 1))).bind (fun τ2 => some (0, τ2, 0, 0)))))
theorem kx9_opens_18 (M : XC γ cX9_opens 1 RX9 "opens" G o B 2 none (xQv G o B v τr) c0 s0) (x0 : Nat) (τ : XS) {c s k n : Nat} (hf : x9_opens_18 F x0 τ = some (v, τr, c, s)) (hkn : k + c ≤ c0 ∧ n + s ≤ s0) : J γ (XW G o B τ) k n 18 [(0, .ref x0)] [] := by
  unfold x9_opens_18 at hf
  refine j_aload_n (pc := 18) M.1 dX9_opens_18 0 rfl ?_
  refine j_dup (pc := 19) M.1 dX9_opens_19 rfl ?_
  obtain ⟨v1, g1, hf⟩ := o_bind hf
  refine jx_getI (pc := 20) M xfl_X9_56 g1 dX9_opens_20 ?_
  refine j_iconst (pc := 23) M.1 dX9_opens_23 kc_iconst_1 ?_
  refine j_iadd (pc := 24) M.1 dX9_opens_24 ?_
  obtain ⟨τ1, g2, hf⟩ := o_bind hf
  refine jx_putV (pc := 25) M xfl_X9_56 rfl rfl g2 dX9_opens_25 ?_
  refine j_aload_n (pc := 28) M.1 dX9_opens_28 0 rfl ?_
  refine j_dup (pc := 29) M.1 dX9_opens_29 rfl ?_
  obtain ⟨v2, g3, hf⟩ := o_bind hf
  refine jx_getI (pc := 30) M xfl_X9_32 g3 dX9_opens_30 ?_
  refine j_iconst (pc := 33) M.1 dX9_opens_33 kc_iconst_1 ?_
  refine j_iadd (pc := 34) M.1 dX9_opens_34 ?_
  obtain ⟨τ2, g4, hf⟩ := o_bind hf
  refine jx_putV (pc := 35) M xfl_X9_32 rfl rfl g4 dX9_opens_35 ?_
  exact jx_vretF (pc := 38) M dX9_opens_38 hf hkn
noncomputable def x9_opens (F : Nat) (x0 : Nat) (τ : XS) : XR Int32 :=
  (gI τ x0 [9] 7).bind (fun v1 => if v1 = 6 then ((gI τ x0 [9] 6).bind (fun v2 => if isC τ x0 [9] = true then (x9_bad F x0 5 v2 τ).bind (fun r1 => tk r1.2.2.1 r1.2.2.2 (x9_opens_18 F x0 r1.2.1)) else none)) else (x9_opens_18 F x0 τ))
theorem met_x9_opens {l : Launch} {G : gG} {o B F : Nat} {x0 : Nat} {τ : XS} {r : Int32 × XS × Nat × Nat} (hf : x9_opens F x0 τ = some r) : MetX l G o B yX9_opens cX9_opens 1 none 2 [.ref x0] τ (xQv G o B r.1 r.2.1) r.2.2.1 r.2.2.2 := by
  obtain ⟨v, τr, c, s⟩ := r
  refine metX_of (own := RX9) (mn := "opens") (by decide) rfl rfl rfl (fun γ hγ M => ?_)
  subst hγ
  show J γ (XW G o B τ) 0 0 0 [(0, .ref x0)] []
  have hkn : 0 + c ≤ c ∧ 0 + s ≤ s := ⟨by omega, by omega⟩
  unfold x9_opens at hf
  refine j_aload_n (pc := 0) M.1 dX9_opens_0 0 rfl ?_
  obtain ⟨v1, g1, hf⟩ := o_bind hf
  refine jx_getI (pc := 1) M xfl_X9_56 g1 dX9_opens_1 ?_
  refine j_bipush (pc := 4) M.1 dX9_opens_4 kc_bipush_6 ?_
  refine j_icmp_ne (pc := 6) M.1 18 dX9_opens_6 rfl (fun b1 => ?_) (fun b1 => ?_)
  · replace hf := o_neg b1 hf
    exact kx9_opens_18 M x0 τ hf hkn
  · replace hf := o_pos b1 hf
    refine j_aload_n (pc := 9) M.1 dX9_opens_9 0 rfl ?_
    refine j_iconst (pc := 10) M.1 dX9_opens_10 kc_iconst_5 ?_
    refine j_aload_n (pc := 11) M.1 dX9_opens_11 0 rfl ?_
    obtain ⟨v2, g2, hf⟩ := o_bind hf
    refine jx_getI (pc := 12) M xfl_X9_32 g2 dX9_opens_12 ?_
    obtain ⟨b2, hf⟩ := o_need hf
    obtain ⟨r1, g3, hf⟩ := o_bind hf
    obtain ⟨c1, s1, hf, hc1, hs1⟩ := o_tk hf
    replace hkn := kn_step hkn hc1 hs1
    refine jx_v (r := r1.1) M (x_runW (pc := 15) (As := [.int 5, .int v2]) (rest := []) M xcw_X9_49 (met_x9_bad g3) b2 (by decide) rfl rfl rfl dX9_opens_15 (kn_le hkn)) ?_
    exact kx9_opens_18 M x0 r1.2.1 hf hkn
end
theorem dX11_init_0 : decode cX11_init 0 = .ok (.aload_n 0, 1) := by decide +kernel
theorem dX11_init_1 : decode cX11_init 1 = .ok (.invokespecial 1, 3) := by decide +kernel
theorem dX11_init_4 : decode cX11_init 4 = .ok (.return_, 1) := by decide +kernel
section
variable {v : Int32}
noncomputable def x11_init (F : Nat) (x0 : Nat) (τ : XS) : XR Int32 :=
  some (0, τ, 0, 0)
theorem met_x11_init {l : Launch} {G : gG} {o B F : Nat} {x0 : Nat} {τ : XS} {r : Int32 × XS × Nat × Nat} (hf : x11_init F x0 τ = some r) : MetX l G o B yX11_init cX11_init 1 none 2 [.ref x0] τ (xQv G o B r.1 r.2.1) r.2.2.1 r.2.2.2 := by
  obtain ⟨v, τr, c, s⟩ := r
  refine metX_of (own := RX11) (mn := "<init>") (by decide) rfl rfl rfl (fun γ hγ M => ?_)
  subst hγ
  show J γ (XW G o B τ) 0 0 0 [(0, .ref x0)] []
  have hkn : 0 + c ≤ c ∧ 0 + s ≤ s := ⟨by omega, by omega⟩
  unfold x11_init at hf
  refine j_aload_n (pc := 0) M.1 dX11_init_0 0 rfl ?_
  refine j_objInit (pc := 1) M.1 q794 dX11_init_1 (M.room (by decide)) rfl ?_
  exact jx_vretF (pc := 4) M dX11_init_4 hf hkn
end
theorem dX12_init_0 : decode cX12_init 0 = .ok (.aload_n 0, 1) := by decide +kernel
theorem dX12_init_1 : decode cX12_init 1 = .ok (.invokespecial 1, 3) := by decide +kernel
theorem dX12_init_4 : decode cX12_init 4 = .ok (.aload_n 0, 1) := by decide +kernel
theorem dX12_init_5 : decode cX12_init 5 = .ok (.aload_n 1, 1) := by decide +kernel
theorem dX12_init_6 : decode cX12_init 6 = .ok (.putfield 7, 3) := by decide +kernel
theorem dX12_init_9 : decode cX12_init 9 = .ok (.aload_n 0, 1) := by decide +kernel
theorem dX12_init_10 : decode cX12_init 10 = .ok (.iload_n 2, 1) := by decide +kernel
theorem dX12_init_11 : decode cX12_init 11 = .ok (.putfield 13, 3) := by decide +kernel
theorem dX12_init_14 : decode cX12_init 14 = .ok (.return_, 1) := by decide +kernel
section
variable {v : Int32}
noncomputable def x12_init (F : Nat) (x0 : Nat) (x1 : Option Nat) (x2 : Int32) (τ : XS) : XR Int32 :=
  (x11_init F x0 τ).bind (fun r1 => tk r1.2.2.1 r1.2.2.2 ((pF r1.2.1 x0 [12] 0 (va_rf x1)).bind (fun τ1 => (pF τ1 x0 [12] 1 (.int x2)).bind (fun τ2 => some (0, τ2, 0, 0)))))
theorem met_x12_init {l : Launch} {G : gG} {o B F : Nat} {x0 : Nat} {x1 : Option Nat} {x2 : Int32} {τ : XS} {r : Int32 × XS × Nat × Nat} (hf : x12_init F x0 x1 x2 τ = some r) : MetX l G o B yX12_init cX12_init 3 none 3 [.ref x0, va_rf x1, .int x2] τ (xQv G o B r.1 r.2.1) r.2.2.1 r.2.2.2 := by
  obtain ⟨v, τr, c, s⟩ := r
  refine metX_of (own := RX12) (mn := "<init>") (by decide) rfl rfl (by cases x1 <;> rfl) (fun γ hγ M => ?_)
  subst hγ
  rw [show lv_args 0 [.ref x0, va_rf x1, .int x2] = [(0, .ref x0), (1, va_rf x1), (2, .int x2)] by cases x1 <;> rfl]
  have hkn : 0 + c ≤ c ∧ 0 + s ≤ s := ⟨by omega, by omega⟩
  unfold x12_init at hf
  refine j_aload_n (pc := 0) M.1 dX12_init_0 0 rfl ?_
  obtain ⟨r1, g1, hf⟩ := o_bind hf
  obtain ⟨c1, s1, hf, hc1, hs1⟩ := o_tk hf
  replace hkn := kn_step hkn hc1 hs1
  refine jx_v (r := r1.1) M (x_runJ (pc := 1) (As := []) (rest := []) M xci_X12_1 (met_x11_init g1) (by decide) rfl rfl rfl dX12_init_1 (kn_le hkn)) ?_
  refine j_aload_n (pc := 4) M.1 dX12_init_4 0 rfl ?_
  refine j_aloadq_n (pc := 5) M.1 dX12_init_5 1 rfl ?_
  obtain ⟨τ1, g2, hf⟩ := o_bind hf
  refine jx_putW (pc := 6) M q873 xfw_X12_7 (nar_rf _ _) (fit_rf _ _) g2 dX12_init_6 ?_
  refine j_aload_n (pc := 9) M.1 dX12_init_9 0 rfl ?_
  refine j_iload_n (pc := 10) M.1 dX12_init_10 2 rfl ?_
  obtain ⟨τ2, g3, hf⟩ := o_bind hf
  refine jx_putW (pc := 11) M q874 xfw_X12_13 rfl rfl g3 dX12_init_11 ?_
  exact jx_vretF (pc := 14) M dX12_init_14 hf hkn
end
theorem dX9_condition_0 : decode cX9_condition 0 = .ok (.aload_n 0, 1) := by decide +kernel
theorem dX9_condition_1 : decode cX9_condition 1 = .ok (.invokevirtual 59, 3) := by decide +kernel
theorem dX9_condition_4 : decode cX9_condition 4 = .ok (.aload_n 0, 1) := by decide +kernel
theorem dX9_condition_5 : decode cX9_condition 5 = .ok (.invokevirtual 53, 3) := by decide +kernel
theorem dX9_condition_8 : decode cX9_condition 8 = .ok (.ifCond .eq 18, 3) := by decide +kernel
theorem dX9_condition_11 : decode cX9_condition 11 = .ok (.new 121, 3) := by decide +kernel
theorem dX9_condition_14 : decode cX9_condition 14 = .ok (.dup, 1) := by decide +kernel
theorem dX9_condition_15 : decode cX9_condition 15 = .ok (.aload_n 0, 1) := by decide +kernel
theorem dX9_condition_16 : decode cX9_condition 16 = .ok (.invokevirtual 129, 3) := by decide +kernel
theorem dX9_condition_19 : decode cX9_condition 19 = .ok (.iconst 1, 1) := by decide +kernel
theorem dX9_condition_20 : decode cX9_condition 20 = .ok (.invokespecial 123, 3) := by decide +kernel
theorem dX9_condition_23 : decode cX9_condition 23 = .ok (.goto 4, 3) := by decide +kernel
theorem dX9_condition_26 : decode cX9_condition 26 = .ok (.aconst_null, 1) := by decide +kernel
theorem dX9_condition_27 : decode cX9_condition 27 = .ok (.astore_n 1, 1) := by decide +kernel
theorem dX9_condition_28 : decode cX9_condition 28 = .ok (.aload_n 1, 1) := by decide +kernel
theorem dX9_condition_29 : decode cX9_condition 29 = .ok (.astore_n 2, 1) := by decide +kernel
theorem dX9_condition_30 : decode cX9_condition 30 = .ok (.aload_n 0, 1) := by decide +kernel
theorem dX9_condition_31 : decode cX9_condition 31 = .ok (.invokevirtual 53, 3) := by decide +kernel
theorem dX9_condition_34 : decode cX9_condition 34 = .ok (.ifCond .eq 46, 3) := by decide +kernel
theorem dX9_condition_37 : decode cX9_condition 37 = .ok (.aload_n 0, 1) := by decide +kernel
theorem dX9_condition_38 : decode cX9_condition 38 = .ok (.invokevirtual 41, 3) := by decide +kernel
theorem dX9_condition_41 : decode cX9_condition 41 = .ok (.bipush 124, 2) := by decide +kernel
theorem dX9_condition_43 : decode cX9_condition 43 = .ok (.if_icmp .ne 37, 3) := by decide +kernel
theorem dX9_condition_46 : decode cX9_condition 46 = .ok (.aload_n 0, 1) := by decide +kernel
theorem dX9_condition_47 : decode cX9_condition 47 = .ok (.dup, 1) := by decide +kernel
theorem dX9_condition_48 : decode cX9_condition 48 = .ok (.getfield 32, 3) := by decide +kernel
theorem dX9_condition_51 : decode cX9_condition 51 = .ok (.iconst 1, 1) := by decide +kernel
theorem dX9_condition_52 : decode cX9_condition 52 = .ok (.iadd, 1) := by decide +kernel
theorem dX9_condition_53 : decode cX9_condition 53 = .ok (.putfield 32, 3) := by decide +kernel
theorem dX9_condition_56 : decode cX9_condition 56 = .ok (.aload_n 2, 1) := by decide +kernel
theorem dX9_condition_57 : decode cX9_condition 57 = .ok (.new 121, 3) := by decide +kernel
theorem dX9_condition_60 : decode cX9_condition 60 = .ok (.dup, 1) := by decide +kernel
theorem dX9_condition_61 : decode cX9_condition 61 = .ok (.aload_n 0, 1) := by decide +kernel
theorem dX9_condition_62 : decode cX9_condition 62 = .ok (.invokevirtual 129, 3) := by decide +kernel
theorem dX9_condition_65 : decode cX9_condition 65 = .ok (.iconst 1, 1) := by decide +kernel
theorem dX9_condition_66 : decode cX9_condition 66 = .ok (.invokespecial 123, 3) := by decide +kernel
theorem dX9_condition_69 : decode cX9_condition 69 = .ok (.putfield 126, 3) := by decide +kernel
theorem dX9_condition_72 : decode cX9_condition 72 = .ok (.aload_n 2, 1) := by decide +kernel
theorem dX9_condition_73 : decode cX9_condition 73 = .ok (.getfield 126, 3) := by decide +kernel
theorem dX9_condition_76 : decode cX9_condition 76 = .ok (.astore_n 2, 1) := by decide +kernel
theorem dX9_condition_77 : decode cX9_condition 77 = .ok (.goto (-47), 3) := by decide +kernel
theorem dX9_condition_80 : decode cX9_condition 80 = .ok (.aload_n 0, 1) := by decide +kernel
theorem dX9_condition_81 : decode cX9_condition 81 = .ok (.invokevirtual 53, 3) := by decide +kernel
theorem dX9_condition_84 : decode cX9_condition 84 = .ok (.ifCond .eq 9, 3) := by decide +kernel
theorem dX9_condition_87 : decode cX9_condition 87 = .ok (.aload_n 0, 1) := by decide +kernel
theorem dX9_condition_88 : decode cX9_condition 88 = .ok (.bipush 41, 2) := by decide +kernel
theorem dX9_condition_90 : decode cX9_condition 90 = .ok (.invokevirtual 66, 3) := by decide +kernel
theorem dX9_condition_93 : decode cX9_condition 93 = .ok (.aload_n 0, 1) := by decide +kernel
theorem dX9_condition_94 : decode cX9_condition 94 = .ok (.dup, 1) := by decide +kernel
theorem dX9_condition_95 : decode cX9_condition 95 = .ok (.getfield 56, 3) := by decide +kernel
theorem dX9_condition_98 : decode cX9_condition 98 = .ok (.iconst 1, 1) := by decide +kernel
theorem dX9_condition_99 : decode cX9_condition 99 = .ok (.isub, 1) := by decide +kernel
theorem dX9_condition_100 : decode cX9_condition 100 = .ok (.putfield 56, 3) := by decide +kernel
theorem dX9_condition_103 : decode cX9_condition 103 = .ok (.aload_n 1, 1) := by decide +kernel
theorem dX9_condition_104 : decode cX9_condition 104 = .ok (.areturn, 1) := by decide +kernel
section
variable {v : Option Nat}
variable {dd : Nat}
noncomputable def x9_condition_B30 (F : Nat) (Wpieces : Nat → XS → XR (Option Nat)) (K80 : Option Nat × XS → XR (Option Nat)) (x0 : Nat) (x1 : Option Nat) (R : Option Nat × XS → XR (Option Nat)) (a : Option Nat × XS) : XR (Option Nat) :=
  if isC a.2 x0 [9] = true then (x9_isGood F x0 a.2).bind (fun r1 => tk r1.2.2.1 r1.2.2.2 (if r1.1 = 0 then (K80 (a.1, r1.2.1)) else (if isC r1.2.1 x0 [9] = true then (x9_here F x0 r1.2.1).bind (fun r2 => tk r2.2.2.1 r2.2.2.2 (if r2.1 = 124 then ((gI r2.2.1 x0 [9] 6).bind (fun v1 => (pF r2.2.1 x0 [9] 6 (.int (v1 + 1))).bind (fun τ1 => nx (xN τ1 (.inr (12, fun q => defaultValue (tyX12 q)))) (fun τ2 => tk 1 3 (if isC τ2 x0 [9] = true then (Wpieces x0 τ2).bind (fun r3 => tk r3.2.2.1 r3.2.2.2 ((x12_init F τ1.2.2.2.2 r3.1 1 r3.2.1).bind (fun r4 => tk r4.2.2.1 r4.2.2.2 ((a.1).bind (fun a1 => (pF r4.2.1 a1 [12] 2 (.ref τ1.2.2.2.2)).bind (fun τ3 => (a.1).bind (fun a2 => (gQ τ3 a2 [12] 2).bind (fun p1 => R (p1, τ3))))))))) else none))))) else (K80 (a.1, r2.2.1)))) else none))) else none
theorem kx9_condition_B30 (M : XC γ cX9_condition 3 RX9 "condition" G o B (dd + 1) (some (.object "AshCity$Condition")) (xQq G o B v τr) c0 s0) (hd : 3 ≤ dd) (Wpieces : Nat → XS → XR (Option Nat)) (hWpieces : MetW_pieces (jl γ) G o B dd Wpieces) (x0 : Nat) (x1 : Option Nat) (K80 : Option Nat × XS → XR (Option Nat)) (hK80 : ∀ a c s, K80 a = some (v, τr, c, s) → ∀ k n, k + c ≤ c0 ∧ n + s ≤ s0 → J γ (XW G o B a.2) k n 80 [(0, .ref x0), (1, va_rf x1)] []) : ∀ R : Option Nat × XS → XR (Option Nat), (∀ a c s, R a = some (v, τr, c, s) → ∀ k n, k + c ≤ c0 ∧ n + s ≤ s0 → J γ (XW G o B a.2) k n 30 [(0, .ref x0), (1, va_rf x1), (2, va_rf a.1)] []) → ∀ a c s, x9_condition_B30 F Wpieces K80 x0 x1 R a = some (v, τr, c, s) → ∀ k n, k + c ≤ c0 ∧ n + s ≤ s0 → J γ (XW G o B a.2) k n 30 [(0, .ref x0), (1, va_rf x1), (2, va_rf a.1)] [] := by
  intro R hR a c s hf k n hkn
  unfold x9_condition_B30 at hf
  refine j_aload_n (pc := 30) M.1 dX9_condition_30 0 rfl ?_
  obtain ⟨b1, hf⟩ := o_need hf
  obtain ⟨r1, g1, hf⟩ := o_bind hf
  obtain ⟨c1, s1, hf, hc1, hs1⟩ := o_tk hf
  replace hkn := kn_step hkn hc1 hs1
  refine jx_i M (x_runW (pc := 31) (As := []) (rest := []) M xcw_X9_53 (met_x9_isGood g1) b1 (by omega) rfl rfl rfl dX9_condition_31 (kn_le hkn)) ?_
  refine j_if_eq (pc := 34) M.1 80 dX9_condition_34 rfl (fun b2 => ?_) (fun b2 => ?_)
  · replace hf := o_pos b2 hf
    refine j_sub [0, 1] (show lv_pick _ _ = [(0, .ref x0), (1, va_rf x1)] from rfl) ?_
    have hy := hK80 _ _ _ hf _ _ hkn
    exact hy
  · replace hf := o_neg b2 hf
    refine j_aload_n (pc := 37) M.1 dX9_condition_37 0 rfl ?_
    obtain ⟨b3, hf⟩ := o_need hf
    obtain ⟨r2, g2, hf⟩ := o_bind hf
    obtain ⟨c2, s2, hf, hc2, hs2⟩ := o_tk hf
    replace hkn := kn_step hkn hc2 hs2
    refine jx_i M (x_runW (pc := 38) (As := []) (rest := []) M xcw_X9_41 (met_x9_here g2) b3 (by omega) rfl rfl rfl dX9_condition_38 (kn_le hkn)) ?_
    refine j_bipush (pc := 41) M.1 dX9_condition_41 kc_bipush_124 ?_
    refine j_icmp_ne (pc := 43) M.1 80 dX9_condition_43 rfl (fun b4 => ?_) (fun b4 => ?_)
    · replace hf := o_neg b4 hf
      refine j_sub [0, 1] (show lv_pick _ _ = [(0, .ref x0), (1, va_rf x1)] from rfl) ?_
      have hy := hK80 _ _ _ hf _ _ hkn
      exact hy
    · replace hf := o_pos b4 hf
      refine j_aload_n (pc := 46) M.1 dX9_condition_46 0 rfl ?_
      refine j_dup (pc := 47) M.1 dX9_condition_47 rfl ?_
      obtain ⟨v1, g3, hf⟩ := o_bind hf
      refine jx_getI (pc := 48) M xfl_X9_32 g3 dX9_condition_48 ?_
      refine j_iconst (pc := 51) M.1 dX9_condition_51 kc_iconst_1 ?_
      refine j_iadd (pc := 52) M.1 dX9_condition_52 ?_
      obtain ⟨τ1, g4, hf⟩ := o_bind hf
      refine jx_putV (pc := 53) M xfl_X9_32 rfl rfl g4 dX9_condition_53 ?_
      refine j_aloadq_n (pc := 56) M.1 dX9_condition_56 2 rfl ?_
      obtain ⟨τ2, e1, hf⟩ := o_nx hf
      obtain ⟨c3, s3, hf, hc3, hs3⟩ := o_tk hf
      replace hkn := kn_step hkn hc3 hs3
      refine jx_new (pc := 57) M xnew_X9_121 dX9_condition_57 (kn_le hkn) e1 ?_
      refine j_dup (pc := 60) M.1 dX9_condition_60 rfl ?_
      refine j_aload_n (pc := 61) M.1 dX9_condition_61 0 rfl ?_
      obtain ⟨b5, hf⟩ := o_need hf
      obtain ⟨r3, g5, hf⟩ := o_bind hf
      obtain ⟨c4, s4, hf, hc4, hs4⟩ := o_tk hf
      replace hkn := kn_step hkn hc4 hs4
      refine jx_q M (x_runW (pc := 62) (As := []) (rest := [.ref τ1.2.2.2.2, .ref τ1.2.2.2.2, va_rf a.1]) M xcw_X9_129 (hWpieces _ _ _ g5) b5 (Nat.lt_succ_self _) rfl rfl (by cases a.1 <;> rfl) dX9_condition_62 (kn_le hkn)) ?_
      refine j_iconst (pc := 65) M.1 dX9_condition_65 kc_iconst_1 ?_
      obtain ⟨r4, g6, hf⟩ := o_bind hf
      obtain ⟨c5, s5, hf, hc5, hs5⟩ := o_tk hf
      replace hkn := kn_step hkn hc5 hs5
      refine jx_v (r := r4.1) M (x_runI (pc := 66) (As := [va_rf r3.1, .int 1]) (rest := [.ref τ1.2.2.2.2, va_rf a.1]) M xci_X9_123 (met_x12_init g6) (by omega) rfl rfl (by cases a.1 <;> rfl) dX9_condition_66 (kn_le hkn)) ?_
      obtain ⟨a1, hq1, hf⟩ := o_bind hf
      refine j_st (show _ = [.ref τ1.2.2.2.2, .ref a1] by simp only [hq1, va_rf]) ?_
      obtain ⟨τ3, g7, hf⟩ := o_bind hf
      refine jx_putV (pc := 69) M xfl_X9_126 rfl rfl g7 dX9_condition_69 ?_
      refine j_aloadq_n (pc := 72) M.1 dX9_condition_72 2 rfl ?_
      obtain ⟨a2, hq2, hf⟩ := o_bind hf
      refine j_st (show _ = [.ref a2] by simp only [hq2, va_rf]) ?_
      obtain ⟨p1, g8, hf⟩ := o_bind hf
      refine jx_getQ (pc := 73) M xfl_X9_126 g8 dX9_condition_73 ?_
      refine j_astoreq_n (pc := 76) M.1 [(2, va_rf p1), (0, .ref x0), (1, va_rf x1)] dX9_condition_76 rfl (by cases x1 <;> rfl) ?_
      refine j_goto (pc := 77) M.1 30 dX9_condition_77 rfl ?_
      refine j_sub [1, 2, 0] (show lv_pick _ _ = [(0, .ref x0), (1, va_rf x1), (2, va_rf p1)] from rfl) ?_
      have hy := hR _ _ _ hf _ _ hkn
      exact hy
noncomputable def x9_condition_93 (F : Nat) (Wpieces : Nat → XS → XR (Option Nat)) (x0 : Nat) (x1 : Option Nat) (τ : XS) : XR (Option Nat) :=
  (gI τ x0 [9] 7).bind (fun v1 => (pF τ x0 [9] 7 (.int (v1 - 1))).bind (fun τ1 => some (x1, τ1, 0, 0)))
theorem kx9_condition_93 (M : XC γ cX9_condition 3 RX9 "condition" G o B (dd + 1) (some (.object "AshCity$Condition")) (xQq G o B v τr) c0 s0) (hd : 3 ≤ dd) (Wpieces : Nat → XS → XR (Option Nat)) (hWpieces : MetW_pieces (jl γ) G o B dd Wpieces) (x0 : Nat) (x1 : Option Nat) (τ : XS) {c s k n : Nat} (hf : x9_condition_93 F Wpieces x0 x1 τ = some (v, τr, c, s)) (hkn : k + c ≤ c0 ∧ n + s ≤ s0) : J γ (XW G o B τ) k n 93 [(0, .ref x0), (1, va_rf x1)] [] := by
  unfold x9_condition_93 at hf
  refine j_aload_n (pc := 93) M.1 dX9_condition_93 0 rfl ?_
  refine j_dup (pc := 94) M.1 dX9_condition_94 rfl ?_
  obtain ⟨v1, g1, hf⟩ := o_bind hf
  refine jx_getI (pc := 95) M xfl_X9_56 g1 dX9_condition_95 ?_
  refine j_iconst (pc := 98) M.1 dX9_condition_98 kc_iconst_1 ?_
  refine j_isub (pc := 99) M.1 dX9_condition_99 ?_
  obtain ⟨τ1, g2, hf⟩ := o_bind hf
  refine jx_putV (pc := 100) M xfl_X9_56 rfl rfl g2 dX9_condition_100 ?_
  refine j_aloadq_n (pc := 103) M.1 dX9_condition_103 1 rfl ?_
  exact jx_aretF (pc := 104) (w := x1) M dX9_condition_104 hf hkn
noncomputable def x9_condition_80 (F : Nat) (Wpieces : Nat → XS → XR (Option Nat)) (x0 : Nat) (x1 : Option Nat) (τ : XS) : XR (Option Nat) :=
  if isC τ x0 [9] = true then (x9_isGood F x0 τ).bind (fun r1 => tk r1.2.2.1 r1.2.2.2 (if r1.1 = 0 then (x9_condition_93 F Wpieces x0 x1 r1.2.1) else (if isC r1.2.1 x0 [9] = true then (x9_must F x0 41 r1.2.1).bind (fun r2 => tk r2.2.2.1 r2.2.2.2 (x9_condition_93 F Wpieces x0 x1 r2.2.1)) else none))) else none
theorem kx9_condition_80 (M : XC γ cX9_condition 3 RX9 "condition" G o B (dd + 1) (some (.object "AshCity$Condition")) (xQq G o B v τr) c0 s0) (hd : 3 ≤ dd) (Wpieces : Nat → XS → XR (Option Nat)) (hWpieces : MetW_pieces (jl γ) G o B dd Wpieces) (x0 : Nat) (x1 : Option Nat) (τ : XS) {c s k n : Nat} (hf : x9_condition_80 F Wpieces x0 x1 τ = some (v, τr, c, s)) (hkn : k + c ≤ c0 ∧ n + s ≤ s0) : J γ (XW G o B τ) k n 80 [(0, .ref x0), (1, va_rf x1)] [] := by
  unfold x9_condition_80 at hf
  refine j_aload_n (pc := 80) M.1 dX9_condition_80 0 rfl ?_
  obtain ⟨b1, hf⟩ := o_need hf
  obtain ⟨r1, g1, hf⟩ := o_bind hf
  obtain ⟨c1, s1, hf, hc1, hs1⟩ := o_tk hf
  replace hkn := kn_step hkn hc1 hs1
  refine jx_i M (x_runW (pc := 81) (As := []) (rest := []) M xcw_X9_53 (met_x9_isGood g1) b1 (by omega) rfl rfl rfl dX9_condition_81 (kn_le hkn)) ?_
  refine j_if_eq (pc := 84) M.1 93 dX9_condition_84 rfl (fun b2 => ?_) (fun b2 => ?_)
  · replace hf := o_pos b2 hf
    exact kx9_condition_93 M hd Wpieces hWpieces x0 x1 r1.2.1 hf hkn
  · replace hf := o_neg b2 hf
    refine j_aload_n (pc := 87) M.1 dX9_condition_87 0 rfl ?_
    refine j_bipush (pc := 88) M.1 dX9_condition_88 kc_bipush_41 ?_
    obtain ⟨b3, hf⟩ := o_need hf
    obtain ⟨r2, g2, hf⟩ := o_bind hf
    obtain ⟨c2, s2, hf, hc2, hs2⟩ := o_tk hf
    replace hkn := kn_step hkn hc2 hs2
    refine jx_v (r := r2.1) M (x_runW (pc := 90) (As := [.int 41]) (rest := []) M xcw_X9_66 (met_x9_must g2) b3 (by omega) rfl rfl rfl dX9_condition_90 (kn_le hkn)) ?_
    exact kx9_condition_93 M hd Wpieces hWpieces x0 x1 r2.2.1 hf hkn
noncomputable def x9_condition (F : Nat) (Wpieces : Nat → XS → XR (Option Nat)) (x0 : Nat) (τ : XS) : XR (Option Nat) :=
  if isC τ x0 [9] = true then (x9_opens F x0 τ).bind (fun r1 => tk r1.2.2.1 r1.2.2.2 (if isC r1.2.1 x0 [9] = true then (x9_isGood F x0 r1.2.1).bind (fun r2 => tk r2.2.2.1 r2.2.2.2 (if r2.1 = 0 then (lp (x9_condition_B30 F Wpieces (fun a1 => x9_condition_80 F Wpieces x0 none a1.2) x0 none) F (none, r2.2.1)) else (nx (xN r2.2.1 (.inr (12, fun q => defaultValue (tyX12 q)))) (fun τ1 => tk 1 3 (if isC τ1 x0 [9] = true then (Wpieces x0 τ1).bind (fun r3 => tk r3.2.2.1 r3.2.2.2 ((x12_init F r2.2.1.2.2.2.2 r3.1 1 r3.2.1).bind (fun r4 => tk r4.2.2.1 r4.2.2.2 (lp (x9_condition_B30 F Wpieces (fun a2 => x9_condition_80 F Wpieces x0 (some r2.2.1.2.2.2.2) a2.2) x0 (some r2.2.1.2.2.2.2)) F (some r2.2.1.2.2.2.2, r4.2.1))))) else none))))) else none)) else none
theorem met_x9_condition {l : Launch} {G : gG} {o B F : Nat} {dd : Nat} (hd : 3 ≤ dd) {Wpieces : Nat → XS → XR (Option Nat)} (hWpieces : MetW_pieces l G o B dd Wpieces) {x0 : Nat} {τ : XS} {r : Option Nat × XS × Nat × Nat} (hf : x9_condition F Wpieces x0 τ = some r) : MetX l G o B yX9_condition cX9_condition 3 (some (.object "AshCity$Condition")) (dd + 1) [.ref x0] τ (xQq G o B r.1 r.2.1) r.2.2.1 r.2.2.2 := by
  obtain ⟨v, τr, c, s⟩ := r
  refine metX_of (own := RX9) (mn := "condition") (by decide) rfl rfl rfl (fun γ hγ M => ?_)
  subst hγ
  show J γ (XW G o B τ) 0 0 0 [(0, .ref x0)] []
  have hkn : 0 + c ≤ c ∧ 0 + s ≤ s := ⟨by omega, by omega⟩
  unfold x9_condition at hf
  refine j_aload_n (pc := 0) M.1 dX9_condition_0 0 rfl ?_
  obtain ⟨b1, hf⟩ := o_need hf
  obtain ⟨r1, g1, hf⟩ := o_bind hf
  obtain ⟨c1, s1, hf, hc1, hs1⟩ := o_tk hf
  replace hkn := kn_step hkn hc1 hs1
  refine jx_v (r := r1.1) M (x_runW (pc := 1) (As := []) (rest := []) M xcw_X9_59 (met_x9_opens g1) b1 (by omega) rfl rfl rfl dX9_condition_1 (kn_le hkn)) ?_
  refine j_aload_n (pc := 4) M.1 dX9_condition_4 0 rfl ?_
  obtain ⟨b2, hf⟩ := o_need hf
  obtain ⟨r2, g2, hf⟩ := o_bind hf
  obtain ⟨c2, s2, hf, hc2, hs2⟩ := o_tk hf
  replace hkn := kn_step hkn hc2 hs2
  refine jx_i M (x_runW (pc := 5) (As := []) (rest := []) M xcw_X9_53 (met_x9_isGood g2) b2 (by omega) rfl rfl rfl dX9_condition_5 (kn_le hkn)) ?_
  refine j_if_eq (pc := 8) M.1 26 dX9_condition_8 rfl (fun b3 => ?_) (fun b3 => ?_)
  · replace hf := o_pos b3 hf
    refine j_null (pc := 26) M.1 dX9_condition_26 ?_
    refine j_astoreq_n (pc := 27) M.1 [(1, va_rf none), (0, .ref x0)] dX9_condition_27 rfl rfl ?_
    refine j_aloadq_n (pc := 28) M.1 dX9_condition_28 0 rfl ?_
    refine j_astoreq_n (pc := 29) M.1 [(2, va_rf none), (1, va_rf none), (0, .ref x0)] dX9_condition_29 rfl rfl ?_
    refine j_sub [2, 1, 0] (show lv_pick _ _ = [(0, .ref x0), (1, va_rf none), (2, va_rf none)] from rfl) ?_
    refine lp_Wc (kx9_condition_B30 M hd Wpieces hWpieces x0 none _ ?_) F (none, r2.2.1) _ _ hf _ _ hkn
    · intro a1 c s hf k n hkn
      exact kx9_condition_80 M hd Wpieces hWpieces x0 none a1.2 hf hkn
  · replace hf := o_neg b3 hf
    obtain ⟨τ1, e1, hf⟩ := o_nx hf
    obtain ⟨c3, s3, hf, hc3, hs3⟩ := o_tk hf
    replace hkn := kn_step hkn hc3 hs3
    refine jx_new (pc := 11) M xnew_X9_121 dX9_condition_11 (kn_le hkn) e1 ?_
    refine j_dup (pc := 14) M.1 dX9_condition_14 rfl ?_
    refine j_aload_n (pc := 15) M.1 dX9_condition_15 0 rfl ?_
    obtain ⟨b4, hf⟩ := o_need hf
    obtain ⟨r3, g3, hf⟩ := o_bind hf
    obtain ⟨c4, s4, hf, hc4, hs4⟩ := o_tk hf
    replace hkn := kn_step hkn hc4 hs4
    refine jx_q M (x_runW (pc := 16) (As := []) (rest := [.ref r2.2.1.2.2.2.2, .ref r2.2.1.2.2.2.2]) M xcw_X9_129 (hWpieces _ _ _ g3) b4 (Nat.lt_succ_self _) rfl rfl rfl dX9_condition_16 (kn_le hkn)) ?_
    refine j_iconst (pc := 19) M.1 dX9_condition_19 kc_iconst_1 ?_
    obtain ⟨r4, g4, hf⟩ := o_bind hf
    obtain ⟨c5, s5, hf, hc5, hs5⟩ := o_tk hf
    replace hkn := kn_step hkn hc5 hs5
    refine jx_v (r := r4.1) M (x_runI (pc := 20) (As := [va_rf r3.1, .int 1]) (rest := [.ref r2.2.1.2.2.2.2]) M xci_X9_123 (met_x12_init g4) (by omega) rfl rfl rfl dX9_condition_20 (kn_le hkn)) ?_
    refine j_goto (pc := 23) M.1 27 dX9_condition_23 rfl ?_
    refine j_astore_n (pc := 27) M.1 [(1, .ref r2.2.1.2.2.2.2), (0, .ref x0)] dX9_condition_27 rfl rfl ?_
    refine j_aload_n (pc := 28) M.1 dX9_condition_28 0 rfl ?_
    refine j_astore_n (pc := 29) M.1 [(2, .ref r2.2.1.2.2.2.2), (1, .ref r2.2.1.2.2.2.2), (0, .ref x0)] dX9_condition_29 rfl rfl ?_
    refine j_sub [2, 1, 0] (show lv_pick _ _ = [(0, .ref x0), (1, va_rf (some r2.2.1.2.2.2.2)), (2, va_rf (some r2.2.1.2.2.2.2))] from rfl) ?_
    refine lp_Wc (kx9_condition_B30 M hd Wpieces hWpieces x0 (some r2.2.1.2.2.2.2) _ ?_) F (some r2.2.1.2.2.2.2, r4.2.1) _ _ hf _ _ hkn
    · intro a2 c s hf k n hkn
      exact kx9_condition_80 M hd Wpieces hWpieces x0 (some r2.2.1.2.2.2.2) a2.2 hf hkn
end
theorem dX18_init_0 : decode cX18_init 0 = .ok (.aload_n 0, 1) := by decide +kernel
theorem dX18_init_1 : decode cX18_init 1 = .ok (.invokespecial 1, 3) := by decide +kernel
theorem dX18_init_4 : decode cX18_init 4 = .ok (.aload_n 0, 1) := by decide +kernel
theorem dX18_init_5 : decode cX18_init 5 = .ok (.aload_n 1, 1) := by decide +kernel
theorem dX18_init_6 : decode cX18_init 6 = .ok (.putfield 7, 3) := by decide +kernel
theorem dX18_init_9 : decode cX18_init 9 = .ok (.aload_n 0, 1) := by decide +kernel
theorem dX18_init_10 : decode cX18_init 10 = .ok (.iload_n 2, 1) := by decide +kernel
theorem dX18_init_11 : decode cX18_init 11 = .ok (.putfield 13, 3) := by decide +kernel
theorem dX18_init_14 : decode cX18_init 14 = .ok (.aload_n 0, 1) := by decide +kernel
theorem dX18_init_15 : decode cX18_init 15 = .ok (.aload_n 3, 1) := by decide +kernel
theorem dX18_init_16 : decode cX18_init 16 = .ok (.putfield 17, 3) := by decide +kernel
theorem dX18_init_19 : decode cX18_init 19 = .ok (.return_, 1) := by decide +kernel
section
variable {v : Int32}
noncomputable def x18_init (F : Nat) (x0 : Nat) (x1 : Option Nat) (x2 : Int32) (x3 : Option Nat) (τ : XS) : XR Int32 :=
  (x11_init F x0 τ).bind (fun r1 => tk r1.2.2.1 r1.2.2.2 ((pF r1.2.1 x0 [18] 0 (va_rf x1)).bind (fun τ1 => (pF τ1 x0 [18] 2 (.int x2)).bind (fun τ2 => (pF τ2 x0 [18] 1 (va_rf x3)).bind (fun τ3 => some (0, τ3, 0, 0))))))
theorem met_x18_init {l : Launch} {G : gG} {o B F : Nat} {x0 : Nat} {x1 : Option Nat} {x2 : Int32} {x3 : Option Nat} {τ : XS} {r : Int32 × XS × Nat × Nat} (hf : x18_init F x0 x1 x2 x3 τ = some r) : MetX l G o B yX18_init cX18_init 4 none 3 [.ref x0, va_rf x1, .int x2, va_rf x3] τ (xQv G o B r.1 r.2.1) r.2.2.1 r.2.2.2 := by
  obtain ⟨v, τr, c, s⟩ := r
  refine metX_of (own := RX18) (mn := "<init>") (by decide) rfl rfl (by cases x1 <;> cases x3 <;> rfl) (fun γ hγ M => ?_)
  subst hγ
  rw [show lv_args 0 [.ref x0, va_rf x1, .int x2, va_rf x3] = [(0, .ref x0), (1, va_rf x1), (2, .int x2), (3, va_rf x3)] by cases x1 <;> cases x3 <;> rfl]
  have hkn : 0 + c ≤ c ∧ 0 + s ≤ s := ⟨by omega, by omega⟩
  unfold x18_init at hf
  refine j_aload_n (pc := 0) M.1 dX18_init_0 0 rfl ?_
  obtain ⟨r1, g1, hf⟩ := o_bind hf
  obtain ⟨c1, s1, hf, hc1, hs1⟩ := o_tk hf
  replace hkn := kn_step hkn hc1 hs1
  refine jx_v (r := r1.1) M (x_runJ (pc := 1) (As := []) (rest := []) M xci_X18_1 (met_x11_init g1) (by decide) rfl rfl rfl dX18_init_1 (kn_le hkn)) ?_
  refine j_aload_n (pc := 4) M.1 dX18_init_4 0 rfl ?_
  refine j_aloadq_n (pc := 5) M.1 dX18_init_5 1 rfl ?_
  obtain ⟨τ1, g2, hf⟩ := o_bind hf
  refine jx_putW (pc := 6) M q859 xfw_X18_7 (nar_rf _ _) (fit_rf _ _) g2 dX18_init_6 ?_
  refine j_aload_n (pc := 9) M.1 dX18_init_9 0 rfl ?_
  refine j_iload_n (pc := 10) M.1 dX18_init_10 2 rfl ?_
  obtain ⟨τ2, g3, hf⟩ := o_bind hf
  refine jx_putW (pc := 11) M q861 xfw_X18_13 rfl rfl g3 dX18_init_11 ?_
  refine j_aload_n (pc := 14) M.1 dX18_init_14 0 rfl ?_
  refine j_aloadq_n (pc := 15) M.1 dX18_init_15 3 rfl ?_
  obtain ⟨τ3, g4, hf⟩ := o_bind hf
  refine jx_putW (pc := 16) M q860 xfw_X18_17 (nar_rf _ _) (fit_rf _ _) g4 dX18_init_16 ?_
  exact jx_vretF (pc := 19) M dX18_init_19 hf hkn
end
theorem dX13_init_0 : decode cX13_init 0 = .ok (.aload_n 0, 1) := by decide +kernel
theorem dX13_init_1 : decode cX13_init 1 = .ok (.invokespecial 1, 3) := by decide +kernel
theorem dX13_init_4 : decode cX13_init 4 = .ok (.aload_n 0, 1) := by decide +kernel
theorem dX13_init_5 : decode cX13_init 5 = .ok (.aload_n 1, 1) := by decide +kernel
theorem dX13_init_6 : decode cX13_init 6 = .ok (.putfield 7, 3) := by decide +kernel
theorem dX13_init_9 : decode cX13_init 9 = .ok (.return_, 1) := by decide +kernel
section
variable {v : Int32}
noncomputable def x13_init (F : Nat) (x0 : Nat) (x1 : Option Nat) (τ : XS) : XR Int32 :=
  (x11_init F x0 τ).bind (fun r1 => tk r1.2.2.1 r1.2.2.2 ((pF r1.2.1 x0 [13] 0 (va_rf x1)).bind (fun τ1 => some (0, τ1, 0, 0))))
theorem met_x13_init {l : Launch} {G : gG} {o B F : Nat} {x0 : Nat} {x1 : Option Nat} {τ : XS} {r : Int32 × XS × Nat × Nat} (hf : x13_init F x0 x1 τ = some r) : MetX l G o B yX13_init cX13_init 2 none 3 [.ref x0, va_rf x1] τ (xQv G o B r.1 r.2.1) r.2.2.1 r.2.2.2 := by
  obtain ⟨v, τr, c, s⟩ := r
  refine metX_of (own := RX13) (mn := "<init>") (by decide) rfl rfl (by cases x1 <;> rfl) (fun γ hγ M => ?_)
  subst hγ
  rw [show lv_args 0 [.ref x0, va_rf x1] = [(0, .ref x0), (1, va_rf x1)] by cases x1 <;> rfl]
  have hkn : 0 + c ≤ c ∧ 0 + s ≤ s := ⟨by omega, by omega⟩
  unfold x13_init at hf
  refine j_aload_n (pc := 0) M.1 dX13_init_0 0 rfl ?_
  obtain ⟨r1, g1, hf⟩ := o_bind hf
  obtain ⟨c1, s1, hf, hc1, hs1⟩ := o_tk hf
  replace hkn := kn_step hkn hc1 hs1
  refine jx_v (r := r1.1) M (x_runJ (pc := 1) (As := []) (rest := []) M xci_X13_1 (met_x11_init g1) (by decide) rfl rfl rfl dX13_init_1 (kn_le hkn)) ?_
  refine j_aload_n (pc := 4) M.1 dX13_init_4 0 rfl ?_
  refine j_aloadq_n (pc := 5) M.1 dX13_init_5 1 rfl ?_
  obtain ⟨τ1, g2, hf⟩ := o_bind hf
  refine jx_putW (pc := 6) M q795 xfw_X13_7 (nar_rf _ _) (fit_rf _ _) g2 dX13_init_6 ?_
  exact jx_vretF (pc := 9) M dX13_init_9 hf hkn
end
theorem dX14_init_0 : decode cX14_init 0 = .ok (.aload_n 0, 1) := by decide +kernel
theorem dX14_init_1 : decode cX14_init 1 = .ok (.invokespecial 1, 3) := by decide +kernel
theorem dX14_init_4 : decode cX14_init 4 = .ok (.return_, 1) := by decide +kernel
section
variable {v : Int32}
noncomputable def x14_init (F : Nat) (x0 : Nat) (τ : XS) : XR Int32 :=
  some (0, τ, 0, 0)
theorem met_x14_init {l : Launch} {G : gG} {o B F : Nat} {x0 : Nat} {τ : XS} {r : Int32 × XS × Nat × Nat} (hf : x14_init F x0 τ = some r) : MetX l G o B yX14_init cX14_init 1 none 2 [.ref x0] τ (xQv G o B r.1 r.2.1) r.2.2.1 r.2.2.2 := by
  obtain ⟨v, τr, c, s⟩ := r
  refine metX_of (own := RX14) (mn := "<init>") (by decide) rfl rfl rfl (fun γ hγ M => ?_)
  subst hγ
  show J γ (XW G o B τ) 0 0 0 [(0, .ref x0)] []
  have hkn : 0 + c ≤ c ∧ 0 + s ≤ s := ⟨by omega, by omega⟩
  unfold x14_init at hf
  refine j_aload_n (pc := 0) M.1 dX14_init_0 0 rfl ?_
  refine j_objInit (pc := 1) M.1 q822 dX14_init_1 (M.room (by decide)) rfl ?_
  exact jx_vretF (pc := 4) M dX14_init_4 hf hkn
end
theorem dX17_init_0 : decode cX17_init 0 = .ok (.aload_n 0, 1) := by decide +kernel
theorem dX17_init_1 : decode cX17_init 1 = .ok (.invokespecial 1, 3) := by decide +kernel
theorem dX17_init_4 : decode cX17_init 4 = .ok (.aload_n 0, 1) := by decide +kernel
theorem dX17_init_5 : decode cX17_init 5 = .ok (.iload_n 1, 1) := by decide +kernel
theorem dX17_init_6 : decode cX17_init 6 = .ok (.putfield 7, 3) := by decide +kernel
theorem dX17_init_9 : decode cX17_init 9 = .ok (.return_, 1) := by decide +kernel
section
variable {v : Int32}
noncomputable def x17_init (F : Nat) (x0 : Nat) (x1 : Int32) (τ : XS) : XR Int32 :=
  (x14_init F x0 τ).bind (fun r1 => tk r1.2.2.1 r1.2.2.2 ((pF r1.2.1 x0 [17] 0 (.int x1)).bind (fun τ1 => some (0, τ1, 0, 0))))
theorem met_x17_init {l : Launch} {G : gG} {o B F : Nat} {x0 : Nat} {x1 : Int32} {τ : XS} {r : Int32 × XS × Nat × Nat} (hf : x17_init F x0 x1 τ = some r) : MetX l G o B yX17_init cX17_init 2 none 3 [.ref x0, .int x1] τ (xQv G o B r.1 r.2.1) r.2.2.1 r.2.2.2 := by
  obtain ⟨v, τr, c, s⟩ := r
  refine metX_of (own := RX17) (mn := "<init>") (by decide) rfl rfl rfl (fun γ hγ M => ?_)
  subst hγ
  show J γ (XW G o B τ) 0 0 0 [(0, .ref x0), (1, .int x1)] []
  have hkn : 0 + c ≤ c ∧ 0 + s ≤ s := ⟨by omega, by omega⟩
  unfold x17_init at hf
  refine j_aload_n (pc := 0) M.1 dX17_init_0 0 rfl ?_
  obtain ⟨r1, g1, hf⟩ := o_bind hf
  obtain ⟨c1, s1, hf, hc1, hs1⟩ := o_tk hf
  replace hkn := kn_step hkn hc1 hs1
  refine jx_v (r := r1.1) M (x_runJ (pc := 1) (As := []) (rest := []) M xci_X17_1 (met_x14_init g1) (by decide) rfl rfl rfl dX17_init_1 (kn_le hkn)) ?_
  refine j_aload_n (pc := 4) M.1 dX17_init_4 0 rfl ?_
  refine j_iload_n (pc := 5) M.1 dX17_init_5 1 rfl ?_
  obtain ⟨τ1, g2, hf⟩ := o_bind hf
  refine jx_putW (pc := 6) M q834 xfw_X17_7 rfl rfl g2 dX17_init_6 ?_
  exact jx_vretF (pc := 9) M dX17_init_9 hf hkn
end
theorem dX16_init_0 : decode cX16_init 0 = .ok (.aload_n 0, 1) := by decide +kernel
theorem dX16_init_1 : decode cX16_init 1 = .ok (.invokespecial 1, 3) := by decide +kernel
theorem dX16_init_4 : decode cX16_init 4 = .ok (.aload_n 0, 1) := by decide +kernel
theorem dX16_init_5 : decode cX16_init 5 = .ok (.iload_n 1, 1) := by decide +kernel
theorem dX16_init_6 : decode cX16_init 6 = .ok (.putfield 7, 3) := by decide +kernel
theorem dX16_init_9 : decode cX16_init 9 = .ok (.return_, 1) := by decide +kernel
section
variable {v : Int32}
noncomputable def x16_init (F : Nat) (x0 : Nat) (x1 : Int32) (τ : XS) : XR Int32 :=
  (x14_init F x0 τ).bind (fun r1 => tk r1.2.2.1 r1.2.2.2 ((pF r1.2.1 x0 [16] 0 (.int x1)).bind (fun τ1 => some (0, τ1, 0, 0))))
theorem met_x16_init {l : Launch} {G : gG} {o B F : Nat} {x0 : Nat} {x1 : Int32} {τ : XS} {r : Int32 × XS × Nat × Nat} (hf : x16_init F x0 x1 τ = some r) : MetX l G o B yX16_init cX16_init 2 none 3 [.ref x0, .int x1] τ (xQv G o B r.1 r.2.1) r.2.2.1 r.2.2.2 := by
  obtain ⟨v, τr, c, s⟩ := r
  refine metX_of (own := RX16) (mn := "<init>") (by decide) rfl rfl rfl (fun γ hγ M => ?_)
  subst hγ
  show J γ (XW G o B τ) 0 0 0 [(0, .ref x0), (1, .int x1)] []
  have hkn : 0 + c ≤ c ∧ 0 + s ≤ s := ⟨by omega, by omega⟩
  unfold x16_init at hf
  refine j_aload_n (pc := 0) M.1 dX16_init_0 0 rfl ?_
  obtain ⟨r1, g1, hf⟩ := o_bind hf
  obtain ⟨c1, s1, hf, hc1, hs1⟩ := o_tk hf
  replace hkn := kn_step hkn hc1 hs1
  refine jx_v (r := r1.1) M (x_runJ (pc := 1) (As := []) (rest := []) M xci_X16_1 (met_x14_init g1) (by decide) rfl rfl rfl dX16_init_1 (kn_le hkn)) ?_
  refine j_aload_n (pc := 4) M.1 dX16_init_4 0 rfl ?_
  refine j_iload_n (pc := 5) M.1 dX16_init_5 1 rfl ?_
  obtain ⟨τ1, g2, hf⟩ := o_bind hf
  refine jx_putW (pc := 6) M q823 xfw_X16_7 rfl rfl g2 dX16_init_6 ?_
  exact jx_vretF (pc := 9) M dX16_init_9 hf hkn
end
theorem dX9_factor_0 : decode cX9_factor 0 = .ok (.aload_n 0, 1) := by decide +kernel
theorem dX9_factor_1 : decode cX9_factor 1 = .ok (.invokevirtual 41, 3) := by decide +kernel
theorem dX9_factor_4 : decode cX9_factor 4 = .ok (.istore_n 1, 1) := by decide +kernel
theorem dX9_factor_5 : decode cX9_factor 5 = .ok (.iload_n 1, 1) := by decide +kernel
theorem dX9_factor_6 : decode cX9_factor 6 = .ok (.bipush 91, 2) := by decide +kernel
theorem dX9_factor_8 : decode cX9_factor 8 = .ok (.if_icmp .ne 48, 3) := by decide +kernel
theorem dX9_factor_11 : decode cX9_factor 11 = .ok (.aload_n 0, 1) := by decide +kernel
theorem dX9_factor_12 : decode cX9_factor 12 = .ok (.invokevirtual 59, 3) := by decide +kernel
theorem dX9_factor_15 : decode cX9_factor 15 = .ok (.aload_n 0, 1) := by decide +kernel
theorem dX9_factor_16 : decode cX9_factor 16 = .ok (.invokevirtual 53, 3) := by decide +kernel
theorem dX9_factor_19 : decode cX9_factor 19 = .ok (.ifCond .eq 10, 3) := by decide +kernel
theorem dX9_factor_22 : decode cX9_factor 22 = .ok (.aload_n 0, 1) := by decide +kernel
theorem dX9_factor_23 : decode cX9_factor 23 = .ok (.invokevirtual 62, 3) := by decide +kernel
theorem dX9_factor_26 : decode cX9_factor 26 = .ok (.goto 4, 3) := by decide +kernel
theorem dX9_factor_29 : decode cX9_factor 29 = .ok (.aconst_null, 1) := by decide +kernel
theorem dX9_factor_30 : decode cX9_factor 30 = .ok (.astore_n 2, 1) := by decide +kernel
theorem dX9_factor_31 : decode cX9_factor 31 = .ok (.aload_n 0, 1) := by decide +kernel
theorem dX9_factor_32 : decode cX9_factor 32 = .ok (.invokevirtual 53, 3) := by decide +kernel
theorem dX9_factor_35 : decode cX9_factor 35 = .ok (.ifCond .eq 9, 3) := by decide +kernel
theorem dX9_factor_38 : decode cX9_factor 38 = .ok (.aload_n 0, 1) := by decide +kernel
theorem dX9_factor_39 : decode cX9_factor 39 = .ok (.bipush 93, 2) := by decide +kernel
theorem dX9_factor_41 : decode cX9_factor 41 = .ok (.invokevirtual 66, 3) := by decide +kernel
theorem dX9_factor_44 : decode cX9_factor 44 = .ok (.aload_n 0, 1) := by decide +kernel
theorem dX9_factor_45 : decode cX9_factor 45 = .ok (.dup, 1) := by decide +kernel
theorem dX9_factor_46 : decode cX9_factor 46 = .ok (.getfield 56, 3) := by decide +kernel
theorem dX9_factor_49 : decode cX9_factor 49 = .ok (.iconst 1, 1) := by decide +kernel
theorem dX9_factor_50 : decode cX9_factor 50 = .ok (.isub, 1) := by decide +kernel
theorem dX9_factor_51 : decode cX9_factor 51 = .ok (.putfield 56, 3) := by decide +kernel
theorem dX9_factor_54 : decode cX9_factor 54 = .ok (.aload_n 2, 1) := by decide +kernel
theorem dX9_factor_55 : decode cX9_factor 55 = .ok (.areturn, 1) := by decide +kernel
theorem dX9_factor_56 : decode cX9_factor 56 = .ok (.aload_n 0, 1) := by decide +kernel
theorem dX9_factor_57 : decode cX9_factor 57 = .ok (.invokevirtual 45, 3) := by decide +kernel
theorem dX9_factor_60 : decode cX9_factor 60 = .ok (.ifCond .eq 17, 3) := by decide +kernel
theorem dX9_factor_63 : decode cX9_factor 63 = .ok (.new 70, 3) := by decide +kernel
theorem dX9_factor_66 : decode cX9_factor 66 = .ok (.dup, 1) := by decide +kernel
theorem dX9_factor_67 : decode cX9_factor 67 = .ok (.aload_n 0, 1) := by decide +kernel
theorem dX9_factor_68 : decode cX9_factor 68 = .ok (.ldc 72, 2) := by decide +kernel
theorem dX9_factor_70 : decode cX9_factor 70 = .ok (.invokevirtual 73, 3) := by decide +kernel
theorem dX9_factor_73 : decode cX9_factor 73 = .ok (.invokespecial 77, 3) := by decide +kernel
theorem dX9_factor_76 : decode cX9_factor 76 = .ok (.areturn, 1) := by decide +kernel
theorem dX9_factor_77 : decode cX9_factor 77 = .ok (.iload_n 1, 1) := by decide +kernel
theorem dX9_factor_78 : decode cX9_factor 78 = .ok (.ifCond .eq 12, 3) := by decide +kernel
theorem dX9_factor_81 : decode cX9_factor 81 = .ok (.ldc 79, 2) := by decide +kernel
theorem dX9_factor_83 : decode cX9_factor 83 = .ok (.iload_n 1, 1) := by decide +kernel
theorem dX9_factor_84 : decode cX9_factor 84 = .ok (.invokevirtual 81, 3) := by decide +kernel
theorem dX9_factor_87 : decode cX9_factor 87 = .ok (.ifCond .ge 12, 3) := by decide +kernel
theorem dX9_factor_90 : decode cX9_factor 90 = .ok (.aload_n 0, 1) := by decide +kernel
theorem dX9_factor_91 : decode cX9_factor 91 = .ok (.iconst 1, 1) := by decide +kernel
theorem dX9_factor_92 : decode cX9_factor 92 = .ok (.aload_n 0, 1) := by decide +kernel
theorem dX9_factor_93 : decode cX9_factor 93 = .ok (.getfield 32, 3) := by decide +kernel
theorem dX9_factor_96 : decode cX9_factor 96 = .ok (.invokevirtual 49, 3) := by decide +kernel
theorem dX9_factor_99 : decode cX9_factor 99 = .ok (.aload_n 0, 1) := by decide +kernel
theorem dX9_factor_100 : decode cX9_factor 100 = .ok (.dup, 1) := by decide +kernel
theorem dX9_factor_101 : decode cX9_factor 101 = .ok (.getfield 32, 3) := by decide +kernel
theorem dX9_factor_104 : decode cX9_factor 104 = .ok (.iconst 1, 1) := by decide +kernel
theorem dX9_factor_105 : decode cX9_factor 105 = .ok (.iadd, 1) := by decide +kernel
theorem dX9_factor_106 : decode cX9_factor 106 = .ok (.putfield 32, 3) := by decide +kernel
theorem dX9_factor_109 : decode cX9_factor 109 = .ok (.new 86, 3) := by decide +kernel
theorem dX9_factor_112 : decode cX9_factor 112 = .ok (.dup, 1) := by decide +kernel
theorem dX9_factor_113 : decode cX9_factor 113 = .ok (.iload_n 1, 1) := by decide +kernel
theorem dX9_factor_114 : decode cX9_factor 114 = .ok (.invokespecial 88, 3) := by decide +kernel
theorem dX9_factor_117 : decode cX9_factor 117 = .ok (.areturn, 1) := by decide +kernel
section
variable {v : Option Nat}
variable {dd : Nat}
noncomputable def x9_factor_99 (F : Nat) (Wsum : Nat → XS → XR (Option Nat)) (x0 : Nat) (x1 : Int32) (τ : XS) : XR (Option Nat) :=
  (gI τ x0 [9] 6).bind (fun v1 => (pF τ x0 [9] 6 (.int (v1 + 1))).bind (fun τ1 => nx (xN τ1 (.inr (17, fun q => defaultValue (tyX17 q)))) (fun τ2 => tk 1 1 ((x17_init F τ1.2.2.2.2 x1 τ2).bind (fun r1 => tk r1.2.2.1 r1.2.2.2 (some (some τ1.2.2.2.2, r1.2.1, 0, 0)))))))
theorem kx9_factor_99 (M : XC γ cX9_factor 3 RX9 "factor" G o B (dd + 1) (some (.object "AshCity$Sum")) (xQq G o B v τr) c0 s0) (hd : 6 ≤ dd) (Wsum : Nat → XS → XR (Option Nat)) (hWsum : MetW_sum (jl γ) G o B dd Wsum) (x0 : Nat) (x1 : Int32) (τ : XS) {c s k n : Nat} (hf : x9_factor_99 F Wsum x0 x1 τ = some (v, τr, c, s)) (hkn : k + c ≤ c0 ∧ n + s ≤ s0) : J γ (XW G o B τ) k n 99 [(0, .ref x0), (1, .int x1)] [] := by
  unfold x9_factor_99 at hf
  refine j_aload_n (pc := 99) M.1 dX9_factor_99 0 rfl ?_
  refine j_dup (pc := 100) M.1 dX9_factor_100 rfl ?_
  obtain ⟨v1, g1, hf⟩ := o_bind hf
  refine jx_getI (pc := 101) M xfl_X9_32 g1 dX9_factor_101 ?_
  refine j_iconst (pc := 104) M.1 dX9_factor_104 kc_iconst_1 ?_
  refine j_iadd (pc := 105) M.1 dX9_factor_105 ?_
  obtain ⟨τ1, g2, hf⟩ := o_bind hf
  refine jx_putV (pc := 106) M xfl_X9_32 rfl rfl g2 dX9_factor_106 ?_
  obtain ⟨τ2, e1, hf⟩ := o_nx hf
  obtain ⟨c1, s1, hf, hc1, hs1⟩ := o_tk hf
  replace hkn := kn_step hkn hc1 hs1
  refine jx_new (pc := 109) M xnew_X9_86 dX9_factor_109 (kn_le hkn) e1 ?_
  refine j_dup (pc := 112) M.1 dX9_factor_112 rfl ?_
  refine j_iload_n (pc := 113) M.1 dX9_factor_113 1 rfl ?_
  obtain ⟨r1, g3, hf⟩ := o_bind hf
  obtain ⟨c2, s2, hf, hc2, hs2⟩ := o_tk hf
  replace hkn := kn_step hkn hc2 hs2
  refine jx_v (r := r1.1) M (x_runI (pc := 114) (As := [.int x1]) (rest := [.ref τ1.2.2.2.2]) M xci_X9_88 (met_x17_init g3) (by omega) rfl rfl rfl dX9_factor_114 (kn_le hkn)) ?_
  exact jx_aretF (pc := 117) (w := some τ1.2.2.2.2) M dX9_factor_117 hf hkn
noncomputable def x9_factor_90 (F : Nat) (Wsum : Nat → XS → XR (Option Nat)) (x0 : Nat) (x1 : Int32) (τ : XS) : XR (Option Nat) :=
  (gI τ x0 [9] 6).bind (fun v1 => if isC τ x0 [9] = true then (x9_bad F x0 1 v1 τ).bind (fun r1 => tk r1.2.2.1 r1.2.2.2 (x9_factor_99 F Wsum x0 x1 r1.2.1)) else none)
theorem kx9_factor_90 (M : XC γ cX9_factor 3 RX9 "factor" G o B (dd + 1) (some (.object "AshCity$Sum")) (xQq G o B v τr) c0 s0) (hd : 6 ≤ dd) (Wsum : Nat → XS → XR (Option Nat)) (hWsum : MetW_sum (jl γ) G o B dd Wsum) (x0 : Nat) (x1 : Int32) (τ : XS) {c s k n : Nat} (hf : x9_factor_90 F Wsum x0 x1 τ = some (v, τr, c, s)) (hkn : k + c ≤ c0 ∧ n + s ≤ s0) : J γ (XW G o B τ) k n 90 [(0, .ref x0), (1, .int x1)] [] := by
  unfold x9_factor_90 at hf
  refine j_aload_n (pc := 90) M.1 dX9_factor_90 0 rfl ?_
  refine j_iconst (pc := 91) M.1 dX9_factor_91 kc_iconst_1 ?_
  refine j_aload_n (pc := 92) M.1 dX9_factor_92 0 rfl ?_
  obtain ⟨v1, g1, hf⟩ := o_bind hf
  refine jx_getI (pc := 93) M xfl_X9_32 g1 dX9_factor_93 ?_
  obtain ⟨b1, hf⟩ := o_need hf
  obtain ⟨r1, g2, hf⟩ := o_bind hf
  obtain ⟨c1, s1, hf, hc1, hs1⟩ := o_tk hf
  replace hkn := kn_step hkn hc1 hs1
  refine jx_v (r := r1.1) M (x_runW (pc := 96) (As := [.int 1, .int v1]) (rest := []) M xcw_X9_49 (met_x9_bad g2) b1 (by omega) rfl rfl rfl dX9_factor_96 (kn_le hkn)) ?_
  exact kx9_factor_99 M hd Wsum hWsum x0 x1 r1.2.1 hf hkn
noncomputable def x9_factor_44 (F : Nat) (Wsum : Nat → XS → XR (Option Nat)) (x0 : Nat) (x2 : Option Nat) (τ : XS) : XR (Option Nat) :=
  (gI τ x0 [9] 7).bind (fun v1 => (pF τ x0 [9] 7 (.int (v1 - 1))).bind (fun τ1 => some (x2, τ1, 0, 0)))
theorem kx9_factor_44 (M : XC γ cX9_factor 3 RX9 "factor" G o B (dd + 1) (some (.object "AshCity$Sum")) (xQq G o B v τr) c0 s0) (hd : 6 ≤ dd) (Wsum : Nat → XS → XR (Option Nat)) (hWsum : MetW_sum (jl γ) G o B dd Wsum) (x0 : Nat) (x2 : Option Nat) (τ : XS) {c s k n : Nat} (hf : x9_factor_44 F Wsum x0 x2 τ = some (v, τr, c, s)) (hkn : k + c ≤ c0 ∧ n + s ≤ s0) : J γ (XW G o B τ) k n 44 [(0, .ref x0), (2, va_rf x2)] [] := by
  unfold x9_factor_44 at hf
  refine j_aload_n (pc := 44) M.1 dX9_factor_44 0 rfl ?_
  refine j_dup (pc := 45) M.1 dX9_factor_45 rfl ?_
  obtain ⟨v1, g1, hf⟩ := o_bind hf
  refine jx_getI (pc := 46) M xfl_X9_56 g1 dX9_factor_46 ?_
  refine j_iconst (pc := 49) M.1 dX9_factor_49 kc_iconst_1 ?_
  refine j_isub (pc := 50) M.1 dX9_factor_50 ?_
  obtain ⟨τ1, g2, hf⟩ := o_bind hf
  refine jx_putV (pc := 51) M xfl_X9_56 rfl rfl g2 dX9_factor_51 ?_
  refine j_aloadq_n (pc := 54) M.1 dX9_factor_54 1 rfl ?_
  exact jx_aretF (pc := 55) (w := x2) M dX9_factor_55 hf hkn
noncomputable def x9_factor_30 (F : Nat) (Wsum : Nat → XS → XR (Option Nat)) (x0 : Nat) (u0 : Option Nat) (τ : XS) : XR (Option Nat) :=
  if isC τ x0 [9] = true then (x9_isGood F x0 τ).bind (fun r1 => tk r1.2.2.1 r1.2.2.2 (if r1.1 = 0 then (x9_factor_44 F Wsum x0 u0 r1.2.1) else (if isC r1.2.1 x0 [9] = true then (x9_must F x0 93 r1.2.1).bind (fun r2 => tk r2.2.2.1 r2.2.2.2 (x9_factor_44 F Wsum x0 u0 r2.2.1)) else none))) else none
theorem kx9_factor_30 (M : XC γ cX9_factor 3 RX9 "factor" G o B (dd + 1) (some (.object "AshCity$Sum")) (xQq G o B v τr) c0 s0) (hd : 6 ≤ dd) (Wsum : Nat → XS → XR (Option Nat)) (hWsum : MetW_sum (jl γ) G o B dd Wsum) (x0 : Nat) (u0 : Option Nat) (τ : XS) {c s k n : Nat} (hf : x9_factor_30 F Wsum x0 u0 τ = some (v, τr, c, s)) (hkn : k + c ≤ c0 ∧ n + s ≤ s0) : J γ (XW G o B τ) k n 30 [(0, .ref x0)] [va_rf u0] := by
  unfold x9_factor_30 at hf
  refine j_astoreq_n (pc := 30) M.1 [(2, va_rf u0), (0, .ref x0)] dX9_factor_30 rfl rfl ?_
  refine j_aload_n (pc := 31) M.1 dX9_factor_31 1 rfl ?_
  obtain ⟨b1, hf⟩ := o_need hf
  obtain ⟨r1, g1, hf⟩ := o_bind hf
  obtain ⟨c1, s1, hf, hc1, hs1⟩ := o_tk hf
  replace hkn := kn_step hkn hc1 hs1
  refine jx_i M (x_runW (pc := 32) (As := []) (rest := []) M xcw_X9_53 (met_x9_isGood g1) b1 (by omega) rfl rfl rfl dX9_factor_32 (kn_le hkn)) ?_
  refine j_if_eq (pc := 35) M.1 44 dX9_factor_35 rfl (fun b2 => ?_) (fun b2 => ?_)
  · replace hf := o_pos b2 hf
    refine j_sub [1, 0] (show lv_pick _ _ = [(0, .ref x0), (2, va_rf u0)] from rfl) ?_
    exact kx9_factor_44 M hd Wsum hWsum x0 u0 r1.2.1 hf hkn
  · replace hf := o_neg b2 hf
    refine j_aload_n (pc := 38) M.1 dX9_factor_38 1 rfl ?_
    refine j_bipush (pc := 39) M.1 dX9_factor_39 kc_bipush_93 ?_
    obtain ⟨b3, hf⟩ := o_need hf
    obtain ⟨r2, g2, hf⟩ := o_bind hf
    obtain ⟨c2, s2, hf, hc2, hs2⟩ := o_tk hf
    replace hkn := kn_step hkn hc2 hs2
    refine jx_v (r := r2.1) M (x_runW (pc := 41) (As := [.int 93]) (rest := []) M xcw_X9_66 (met_x9_must g2) b3 (by omega) rfl rfl rfl dX9_factor_41 (kn_le hkn)) ?_
    refine j_sub [1, 0] (show lv_pick _ _ = [(0, .ref x0), (2, va_rf u0)] from rfl) ?_
    exact kx9_factor_44 M hd Wsum hWsum x0 u0 r2.2.1 hf hkn
noncomputable def x9_factor (F : Nat) (Wsum : Nat → XS → XR (Option Nat)) (x0 : Nat) (τ : XS) : XR (Option Nat) :=
  if isC τ x0 [9] = true then (x9_here F x0 τ).bind (fun r1 => tk r1.2.2.1 r1.2.2.2 (if r1.1 = 91 then (if isC r1.2.1 x0 [9] = true then (x9_opens F x0 r1.2.1).bind (fun r5 => tk r5.2.2.1 r5.2.2.2 (if isC r5.2.1 x0 [9] = true then (x9_isGood F x0 r5.2.1).bind (fun r6 => tk r6.2.2.1 r6.2.2.2 (if r6.1 = 0 then (x9_factor_30 F Wsum x0 none r6.2.1) else (if isC r6.2.1 x0 [9] = true then (Wsum x0 r6.2.1).bind (fun r7 => tk r7.2.2.1 r7.2.2.2 (x9_factor_30 F Wsum x0 r7.1 r7.2.1)) else none))) else none)) else none) else (if isC r1.2.1 x0 [9] = true then (x9_seesDigit F x0 r1.2.1).bind (fun r2 => tk r2.2.2.1 r2.2.2.2 (if r2.1 = 0 then (if r1.1 = 0 then (x9_factor_90 F Wsum x0 r1.1 r2.2.1) else (if 0 ≤ (tIdx 1 r1.1) then (x9_factor_99 F Wsum x0 r1.1 r2.2.1) else (x9_factor_90 F Wsum x0 r1.1 r2.2.1))) else (nx (xN r2.2.1 (.inr (16, fun q => defaultValue (tyX16 q)))) (fun τ1 => tk 1 1 (if isC τ1 x0 [9] = true then (x9_number F x0 99999 τ1).bind (fun r3 => tk r3.2.2.1 r3.2.2.2 ((x16_init F r2.2.1.2.2.2.2 r3.1 r3.2.1).bind (fun r4 => tk r4.2.2.1 r4.2.2.2 (some (some r2.2.1.2.2.2.2, r4.2.1, 0, 0))))) else none))))) else none))) else none
theorem met_x9_factor {l : Launch} {G : gG} {o B F : Nat} {dd : Nat} (hd : 6 ≤ dd) {Wsum : Nat → XS → XR (Option Nat)} (hWsum : MetW_sum l G o B dd Wsum) {x0 : Nat} {τ : XS} {r : Option Nat × XS × Nat × Nat} (hf : x9_factor F Wsum x0 τ = some r) : MetX l G o B yX9_factor cX9_factor 3 (some (.object "AshCity$Sum")) (dd + 1) [.ref x0] τ (xQq G o B r.1 r.2.1) r.2.2.1 r.2.2.2 := by
  obtain ⟨v, τr, c, s⟩ := r
  refine metX_of (own := RX9) (mn := "factor") (by decide) rfl rfl rfl (fun γ hγ M => ?_)
  subst hγ
  show J γ (XW G o B τ) 0 0 0 [(0, .ref x0)] []
  have hkn : 0 + c ≤ c ∧ 0 + s ≤ s := ⟨by omega, by omega⟩
  unfold x9_factor at hf
  refine j_aload_n (pc := 0) M.1 dX9_factor_0 0 rfl ?_
  obtain ⟨b1, hf⟩ := o_need hf
  obtain ⟨r1, g1, hf⟩ := o_bind hf
  obtain ⟨c1, s1, hf, hc1, hs1⟩ := o_tk hf
  replace hkn := kn_step hkn hc1 hs1
  refine jx_i M (x_runW (pc := 1) (As := []) (rest := []) M xcw_X9_41 (met_x9_here g1) b1 (by omega) rfl rfl rfl dX9_factor_1 (kn_le hkn)) ?_
  refine j_istore_n (pc := 4) M.1 [(1, .int r1.1), (0, .ref x0)] dX9_factor_4 rfl rfl ?_
  refine j_iload_n (pc := 5) M.1 dX9_factor_5 0 rfl ?_
  refine j_bipush (pc := 6) M.1 dX9_factor_6 kc_bipush_91 ?_
  refine j_icmp_ne (pc := 8) M.1 56 dX9_factor_8 rfl (fun b2 => ?_) (fun b2 => ?_)
  · replace hf := o_neg b2 hf
    refine j_aload_n (pc := 56) M.1 dX9_factor_56 1 rfl ?_
    obtain ⟨b3, hf⟩ := o_need hf
    obtain ⟨r2, g2, hf⟩ := o_bind hf
    obtain ⟨c2, s2, hf, hc2, hs2⟩ := o_tk hf
    replace hkn := kn_step hkn hc2 hs2
    refine jx_i M (x_runW (pc := 57) (As := []) (rest := []) M xcw_X9_45 (met_x9_seesDigit g2) b3 (by omega) rfl rfl rfl dX9_factor_57 (kn_le hkn)) ?_
    refine j_if_eq (pc := 60) M.1 77 dX9_factor_60 rfl (fun b4 => ?_) (fun b4 => ?_)
    · replace hf := o_pos b4 hf
      refine j_iload_n (pc := 77) M.1 dX9_factor_77 0 rfl ?_
      refine j_if_eq (pc := 78) M.1 90 dX9_factor_78 rfl (fun b5 => ?_) (fun b5 => ?_)
      · replace hf := o_pos b5 hf
        refine j_sub [1, 0] (show lv_pick _ _ = [(0, .ref x0), (1, .int r1.1)] from rfl) ?_
        exact kx9_factor_90 M hd Wsum hWsum x0 r1.1 r2.2.1 hf hkn
      · replace hf := o_neg b5 hf
        refine jx_ldcT1 (pc := 81) M dX9_factor_81 (fun q1 z1 => ?_)
        refine j_iload_n (pc := 83) M.1 dX9_factor_83 0 rfl ?_
        refine jx_idx (pc := 84) M z1 (by omega) dX9_factor_84 (kn_le0 hkn) ?_
        refine j_if_ge (pc := 87) M.1 99 dX9_factor_87 rfl (fun b6 => ?_) (fun b6 => ?_)
        · replace hf := o_pos b6 hf
          refine j_sub [1, 0] (show lv_pick _ _ = [(0, .ref x0), (1, .int r1.1)] from rfl) ?_
          exact kx9_factor_99 M hd Wsum hWsum x0 r1.1 r2.2.1 hf hkn
        · replace hf := o_neg b6 hf
          refine j_sub [1, 0] (show lv_pick _ _ = [(0, .ref x0), (1, .int r1.1)] from rfl) ?_
          exact kx9_factor_90 M hd Wsum hWsum x0 r1.1 r2.2.1 hf hkn
    · replace hf := o_neg b4 hf
      obtain ⟨τ1, e1, hf⟩ := o_nx hf
      obtain ⟨c3, s3, hf, hc3, hs3⟩ := o_tk hf
      replace hkn := kn_step hkn hc3 hs3
      refine jx_new (pc := 63) M xnew_X9_70 dX9_factor_63 (kn_le hkn) e1 ?_
      refine j_dup (pc := 66) M.1 dX9_factor_66 rfl ?_
      refine j_aload_n (pc := 67) M.1 dX9_factor_67 1 rfl ?_
      refine j_ldc (pc := 68) M.1 q815 dX9_factor_68 ?_
      obtain ⟨b7, hf⟩ := o_need hf
      obtain ⟨r3, g3, hf⟩ := o_bind hf
      obtain ⟨c4, s4, hf, hc4, hs4⟩ := o_tk hf
      replace hkn := kn_step hkn hc4 hs4
      refine jx_i M (x_runW (pc := 70) (As := [.int 99999]) (rest := [.ref r2.2.1.2.2.2.2, .ref r2.2.1.2.2.2.2]) M xcw_X9_73 (met_x9_number g3) b7 (by omega) rfl rfl rfl dX9_factor_70 (kn_le hkn)) ?_
      obtain ⟨r4, g4, hf⟩ := o_bind hf
      obtain ⟨c5, s5, hf, hc5, hs5⟩ := o_tk hf
      replace hkn := kn_step hkn hc5 hs5
      refine jx_v (r := r4.1) M (x_runI (pc := 73) (As := [.int r3.1]) (rest := [.ref r2.2.1.2.2.2.2]) M xci_X9_77 (met_x16_init g4) (by omega) rfl rfl rfl dX9_factor_73 (kn_le hkn)) ?_
      exact jx_aretF (pc := 76) (w := some r2.2.1.2.2.2.2) M dX9_factor_76 hf hkn
  · replace hf := o_pos b2 hf
    refine j_aload_n (pc := 11) M.1 dX9_factor_11 1 rfl ?_
    obtain ⟨b8, hf⟩ := o_need hf
    obtain ⟨r5, g5, hf⟩ := o_bind hf
    obtain ⟨c6, s6, hf, hc6, hs6⟩ := o_tk hf
    replace hkn := kn_step hkn hc6 hs6
    refine jx_v (r := r5.1) M (x_runW (pc := 12) (As := []) (rest := []) M xcw_X9_59 (met_x9_opens g5) b8 (by omega) rfl rfl rfl dX9_factor_12 (kn_le hkn)) ?_
    refine j_aload_n (pc := 15) M.1 dX9_factor_15 1 rfl ?_
    obtain ⟨b9, hf⟩ := o_need hf
    obtain ⟨r6, g6, hf⟩ := o_bind hf
    obtain ⟨c7, s7, hf, hc7, hs7⟩ := o_tk hf
    replace hkn := kn_step hkn hc7 hs7
    refine jx_i M (x_runW (pc := 16) (As := []) (rest := []) M xcw_X9_53 (met_x9_isGood g6) b9 (by omega) rfl rfl rfl dX9_factor_16 (kn_le hkn)) ?_
    refine j_if_eq (pc := 19) M.1 29 dX9_factor_19 rfl (fun b10 => ?_) (fun b10 => ?_)
    · replace hf := o_pos b10 hf
      refine j_null (pc := 29) M.1 dX9_factor_29 ?_
      refine j_sub [1] (show lv_pick _ _ = [(0, .ref x0)] from rfl) ?_
      exact kx9_factor_30 M hd Wsum hWsum x0 none r6.2.1 hf hkn
    · replace hf := o_neg b10 hf
      refine j_aload_n (pc := 22) M.1 dX9_factor_22 1 rfl ?_
      obtain ⟨b11, hf⟩ := o_need hf
      obtain ⟨r7, g7, hf⟩ := o_bind hf
      obtain ⟨c8, s8, hf, hc8, hs8⟩ := o_tk hf
      replace hkn := kn_step hkn hc8 hs8
      refine jx_q M (x_runW (pc := 23) (As := []) (rest := []) M xcw_X9_62 (hWsum _ _ _ g7) b11 (Nat.lt_succ_self _) rfl rfl rfl dX9_factor_23 (kn_le hkn)) ?_
      refine j_goto (pc := 26) M.1 30 dX9_factor_26 rfl ?_
      refine j_sub [1] (show lv_pick _ _ = [(0, .ref x0)] from rfl) ?_
      exact kx9_factor_30 M hd Wsum hWsum x0 r7.1 r7.2.1 hf hkn
end
theorem dX15_init_0 : decode cX15_init 0 = .ok (.aload_n 0, 1) := by decide +kernel
theorem dX15_init_1 : decode cX15_init 1 = .ok (.invokespecial 1, 3) := by decide +kernel
theorem dX15_init_4 : decode cX15_init 4 = .ok (.aload_n 0, 1) := by decide +kernel
theorem dX15_init_5 : decode cX15_init 5 = .ok (.iload_n 1, 1) := by decide +kernel
theorem dX15_init_6 : decode cX15_init 6 = .ok (.putfield 7, 3) := by decide +kernel
theorem dX15_init_9 : decode cX15_init 9 = .ok (.aload_n 0, 1) := by decide +kernel
theorem dX15_init_10 : decode cX15_init 10 = .ok (.aload_n 2, 1) := by decide +kernel
theorem dX15_init_11 : decode cX15_init 11 = .ok (.putfield 13, 3) := by decide +kernel
theorem dX15_init_14 : decode cX15_init 14 = .ok (.return_, 1) := by decide +kernel
section
variable {v : Int32}
noncomputable def x15_init (F : Nat) (x0 : Nat) (x1 : Int32) (x2 : Option Nat) (τ : XS) : XR Int32 :=
  (x14_init F x0 τ).bind (fun r1 => tk r1.2.2.1 r1.2.2.2 ((pF r1.2.1 x0 [15] 0 (.int x1)).bind (fun τ1 => (pF τ1 x0 [15] 1 (va_rf x2)).bind (fun τ2 => some (0, τ2, 0, 0)))))
theorem met_x15_init {l : Launch} {G : gG} {o B F : Nat} {x0 : Nat} {x1 : Int32} {x2 : Option Nat} {τ : XS} {r : Int32 × XS × Nat × Nat} (hf : x15_init F x0 x1 x2 τ = some r) : MetX l G o B yX15_init cX15_init 3 none 3 [.ref x0, .int x1, va_rf x2] τ (xQv G o B r.1 r.2.1) r.2.2.1 r.2.2.2 := by
  obtain ⟨v, τr, c, s⟩ := r
  refine metX_of (own := RX15) (mn := "<init>") (by decide) rfl rfl (by cases x2 <;> rfl) (fun γ hγ M => ?_)
  subst hγ
  rw [show lv_args 0 [.ref x0, .int x1, va_rf x2] = [(0, .ref x0), (1, .int x1), (2, va_rf x2)] by cases x2 <;> rfl]
  have hkn : 0 + c ≤ c ∧ 0 + s ≤ s := ⟨by omega, by omega⟩
  unfold x15_init at hf
  refine j_aload_n (pc := 0) M.1 dX15_init_0 0 rfl ?_
  obtain ⟨r1, g1, hf⟩ := o_bind hf
  obtain ⟨c1, s1, hf, hc1, hs1⟩ := o_tk hf
  replace hkn := kn_step hkn hc1 hs1
  refine jx_v (r := r1.1) M (x_runJ (pc := 1) (As := []) (rest := []) M xci_X15_1 (met_x14_init g1) (by decide) rfl rfl rfl dX15_init_1 (kn_le hkn)) ?_
  refine j_aload_n (pc := 4) M.1 dX15_init_4 0 rfl ?_
  refine j_iload_n (pc := 5) M.1 dX15_init_5 1 rfl ?_
  obtain ⟨τ1, g2, hf⟩ := o_bind hf
  refine jx_putW (pc := 6) M q842 xfw_X15_7 rfl rfl g2 dX15_init_6 ?_
  refine j_aload_n (pc := 9) M.1 dX15_init_9 0 rfl ?_
  refine j_aloadq_n (pc := 10) M.1 dX15_init_10 2 rfl ?_
  obtain ⟨τ2, g3, hf⟩ := o_bind hf
  refine jx_putW (pc := 11) M q843 xfw_X15_13 (nar_rf _ _) (fit_rf _ _) g3 dX15_init_11 ?_
  exact jx_vretF (pc := 14) M dX15_init_14 hf hkn
end
theorem dX9_product_0 : decode cX9_product 0 = .ok (.new 89, 3) := by decide +kernel
theorem dX9_product_3 : decode cX9_product 3 = .ok (.dup, 1) := by decide +kernel
theorem dX9_product_4 : decode cX9_product 4 = .ok (.iconst 0, 1) := by decide +kernel
theorem dX9_product_5 : decode cX9_product 5 = .ok (.aload_n 0, 1) := by decide +kernel
theorem dX9_product_6 : decode cX9_product 6 = .ok (.invokevirtual 91, 3) := by decide +kernel
theorem dX9_product_9 : decode cX9_product 9 = .ok (.invokespecial 94, 3) := by decide +kernel
theorem dX9_product_12 : decode cX9_product 12 = .ok (.astore_n 1, 1) := by decide +kernel
theorem dX9_product_13 : decode cX9_product 13 = .ok (.aload_n 1, 1) := by decide +kernel
theorem dX9_product_14 : decode cX9_product 14 = .ok (.astore_n 2, 1) := by decide +kernel
theorem dX9_product_15 : decode cX9_product 15 = .ok (.aload_n 0, 1) := by decide +kernel
theorem dX9_product_16 : decode cX9_product 16 = .ok (.invokevirtual 53, 3) := by decide +kernel
theorem dX9_product_19 : decode cX9_product 19 = .ok (.ifCond .eq 69, 3) := by decide +kernel
theorem dX9_product_22 : decode cX9_product 22 = .ok (.aload_n 0, 1) := by decide +kernel
theorem dX9_product_23 : decode cX9_product 23 = .ok (.invokevirtual 41, 3) := by decide +kernel
theorem dX9_product_26 : decode cX9_product 26 = .ok (.bipush 42, 2) := by decide +kernel
theorem dX9_product_28 : decode cX9_product 28 = .ok (.if_icmp .eq 21, 3) := by decide +kernel
theorem dX9_product_31 : decode cX9_product 31 = .ok (.aload_n 0, 1) := by decide +kernel
theorem dX9_product_32 : decode cX9_product 32 = .ok (.invokevirtual 41, 3) := by decide +kernel
theorem dX9_product_35 : decode cX9_product 35 = .ok (.bipush 47, 2) := by decide +kernel
theorem dX9_product_37 : decode cX9_product 37 = .ok (.if_icmp .eq 12, 3) := by decide +kernel
theorem dX9_product_40 : decode cX9_product 40 = .ok (.aload_n 0, 1) := by decide +kernel
theorem dX9_product_41 : decode cX9_product 41 = .ok (.invokevirtual 41, 3) := by decide +kernel
theorem dX9_product_44 : decode cX9_product 44 = .ok (.bipush 37, 2) := by decide +kernel
theorem dX9_product_46 : decode cX9_product 46 = .ok (.if_icmp .ne 42, 3) := by decide +kernel
theorem dX9_product_49 : decode cX9_product 49 = .ok (.aload_n 0, 1) := by decide +kernel
theorem dX9_product_50 : decode cX9_product 50 = .ok (.invokevirtual 41, 3) := by decide +kernel
theorem dX9_product_53 : decode cX9_product 53 = .ok (.istore_n 3, 1) := by decide +kernel
theorem dX9_product_54 : decode cX9_product 54 = .ok (.aload_n 0, 1) := by decide +kernel
theorem dX9_product_55 : decode cX9_product 55 = .ok (.dup, 1) := by decide +kernel
theorem dX9_product_56 : decode cX9_product 56 = .ok (.getfield 32, 3) := by decide +kernel
theorem dX9_product_59 : decode cX9_product 59 = .ok (.iconst 1, 1) := by decide +kernel
theorem dX9_product_60 : decode cX9_product 60 = .ok (.iadd, 1) := by decide +kernel
theorem dX9_product_61 : decode cX9_product 61 = .ok (.putfield 32, 3) := by decide +kernel
theorem dX9_product_64 : decode cX9_product 64 = .ok (.aload_n 2, 1) := by decide +kernel
theorem dX9_product_65 : decode cX9_product 65 = .ok (.new 89, 3) := by decide +kernel
theorem dX9_product_68 : decode cX9_product 68 = .ok (.dup, 1) := by decide +kernel
theorem dX9_product_69 : decode cX9_product 69 = .ok (.iload_n 3, 1) := by decide +kernel
theorem dX9_product_70 : decode cX9_product 70 = .ok (.aload_n 0, 1) := by decide +kernel
theorem dX9_product_71 : decode cX9_product 71 = .ok (.invokevirtual 91, 3) := by decide +kernel
theorem dX9_product_74 : decode cX9_product 74 = .ok (.invokespecial 94, 3) := by decide +kernel
theorem dX9_product_77 : decode cX9_product 77 = .ok (.putfield 97, 3) := by decide +kernel
theorem dX9_product_80 : decode cX9_product 80 = .ok (.aload_n 2, 1) := by decide +kernel
theorem dX9_product_81 : decode cX9_product 81 = .ok (.getfield 97, 3) := by decide +kernel
theorem dX9_product_84 : decode cX9_product 84 = .ok (.astore_n 2, 1) := by decide +kernel
theorem dX9_product_85 : decode cX9_product 85 = .ok (.goto (-70), 3) := by decide +kernel
theorem dX9_product_88 : decode cX9_product 88 = .ok (.aload_n 1, 1) := by decide +kernel
theorem dX9_product_89 : decode cX9_product 89 = .ok (.areturn, 1) := by decide +kernel
section
variable {v : Option Nat}
variable {dd : Nat}
noncomputable def x9_product_49 (F : Nat) (Wfactor : Nat → XS → XR (Option Nat)) (R : Option Nat × XS → XR (Option Nat)) (x0 : Nat) (x1 : Nat) (x2 : Option Nat) (τ : XS) : XR (Option Nat) :=
  if isC τ x0 [9] = true then (x9_here F x0 τ).bind (fun r1 => tk r1.2.2.1 r1.2.2.2 ((gI r1.2.1 x0 [9] 6).bind (fun v1 => (pF r1.2.1 x0 [9] 6 (.int (v1 + 1))).bind (fun τ1 => nx (xN τ1 (.inr (15, fun q => defaultValue (tyX15 q)))) (fun τ2 => tk 1 3 (if isC τ2 x0 [9] = true then (Wfactor x0 τ2).bind (fun r2 => tk r2.2.2.1 r2.2.2.2 ((x15_init F τ1.2.2.2.2 r1.1 r2.1 r2.2.1).bind (fun r3 => tk r3.2.2.1 r3.2.2.2 ((x2).bind (fun a1 => (pF r3.2.1 a1 [15] 2 (.ref τ1.2.2.2.2)).bind (fun τ3 => (x2).bind (fun a2 => (gQ τ3 a2 [15] 2).bind (fun p1 => R (p1, τ3))))))))) else none)))))) else none
theorem kx9_product_49 (M : XC γ cX9_product 4 RX9 "product" G o B (dd + 1) (some (.object "AshCity$Sum")) (xQq G o B v τr) c0 s0) (hd : 3 ≤ dd) (Wfactor : Nat → XS → XR (Option Nat)) (hWfactor : MetW_factor (jl γ) G o B dd Wfactor) (x0 : Nat) (x1 : Nat) (x2 : Option Nat) (R : Option Nat × XS → XR (Option Nat)) (hR : ∀ a c s, R a = some (v, τr, c, s) → ∀ k n, k + c ≤ c0 ∧ n + s ≤ s0 → J γ (XW G o B a.2) k n 15 [(0, .ref x0), (1, .ref x1), (2, va_rf a.1)] []) (τ : XS) {c s k n : Nat} (hf : x9_product_49 F Wfactor R x0 x1 x2 τ = some (v, τr, c, s)) (hkn : k + c ≤ c0 ∧ n + s ≤ s0) : J γ (XW G o B τ) k n 49 [(0, .ref x0), (1, .ref x1), (2, va_rf x2)] [] := by
  unfold x9_product_49 at hf
  refine j_aload_n (pc := 49) M.1 dX9_product_49 0 rfl ?_
  obtain ⟨b1, hf⟩ := o_need hf
  obtain ⟨r1, g1, hf⟩ := o_bind hf
  obtain ⟨c1, s1, hf, hc1, hs1⟩ := o_tk hf
  replace hkn := kn_step hkn hc1 hs1
  refine jx_i M (x_runW (pc := 50) (As := []) (rest := []) M xcw_X9_41 (met_x9_here g1) b1 (by omega) rfl rfl rfl dX9_product_50 (kn_le hkn)) ?_
  refine j_istore_n (pc := 53) M.1 [(3, .int r1.1), (0, .ref x0), (1, .ref x1), (2, va_rf x2)] dX9_product_53 rfl (by cases x2 <;> rfl) ?_
  refine j_aload_n (pc := 54) M.1 dX9_product_54 1 rfl ?_
  refine j_dup (pc := 55) M.1 dX9_product_55 rfl ?_
  obtain ⟨v1, g2, hf⟩ := o_bind hf
  refine jx_getI (pc := 56) M xfl_X9_32 g2 dX9_product_56 ?_
  refine j_iconst (pc := 59) M.1 dX9_product_59 kc_iconst_1 ?_
  refine j_iadd (pc := 60) M.1 dX9_product_60 ?_
  obtain ⟨τ1, g3, hf⟩ := o_bind hf
  refine jx_putV (pc := 61) M xfl_X9_32 rfl rfl g3 dX9_product_61 ?_
  refine j_aloadq_n (pc := 64) M.1 dX9_product_64 3 rfl ?_
  obtain ⟨τ2, e1, hf⟩ := o_nx hf
  obtain ⟨c2, s2, hf, hc2, hs2⟩ := o_tk hf
  replace hkn := kn_step hkn hc2 hs2
  refine jx_new (pc := 65) M xnew_X9_89 dX9_product_65 (kn_le hkn) e1 ?_
  refine j_dup (pc := 68) M.1 dX9_product_68 rfl ?_
  refine j_iload_n (pc := 69) M.1 dX9_product_69 0 rfl ?_
  refine j_aload_n (pc := 70) M.1 dX9_product_70 1 rfl ?_
  obtain ⟨b2, hf⟩ := o_need hf
  obtain ⟨r2, g4, hf⟩ := o_bind hf
  obtain ⟨c3, s3, hf, hc3, hs3⟩ := o_tk hf
  replace hkn := kn_step hkn hc3 hs3
  refine jx_q M (x_runW (pc := 71) (As := []) (rest := [.int r1.1, .ref τ1.2.2.2.2, .ref τ1.2.2.2.2, va_rf x2]) M xcw_X9_91 (hWfactor _ _ _ g4) b2 (Nat.lt_succ_self _) rfl rfl (by cases x2 <;> rfl) dX9_product_71 (kn_le hkn)) ?_
  obtain ⟨r3, g5, hf⟩ := o_bind hf
  obtain ⟨c4, s4, hf, hc4, hs4⟩ := o_tk hf
  replace hkn := kn_step hkn hc4 hs4
  refine jx_v (r := r3.1) M (x_runI (pc := 74) (As := [.int r1.1, va_rf r2.1]) (rest := [.ref τ1.2.2.2.2, va_rf x2]) M xci_X9_94 (met_x15_init g5) (by omega) rfl rfl (by cases x2 <;> rfl) dX9_product_74 (kn_le hkn)) ?_
  obtain ⟨a1, hq1, hf⟩ := o_bind hf
  refine j_st (show _ = [.ref τ1.2.2.2.2, .ref a1] by simp only [hq1, va_rf]) ?_
  obtain ⟨τ3, g6, hf⟩ := o_bind hf
  refine jx_putV (pc := 77) M xfl_X9_97 rfl rfl g6 dX9_product_77 ?_
  refine j_aloadq_n (pc := 80) M.1 dX9_product_80 3 rfl ?_
  obtain ⟨a2, hq2, hf⟩ := o_bind hf
  refine j_st (show _ = [.ref a2] by simp only [hq2, va_rf]) ?_
  obtain ⟨p1, g7, hf⟩ := o_bind hf
  refine jx_getQ (pc := 81) M xfl_X9_97 g7 dX9_product_81 ?_
  refine j_astoreq_n (pc := 84) M.1 [(2, va_rf p1), (3, .int r1.1), (0, .ref x0), (1, .ref x1)] dX9_product_84 rfl rfl ?_
  refine j_goto (pc := 85) M.1 15 dX9_product_85 rfl ?_
  refine j_sub [2, 3, 0] (show lv_pick _ _ = [(0, .ref x0), (1, .ref x1), (2, va_rf p1)] from rfl) ?_
  have hy := hR _ _ _ hf _ _ hkn
  exact hy
noncomputable def x9_product_B15 (F : Nat) (Wfactor : Nat → XS → XR (Option Nat)) (x0 : Nat) (x1 : Nat) (R : Option Nat × XS → XR (Option Nat)) (a : Option Nat × XS) : XR (Option Nat) :=
  if isC a.2 x0 [9] = true then (x9_isGood F x0 a.2).bind (fun r1 => tk r1.2.2.1 r1.2.2.2 (if r1.1 = 0 then (some (some x1, r1.2.1, 0, 0)) else (if isC r1.2.1 x0 [9] = true then (x9_here F x0 r1.2.1).bind (fun r2 => tk r2.2.2.1 r2.2.2.2 (if r2.1 = 42 then (x9_product_49 F Wfactor R x0 x1 a.1 r2.2.1) else (if isC r2.2.1 x0 [9] = true then (x9_here F x0 r2.2.1).bind (fun r3 => tk r3.2.2.1 r3.2.2.2 (if r3.1 = 47 then (x9_product_49 F Wfactor R x0 x1 a.1 r3.2.1) else (if isC r3.2.1 x0 [9] = true then (x9_here F x0 r3.2.1).bind (fun r4 => tk r4.2.2.1 r4.2.2.2 (if r4.1 = 37 then (x9_product_49 F Wfactor R x0 x1 a.1 r4.2.1) else (some (some x1, r4.2.1, 0, 0)))) else none))) else none))) else none))) else none
theorem kx9_product_B15 (M : XC γ cX9_product 4 RX9 "product" G o B (dd + 1) (some (.object "AshCity$Sum")) (xQq G o B v τr) c0 s0) (hd : 3 ≤ dd) (Wfactor : Nat → XS → XR (Option Nat)) (hWfactor : MetW_factor (jl γ) G o B dd Wfactor) (x0 : Nat) (x1 : Nat) : ∀ R : Option Nat × XS → XR (Option Nat), (∀ a c s, R a = some (v, τr, c, s) → ∀ k n, k + c ≤ c0 ∧ n + s ≤ s0 → J γ (XW G o B a.2) k n 15 [(0, .ref x0), (1, .ref x1), (2, va_rf a.1)] []) → ∀ a c s, x9_product_B15 F Wfactor x0 x1 R a = some (v, τr, c, s) → ∀ k n, k + c ≤ c0 ∧ n + s ≤ s0 → J γ (XW G o B a.2) k n 15 [(0, .ref x0), (1, .ref x1), (2, va_rf a.1)] [] := by
  intro R hR a c s hf k n hkn
  unfold x9_product_B15 at hf
  refine j_aload_n (pc := 15) M.1 dX9_product_15 0 rfl ?_
  obtain ⟨b1, hf⟩ := o_need hf
  obtain ⟨r1, g1, hf⟩ := o_bind hf
  obtain ⟨c1, s1, hf, hc1, hs1⟩ := o_tk hf
  replace hkn := kn_step hkn hc1 hs1
  refine jx_i M (x_runW (pc := 16) (As := []) (rest := []) M xcw_X9_53 (met_x9_isGood g1) b1 (by omega) rfl rfl rfl dX9_product_16 (kn_le hkn)) ?_
  refine j_if_eq (pc := 19) M.1 88 dX9_product_19 rfl (fun b2 => ?_) (fun b2 => ?_)
  · replace hf := o_pos b2 hf
    refine j_aload_n (pc := 88) M.1 dX9_product_88 1 rfl ?_
    exact jx_aretF (pc := 89) (w := some x1) M dX9_product_89 hf hkn
  · replace hf := o_neg b2 hf
    refine j_aload_n (pc := 22) M.1 dX9_product_22 0 rfl ?_
    obtain ⟨b3, hf⟩ := o_need hf
    obtain ⟨r2, g2, hf⟩ := o_bind hf
    obtain ⟨c2, s2, hf, hc2, hs2⟩ := o_tk hf
    replace hkn := kn_step hkn hc2 hs2
    refine jx_i M (x_runW (pc := 23) (As := []) (rest := []) M xcw_X9_41 (met_x9_here g2) b3 (by omega) rfl rfl rfl dX9_product_23 (kn_le hkn)) ?_
    refine j_bipush (pc := 26) M.1 dX9_product_26 kc_bipush_42 ?_
    refine j_icmp_eq (pc := 28) M.1 49 dX9_product_28 rfl (fun b4 => ?_) (fun b4 => ?_)
    · replace hf := o_pos b4 hf
      exact kx9_product_49 M hd Wfactor hWfactor x0 x1 a.1 R hR r2.2.1 hf hkn
    · replace hf := o_neg b4 hf
      refine j_aload_n (pc := 31) M.1 dX9_product_31 0 rfl ?_
      obtain ⟨b5, hf⟩ := o_need hf
      obtain ⟨r3, g3, hf⟩ := o_bind hf
      obtain ⟨c3, s3, hf, hc3, hs3⟩ := o_tk hf
      replace hkn := kn_step hkn hc3 hs3
      refine jx_i M (x_runW (pc := 32) (As := []) (rest := []) M xcw_X9_41 (met_x9_here g3) b5 (by omega) rfl rfl rfl dX9_product_32 (kn_le hkn)) ?_
      refine j_bipush (pc := 35) M.1 dX9_product_35 kc_bipush_47 ?_
      refine j_icmp_eq (pc := 37) M.1 49 dX9_product_37 rfl (fun b6 => ?_) (fun b6 => ?_)
      · replace hf := o_pos b6 hf
        exact kx9_product_49 M hd Wfactor hWfactor x0 x1 a.1 R hR r3.2.1 hf hkn
      · replace hf := o_neg b6 hf
        refine j_aload_n (pc := 40) M.1 dX9_product_40 0 rfl ?_
        obtain ⟨b7, hf⟩ := o_need hf
        obtain ⟨r4, g4, hf⟩ := o_bind hf
        obtain ⟨c4, s4, hf, hc4, hs4⟩ := o_tk hf
        replace hkn := kn_step hkn hc4 hs4
        refine jx_i M (x_runW (pc := 41) (As := []) (rest := []) M xcw_X9_41 (met_x9_here g4) b7 (by omega) rfl rfl rfl dX9_product_41 (kn_le hkn)) ?_
        refine j_bipush (pc := 44) M.1 dX9_product_44 kc_bipush_37 ?_
        refine j_icmp_ne (pc := 46) M.1 88 dX9_product_46 rfl (fun b8 => ?_) (fun b8 => ?_)
        · replace hf := o_neg b8 hf
          refine j_aload_n (pc := 88) M.1 dX9_product_88 1 rfl ?_
          exact jx_aretF (pc := 89) (w := some x1) M dX9_product_89 hf hkn
        · replace hf := o_pos b8 hf
          exact kx9_product_49 M hd Wfactor hWfactor x0 x1 a.1 R hR r4.2.1 hf hkn
noncomputable def x9_product (F : Nat) (Wfactor : Nat → XS → XR (Option Nat)) (x0 : Nat) (τ : XS) : XR (Option Nat) :=
  nx (xN τ (.inr (15, fun q => defaultValue (tyX15 q)))) (fun τ1 => tk 1 3 (if isC τ1 x0 [9] = true then (Wfactor x0 τ1).bind (fun r1 => tk r1.2.2.1 r1.2.2.2 ((x15_init F τ.2.2.2.2 0 r1.1 r1.2.1).bind (fun r2 => tk r2.2.2.1 r2.2.2.2 (lp (x9_product_B15 F Wfactor x0 τ.2.2.2.2) F (some τ.2.2.2.2, r2.2.1))))) else none))
theorem met_x9_product {l : Launch} {G : gG} {o B F : Nat} {dd : Nat} (hd : 3 ≤ dd) {Wfactor : Nat → XS → XR (Option Nat)} (hWfactor : MetW_factor l G o B dd Wfactor) {x0 : Nat} {τ : XS} {r : Option Nat × XS × Nat × Nat} (hf : x9_product F Wfactor x0 τ = some r) : MetX l G o B yX9_product cX9_product 4 (some (.object "AshCity$Sum")) (dd + 1) [.ref x0] τ (xQq G o B r.1 r.2.1) r.2.2.1 r.2.2.2 := by
  obtain ⟨v, τr, c, s⟩ := r
  refine metX_of (own := RX9) (mn := "product") (by decide) rfl rfl rfl (fun γ hγ M => ?_)
  subst hγ
  show J γ (XW G o B τ) 0 0 0 [(0, .ref x0)] []
  have hkn : 0 + c ≤ c ∧ 0 + s ≤ s := ⟨by omega, by omega⟩
  unfold x9_product at hf
  obtain ⟨τ1, e1, hf⟩ := o_nx hf
  obtain ⟨c1, s1, hf, hc1, hs1⟩ := o_tk hf
  replace hkn := kn_step hkn hc1 hs1
  refine jx_new (pc := 0) M xnew_X9_89 dX9_product_0 (kn_le hkn) e1 ?_
  refine j_dup (pc := 3) M.1 dX9_product_3 rfl ?_
  refine j_iconst (pc := 4) M.1 dX9_product_4 kc_iconst_0 ?_
  refine j_aload_n (pc := 5) M.1 dX9_product_5 0 rfl ?_
  obtain ⟨b1, hf⟩ := o_need hf
  obtain ⟨r1, g1, hf⟩ := o_bind hf
  obtain ⟨c2, s2, hf, hc2, hs2⟩ := o_tk hf
  replace hkn := kn_step hkn hc2 hs2
  refine jx_q M (x_runW (pc := 6) (As := []) (rest := [.int 0, .ref τ.2.2.2.2, .ref τ.2.2.2.2]) M xcw_X9_91 (hWfactor _ _ _ g1) b1 (Nat.lt_succ_self _) rfl rfl rfl dX9_product_6 (kn_le hkn)) ?_
  obtain ⟨r2, g2, hf⟩ := o_bind hf
  obtain ⟨c3, s3, hf, hc3, hs3⟩ := o_tk hf
  replace hkn := kn_step hkn hc3 hs3
  refine jx_v (r := r2.1) M (x_runI (pc := 9) (As := [.int 0, va_rf r1.1]) (rest := [.ref τ.2.2.2.2]) M xci_X9_94 (met_x15_init g2) (by omega) rfl rfl rfl dX9_product_9 (kn_le hkn)) ?_
  refine j_astore_n (pc := 12) M.1 [(1, .ref τ.2.2.2.2), (0, .ref x0)] dX9_product_12 rfl rfl ?_
  refine j_aload_n (pc := 13) M.1 dX9_product_13 0 rfl ?_
  refine j_astore_n (pc := 14) M.1 [(2, .ref τ.2.2.2.2), (1, .ref τ.2.2.2.2), (0, .ref x0)] dX9_product_14 rfl rfl ?_
  refine j_sub [2, 1, 0] (show lv_pick _ _ = [(0, .ref x0), (1, .ref τ.2.2.2.2), (2, va_rf (some τ.2.2.2.2))] from rfl) ?_
  refine lp_Wc (kx9_product_B15 M hd Wfactor hWfactor x0 τ.2.2.2.2) F (some τ.2.2.2.2, r2.2.1) _ _ hf _ _ hkn
end
theorem dX9_sum_0 : decode cX9_sum 0 = .ok (.new 89, 3) := by decide +kernel
theorem dX9_sum_3 : decode cX9_sum 3 = .ok (.dup, 1) := by decide +kernel
theorem dX9_sum_4 : decode cX9_sum 4 = .ok (.iconst 0, 1) := by decide +kernel
theorem dX9_sum_5 : decode cX9_sum 5 = .ok (.aload_n 0, 1) := by decide +kernel
theorem dX9_sum_6 : decode cX9_sum 6 = .ok (.invokevirtual 101, 3) := by decide +kernel
theorem dX9_sum_9 : decode cX9_sum 9 = .ok (.invokespecial 94, 3) := by decide +kernel
theorem dX9_sum_12 : decode cX9_sum 12 = .ok (.astore_n 1, 1) := by decide +kernel
theorem dX9_sum_13 : decode cX9_sum 13 = .ok (.aload_n 1, 1) := by decide +kernel
theorem dX9_sum_14 : decode cX9_sum 14 = .ok (.astore_n 2, 1) := by decide +kernel
theorem dX9_sum_15 : decode cX9_sum 15 = .ok (.aload_n 0, 1) := by decide +kernel
theorem dX9_sum_16 : decode cX9_sum 16 = .ok (.invokevirtual 53, 3) := by decide +kernel
theorem dX9_sum_19 : decode cX9_sum 19 = .ok (.ifCond .eq 60, 3) := by decide +kernel
theorem dX9_sum_22 : decode cX9_sum 22 = .ok (.aload_n 0, 1) := by decide +kernel
theorem dX9_sum_23 : decode cX9_sum 23 = .ok (.invokevirtual 41, 3) := by decide +kernel
theorem dX9_sum_26 : decode cX9_sum 26 = .ok (.bipush 43, 2) := by decide +kernel
theorem dX9_sum_28 : decode cX9_sum 28 = .ok (.if_icmp .eq 12, 3) := by decide +kernel
theorem dX9_sum_31 : decode cX9_sum 31 = .ok (.aload_n 0, 1) := by decide +kernel
theorem dX9_sum_32 : decode cX9_sum 32 = .ok (.invokevirtual 41, 3) := by decide +kernel
theorem dX9_sum_35 : decode cX9_sum 35 = .ok (.bipush 45, 2) := by decide +kernel
theorem dX9_sum_37 : decode cX9_sum 37 = .ok (.if_icmp .ne 42, 3) := by decide +kernel
theorem dX9_sum_40 : decode cX9_sum 40 = .ok (.aload_n 0, 1) := by decide +kernel
theorem dX9_sum_41 : decode cX9_sum 41 = .ok (.invokevirtual 41, 3) := by decide +kernel
theorem dX9_sum_44 : decode cX9_sum 44 = .ok (.istore_n 3, 1) := by decide +kernel
theorem dX9_sum_45 : decode cX9_sum 45 = .ok (.aload_n 0, 1) := by decide +kernel
theorem dX9_sum_46 : decode cX9_sum 46 = .ok (.dup, 1) := by decide +kernel
theorem dX9_sum_47 : decode cX9_sum 47 = .ok (.getfield 32, 3) := by decide +kernel
theorem dX9_sum_50 : decode cX9_sum 50 = .ok (.iconst 1, 1) := by decide +kernel
theorem dX9_sum_51 : decode cX9_sum 51 = .ok (.iadd, 1) := by decide +kernel
theorem dX9_sum_52 : decode cX9_sum 52 = .ok (.putfield 32, 3) := by decide +kernel
theorem dX9_sum_55 : decode cX9_sum 55 = .ok (.aload_n 2, 1) := by decide +kernel
theorem dX9_sum_56 : decode cX9_sum 56 = .ok (.new 89, 3) := by decide +kernel
theorem dX9_sum_59 : decode cX9_sum 59 = .ok (.dup, 1) := by decide +kernel
theorem dX9_sum_60 : decode cX9_sum 60 = .ok (.iload_n 3, 1) := by decide +kernel
theorem dX9_sum_61 : decode cX9_sum 61 = .ok (.aload_n 0, 1) := by decide +kernel
theorem dX9_sum_62 : decode cX9_sum 62 = .ok (.invokevirtual 101, 3) := by decide +kernel
theorem dX9_sum_65 : decode cX9_sum 65 = .ok (.invokespecial 94, 3) := by decide +kernel
theorem dX9_sum_68 : decode cX9_sum 68 = .ok (.putfield 97, 3) := by decide +kernel
theorem dX9_sum_71 : decode cX9_sum 71 = .ok (.aload_n 2, 1) := by decide +kernel
theorem dX9_sum_72 : decode cX9_sum 72 = .ok (.getfield 97, 3) := by decide +kernel
theorem dX9_sum_75 : decode cX9_sum 75 = .ok (.astore_n 2, 1) := by decide +kernel
theorem dX9_sum_76 : decode cX9_sum 76 = .ok (.goto (-61), 3) := by decide +kernel
theorem dX9_sum_79 : decode cX9_sum 79 = .ok (.aload_n 1, 1) := by decide +kernel
theorem dX9_sum_80 : decode cX9_sum 80 = .ok (.areturn, 1) := by decide +kernel
section
variable {v : Option Nat}
variable {dd : Nat}
noncomputable def x9_sum_40 (F : Nat) (Wproduct : Nat → XS → XR (Option Nat)) (R : Option Nat × XS → XR (Option Nat)) (x0 : Nat) (x1 : Nat) (x2 : Option Nat) (τ : XS) : XR (Option Nat) :=
  if isC τ x0 [9] = true then (x9_here F x0 τ).bind (fun r1 => tk r1.2.2.1 r1.2.2.2 ((gI r1.2.1 x0 [9] 6).bind (fun v1 => (pF r1.2.1 x0 [9] 6 (.int (v1 + 1))).bind (fun τ1 => nx (xN τ1 (.inr (15, fun q => defaultValue (tyX15 q)))) (fun τ2 => tk 1 3 (if isC τ2 x0 [9] = true then (Wproduct x0 τ2).bind (fun r2 => tk r2.2.2.1 r2.2.2.2 ((x15_init F τ1.2.2.2.2 r1.1 r2.1 r2.2.1).bind (fun r3 => tk r3.2.2.1 r3.2.2.2 ((x2).bind (fun a1 => (pF r3.2.1 a1 [15] 2 (.ref τ1.2.2.2.2)).bind (fun τ3 => (x2).bind (fun a2 => (gQ τ3 a2 [15] 2).bind (fun p1 => R (p1, τ3))))))))) else none)))))) else none
theorem kx9_sum_40 (M : XC γ cX9_sum 4 RX9 "sum" G o B (dd + 1) (some (.object "AshCity$Sum")) (xQq G o B v τr) c0 s0) (hd : 3 ≤ dd) (Wproduct : Nat → XS → XR (Option Nat)) (hWproduct : MetW_product (jl γ) G o B dd Wproduct) (x0 : Nat) (x1 : Nat) (x2 : Option Nat) (R : Option Nat × XS → XR (Option Nat)) (hR : ∀ a c s, R a = some (v, τr, c, s) → ∀ k n, k + c ≤ c0 ∧ n + s ≤ s0 → J γ (XW G o B a.2) k n 15 [(0, .ref x0), (1, .ref x1), (2, va_rf a.1)] []) (τ : XS) {c s k n : Nat} (hf : x9_sum_40 F Wproduct R x0 x1 x2 τ = some (v, τr, c, s)) (hkn : k + c ≤ c0 ∧ n + s ≤ s0) : J γ (XW G o B τ) k n 40 [(0, .ref x0), (1, .ref x1), (2, va_rf x2)] [] := by
  unfold x9_sum_40 at hf
  refine j_aload_n (pc := 40) M.1 dX9_sum_40 0 rfl ?_
  obtain ⟨b1, hf⟩ := o_need hf
  obtain ⟨r1, g1, hf⟩ := o_bind hf
  obtain ⟨c1, s1, hf, hc1, hs1⟩ := o_tk hf
  replace hkn := kn_step hkn hc1 hs1
  refine jx_i M (x_runW (pc := 41) (As := []) (rest := []) M xcw_X9_41 (met_x9_here g1) b1 (by omega) rfl rfl rfl dX9_sum_41 (kn_le hkn)) ?_
  refine j_istore_n (pc := 44) M.1 [(3, .int r1.1), (0, .ref x0), (1, .ref x1), (2, va_rf x2)] dX9_sum_44 rfl (by cases x2 <;> rfl) ?_
  refine j_aload_n (pc := 45) M.1 dX9_sum_45 1 rfl ?_
  refine j_dup (pc := 46) M.1 dX9_sum_46 rfl ?_
  obtain ⟨v1, g2, hf⟩ := o_bind hf
  refine jx_getI (pc := 47) M xfl_X9_32 g2 dX9_sum_47 ?_
  refine j_iconst (pc := 50) M.1 dX9_sum_50 kc_iconst_1 ?_
  refine j_iadd (pc := 51) M.1 dX9_sum_51 ?_
  obtain ⟨τ1, g3, hf⟩ := o_bind hf
  refine jx_putV (pc := 52) M xfl_X9_32 rfl rfl g3 dX9_sum_52 ?_
  refine j_aloadq_n (pc := 55) M.1 dX9_sum_55 3 rfl ?_
  obtain ⟨τ2, e1, hf⟩ := o_nx hf
  obtain ⟨c2, s2, hf, hc2, hs2⟩ := o_tk hf
  replace hkn := kn_step hkn hc2 hs2
  refine jx_new (pc := 56) M xnew_X9_89 dX9_sum_56 (kn_le hkn) e1 ?_
  refine j_dup (pc := 59) M.1 dX9_sum_59 rfl ?_
  refine j_iload_n (pc := 60) M.1 dX9_sum_60 0 rfl ?_
  refine j_aload_n (pc := 61) M.1 dX9_sum_61 1 rfl ?_
  obtain ⟨b2, hf⟩ := o_need hf
  obtain ⟨r2, g4, hf⟩ := o_bind hf
  obtain ⟨c3, s3, hf, hc3, hs3⟩ := o_tk hf
  replace hkn := kn_step hkn hc3 hs3
  refine jx_q M (x_runW (pc := 62) (As := []) (rest := [.int r1.1, .ref τ1.2.2.2.2, .ref τ1.2.2.2.2, va_rf x2]) M xcw_X9_101 (hWproduct _ _ _ g4) b2 (Nat.lt_succ_self _) rfl rfl (by cases x2 <;> rfl) dX9_sum_62 (kn_le hkn)) ?_
  obtain ⟨r3, g5, hf⟩ := o_bind hf
  obtain ⟨c4, s4, hf, hc4, hs4⟩ := o_tk hf
  replace hkn := kn_step hkn hc4 hs4
  refine jx_v (r := r3.1) M (x_runI (pc := 65) (As := [.int r1.1, va_rf r2.1]) (rest := [.ref τ1.2.2.2.2, va_rf x2]) M xci_X9_94 (met_x15_init g5) (by omega) rfl rfl (by cases x2 <;> rfl) dX9_sum_65 (kn_le hkn)) ?_
  obtain ⟨a1, hq1, hf⟩ := o_bind hf
  refine j_st (show _ = [.ref τ1.2.2.2.2, .ref a1] by simp only [hq1, va_rf]) ?_
  obtain ⟨τ3, g6, hf⟩ := o_bind hf
  refine jx_putV (pc := 68) M xfl_X9_97 rfl rfl g6 dX9_sum_68 ?_
  refine j_aloadq_n (pc := 71) M.1 dX9_sum_71 3 rfl ?_
  obtain ⟨a2, hq2, hf⟩ := o_bind hf
  refine j_st (show _ = [.ref a2] by simp only [hq2, va_rf]) ?_
  obtain ⟨p1, g7, hf⟩ := o_bind hf
  refine jx_getQ (pc := 72) M xfl_X9_97 g7 dX9_sum_72 ?_
  refine j_astoreq_n (pc := 75) M.1 [(2, va_rf p1), (3, .int r1.1), (0, .ref x0), (1, .ref x1)] dX9_sum_75 rfl rfl ?_
  refine j_goto (pc := 76) M.1 15 dX9_sum_76 rfl ?_
  refine j_sub [2, 3, 0] (show lv_pick _ _ = [(0, .ref x0), (1, .ref x1), (2, va_rf p1)] from rfl) ?_
  have hy := hR _ _ _ hf _ _ hkn
  exact hy
noncomputable def x9_sum_B15 (F : Nat) (Wproduct : Nat → XS → XR (Option Nat)) (x0 : Nat) (x1 : Nat) (R : Option Nat × XS → XR (Option Nat)) (a : Option Nat × XS) : XR (Option Nat) :=
  if isC a.2 x0 [9] = true then (x9_isGood F x0 a.2).bind (fun r1 => tk r1.2.2.1 r1.2.2.2 (if r1.1 = 0 then (some (some x1, r1.2.1, 0, 0)) else (if isC r1.2.1 x0 [9] = true then (x9_here F x0 r1.2.1).bind (fun r2 => tk r2.2.2.1 r2.2.2.2 (if r2.1 = 43 then (x9_sum_40 F Wproduct R x0 x1 a.1 r2.2.1) else (if isC r2.2.1 x0 [9] = true then (x9_here F x0 r2.2.1).bind (fun r3 => tk r3.2.2.1 r3.2.2.2 (if r3.1 = 45 then (x9_sum_40 F Wproduct R x0 x1 a.1 r3.2.1) else (some (some x1, r3.2.1, 0, 0)))) else none))) else none))) else none
theorem kx9_sum_B15 (M : XC γ cX9_sum 4 RX9 "sum" G o B (dd + 1) (some (.object "AshCity$Sum")) (xQq G o B v τr) c0 s0) (hd : 3 ≤ dd) (Wproduct : Nat → XS → XR (Option Nat)) (hWproduct : MetW_product (jl γ) G o B dd Wproduct) (x0 : Nat) (x1 : Nat) : ∀ R : Option Nat × XS → XR (Option Nat), (∀ a c s, R a = some (v, τr, c, s) → ∀ k n, k + c ≤ c0 ∧ n + s ≤ s0 → J γ (XW G o B a.2) k n 15 [(0, .ref x0), (1, .ref x1), (2, va_rf a.1)] []) → ∀ a c s, x9_sum_B15 F Wproduct x0 x1 R a = some (v, τr, c, s) → ∀ k n, k + c ≤ c0 ∧ n + s ≤ s0 → J γ (XW G o B a.2) k n 15 [(0, .ref x0), (1, .ref x1), (2, va_rf a.1)] [] := by
  intro R hR a c s hf k n hkn
  unfold x9_sum_B15 at hf
  refine j_aload_n (pc := 15) M.1 dX9_sum_15 0 rfl ?_
  obtain ⟨b1, hf⟩ := o_need hf
  obtain ⟨r1, g1, hf⟩ := o_bind hf
  obtain ⟨c1, s1, hf, hc1, hs1⟩ := o_tk hf
  replace hkn := kn_step hkn hc1 hs1
  refine jx_i M (x_runW (pc := 16) (As := []) (rest := []) M xcw_X9_53 (met_x9_isGood g1) b1 (by omega) rfl rfl rfl dX9_sum_16 (kn_le hkn)) ?_
  refine j_if_eq (pc := 19) M.1 79 dX9_sum_19 rfl (fun b2 => ?_) (fun b2 => ?_)
  · replace hf := o_pos b2 hf
    refine j_aload_n (pc := 79) M.1 dX9_sum_79 1 rfl ?_
    exact jx_aretF (pc := 80) (w := some x1) M dX9_sum_80 hf hkn
  · replace hf := o_neg b2 hf
    refine j_aload_n (pc := 22) M.1 dX9_sum_22 0 rfl ?_
    obtain ⟨b3, hf⟩ := o_need hf
    obtain ⟨r2, g2, hf⟩ := o_bind hf
    obtain ⟨c2, s2, hf, hc2, hs2⟩ := o_tk hf
    replace hkn := kn_step hkn hc2 hs2
    refine jx_i M (x_runW (pc := 23) (As := []) (rest := []) M xcw_X9_41 (met_x9_here g2) b3 (by omega) rfl rfl rfl dX9_sum_23 (kn_le hkn)) ?_
    refine j_bipush (pc := 26) M.1 dX9_sum_26 kc_bipush_43 ?_
    refine j_icmp_eq (pc := 28) M.1 40 dX9_sum_28 rfl (fun b4 => ?_) (fun b4 => ?_)
    · replace hf := o_pos b4 hf
      exact kx9_sum_40 M hd Wproduct hWproduct x0 x1 a.1 R hR r2.2.1 hf hkn
    · replace hf := o_neg b4 hf
      refine j_aload_n (pc := 31) M.1 dX9_sum_31 0 rfl ?_
      obtain ⟨b5, hf⟩ := o_need hf
      obtain ⟨r3, g3, hf⟩ := o_bind hf
      obtain ⟨c3, s3, hf, hc3, hs3⟩ := o_tk hf
      replace hkn := kn_step hkn hc3 hs3
      refine jx_i M (x_runW (pc := 32) (As := []) (rest := []) M xcw_X9_41 (met_x9_here g3) b5 (by omega) rfl rfl rfl dX9_sum_32 (kn_le hkn)) ?_
      refine j_bipush (pc := 35) M.1 dX9_sum_35 kc_bipush_45 ?_
      refine j_icmp_ne (pc := 37) M.1 79 dX9_sum_37 rfl (fun b6 => ?_) (fun b6 => ?_)
      · replace hf := o_neg b6 hf
        refine j_aload_n (pc := 79) M.1 dX9_sum_79 1 rfl ?_
        exact jx_aretF (pc := 80) (w := some x1) M dX9_sum_80 hf hkn
      · replace hf := o_pos b6 hf
        exact kx9_sum_40 M hd Wproduct hWproduct x0 x1 a.1 R hR r3.2.1 hf hkn
noncomputable def x9_sum (F : Nat) (Wproduct : Nat → XS → XR (Option Nat)) (x0 : Nat) (τ : XS) : XR (Option Nat) :=
  nx (xN τ (.inr (15, fun q => defaultValue (tyX15 q)))) (fun τ1 => tk 1 3 (if isC τ1 x0 [9] = true then (Wproduct x0 τ1).bind (fun r1 => tk r1.2.2.1 r1.2.2.2 ((x15_init F τ.2.2.2.2 0 r1.1 r1.2.1).bind (fun r2 => tk r2.2.2.1 r2.2.2.2 (lp (x9_sum_B15 F Wproduct x0 τ.2.2.2.2) F (some τ.2.2.2.2, r2.2.1))))) else none))
theorem met_x9_sum {l : Launch} {G : gG} {o B F : Nat} {dd : Nat} (hd : 3 ≤ dd) {Wproduct : Nat → XS → XR (Option Nat)} (hWproduct : MetW_product l G o B dd Wproduct) {x0 : Nat} {τ : XS} {r : Option Nat × XS × Nat × Nat} (hf : x9_sum F Wproduct x0 τ = some r) : MetX l G o B yX9_sum cX9_sum 4 (some (.object "AshCity$Sum")) (dd + 1) [.ref x0] τ (xQq G o B r.1 r.2.1) r.2.2.1 r.2.2.2 := by
  obtain ⟨v, τr, c, s⟩ := r
  refine metX_of (own := RX9) (mn := "sum") (by decide) rfl rfl rfl (fun γ hγ M => ?_)
  subst hγ
  show J γ (XW G o B τ) 0 0 0 [(0, .ref x0)] []
  have hkn : 0 + c ≤ c ∧ 0 + s ≤ s := ⟨by omega, by omega⟩
  unfold x9_sum at hf
  obtain ⟨τ1, e1, hf⟩ := o_nx hf
  obtain ⟨c1, s1, hf, hc1, hs1⟩ := o_tk hf
  replace hkn := kn_step hkn hc1 hs1
  refine jx_new (pc := 0) M xnew_X9_89 dX9_sum_0 (kn_le hkn) e1 ?_
  refine j_dup (pc := 3) M.1 dX9_sum_3 rfl ?_
  refine j_iconst (pc := 4) M.1 dX9_sum_4 kc_iconst_0 ?_
  refine j_aload_n (pc := 5) M.1 dX9_sum_5 0 rfl ?_
  obtain ⟨b1, hf⟩ := o_need hf
  obtain ⟨r1, g1, hf⟩ := o_bind hf
  obtain ⟨c2, s2, hf, hc2, hs2⟩ := o_tk hf
  replace hkn := kn_step hkn hc2 hs2
  refine jx_q M (x_runW (pc := 6) (As := []) (rest := [.int 0, .ref τ.2.2.2.2, .ref τ.2.2.2.2]) M xcw_X9_101 (hWproduct _ _ _ g1) b1 (Nat.lt_succ_self _) rfl rfl rfl dX9_sum_6 (kn_le hkn)) ?_
  obtain ⟨r2, g2, hf⟩ := o_bind hf
  obtain ⟨c3, s3, hf, hc3, hs3⟩ := o_tk hf
  replace hkn := kn_step hkn hc3 hs3
  refine jx_v (r := r2.1) M (x_runI (pc := 9) (As := [.int 0, va_rf r1.1]) (rest := [.ref τ.2.2.2.2]) M xci_X9_94 (met_x15_init g2) (by omega) rfl rfl rfl dX9_sum_9 (kn_le hkn)) ?_
  refine j_astore_n (pc := 12) M.1 [(1, .ref τ.2.2.2.2), (0, .ref x0)] dX9_sum_12 rfl rfl ?_
  refine j_aload_n (pc := 13) M.1 dX9_sum_13 0 rfl ?_
  refine j_astore_n (pc := 14) M.1 [(2, .ref τ.2.2.2.2), (1, .ref τ.2.2.2.2), (0, .ref x0)] dX9_sum_14 rfl rfl ?_
  refine j_sub [2, 1, 0] (show lv_pick _ _ = [(0, .ref x0), (1, .ref τ.2.2.2.2), (2, va_rf (some τ.2.2.2.2))] from rfl) ?_
  refine lp_Wc (kx9_sum_B15 M hd Wproduct hWproduct x0 τ.2.2.2.2) F (some τ.2.2.2.2, r2.2.1) _ _ hf _ _ hkn
end
noncomputable def xd_sum (F : Nat) : Nat → Nat → XS → XR (Option Nat) := fun D => Nat.rec (fun _ _ => none) (fun _ W => x9_sum F (x9_product F (x9_factor F W))) D
theorem metW_sum {l : Launch} {G : gG} {o B F : Nat} : ∀ D : Nat, MetW_sum l G o B (3 * D + 6) (xd_sum F D) := by
  intro D
  induction D with
  | zero => intro a τ r hf; cases hf
  | succ D ih =>
    intro a τ r hf
    have h1 : MetW_factor l G o B (3 * D + 7) (x9_factor F (xd_sum F D)) := fun a τ r hf => met_x9_factor (dd := 3 * D + 6) (by omega) ih hf
    have h2 : MetW_product l G o B (3 * D + 8) (x9_product F (x9_factor F (xd_sum F D))) := fun a τ r hf => met_x9_product (dd := 3 * D + 7) (by omega) h1 hf
    exact met_x9_sum (dd := 3 * D + 8) (by omega) h2 hf
theorem metd_sum {l : Launch} {G : gG} {o B F : Nat} {a : Nat} {τ : XS} {r : Option Nat × XS × Nat × Nat} (hf : xd_sum F 8 a τ = some r) : MetX l G o B yX9_sum cX9_sum 4 (some (.object "AshCity$Sum")) 30 [.ref a] τ (xQq G o B r.1 r.2.1) r.2.2.1 r.2.2.2 := metW_sum 8 a τ r hf
theorem dX9_piece_0 : decode cX9_piece 0 = .ok (.aload_n 0, 1) := by decide +kernel
theorem dX9_piece_1 : decode cX9_piece 1 = .ok (.invokevirtual 41, 3) := by decide +kernel
theorem dX9_piece_4 : decode cX9_piece 4 = .ok (.istore_n 1, 1) := by decide +kernel
theorem dX9_piece_5 : decode cX9_piece 5 = .ok (.iload_n 1, 1) := by decide +kernel
theorem dX9_piece_6 : decode cX9_piece 6 = .ok (.bipush 33, 2) := by decide +kernel
theorem dX9_piece_8 : decode cX9_piece 8 = .ok (.if_icmp .ne 42, 3) := by decide +kernel
theorem dX9_piece_11 : decode cX9_piece 11 = .ok (.aload_n 0, 1) := by decide +kernel
theorem dX9_piece_12 : decode cX9_piece 12 = .ok (.invokevirtual 59, 3) := by decide +kernel
theorem dX9_piece_15 : decode cX9_piece 15 = .ok (.aload_n 0, 1) := by decide +kernel
theorem dX9_piece_16 : decode cX9_piece 16 = .ok (.invokevirtual 53, 3) := by decide +kernel
theorem dX9_piece_19 : decode cX9_piece 19 = .ok (.ifCond .eq 10, 3) := by decide +kernel
theorem dX9_piece_22 : decode cX9_piece 22 = .ok (.aload_n 0, 1) := by decide +kernel
theorem dX9_piece_23 : decode cX9_piece 23 = .ok (.invokevirtual 104, 3) := by decide +kernel
theorem dX9_piece_26 : decode cX9_piece 26 = .ok (.goto 4, 3) := by decide +kernel
theorem dX9_piece_29 : decode cX9_piece 29 = .ok (.aconst_null, 1) := by decide +kernel
theorem dX9_piece_30 : decode cX9_piece 30 = .ok (.astore_n 2, 1) := by decide +kernel
theorem dX9_piece_31 : decode cX9_piece 31 = .ok (.aload_n 0, 1) := by decide +kernel
theorem dX9_piece_32 : decode cX9_piece 32 = .ok (.dup, 1) := by decide +kernel
theorem dX9_piece_33 : decode cX9_piece 33 = .ok (.getfield 56, 3) := by decide +kernel
theorem dX9_piece_36 : decode cX9_piece 36 = .ok (.iconst 1, 1) := by decide +kernel
theorem dX9_piece_37 : decode cX9_piece 37 = .ok (.isub, 1) := by decide +kernel
theorem dX9_piece_38 : decode cX9_piece 38 = .ok (.putfield 56, 3) := by decide +kernel
theorem dX9_piece_41 : decode cX9_piece 41 = .ok (.new 108, 3) := by decide +kernel
theorem dX9_piece_44 : decode cX9_piece 44 = .ok (.dup, 1) := by decide +kernel
theorem dX9_piece_45 : decode cX9_piece 45 = .ok (.aload_n 2, 1) := by decide +kernel
theorem dX9_piece_46 : decode cX9_piece 46 = .ok (.invokespecial 110, 3) := by decide +kernel
theorem dX9_piece_49 : decode cX9_piece 49 = .ok (.areturn, 1) := by decide +kernel
theorem dX9_piece_50 : decode cX9_piece 50 = .ok (.iload_n 1, 1) := by decide +kernel
theorem dX9_piece_51 : decode cX9_piece 51 = .ok (.bipush 40, 2) := by decide +kernel
theorem dX9_piece_53 : decode cX9_piece 53 = .ok (.if_icmp .ne 8, 3) := by decide +kernel
theorem dX9_piece_56 : decode cX9_piece 56 = .ok (.aload_n 0, 1) := by decide +kernel
theorem dX9_piece_57 : decode cX9_piece 57 = .ok (.invokevirtual 113, 3) := by decide +kernel
theorem dX9_piece_60 : decode cX9_piece 60 = .ok (.areturn, 1) := by decide +kernel
theorem dX9_piece_61 : decode cX9_piece 61 = .ok (.aload_n 0, 1) := by decide +kernel
theorem dX9_piece_62 : decode cX9_piece 62 = .ok (.invokevirtual 62, 3) := by decide +kernel
theorem dX9_piece_65 : decode cX9_piece 65 = .ok (.astore_n 2, 1) := by decide +kernel
theorem dX9_piece_66 : decode cX9_piece 66 = .ok (.aload_n 0, 1) := by decide +kernel
theorem dX9_piece_67 : decode cX9_piece 67 = .ok (.invokevirtual 41, 3) := by decide +kernel
theorem dX9_piece_70 : decode cX9_piece 70 = .ok (.istore_n 3, 1) := by decide +kernel
theorem dX9_piece_71 : decode cX9_piece 71 = .ok (.iload_n 3, 1) := by decide +kernel
theorem dX9_piece_72 : decode cX9_piece 72 = .ok (.bipush 60, 2) := by decide +kernel
theorem dX9_piece_74 : decode cX9_piece 74 = .ok (.if_icmp .eq 24, 3) := by decide +kernel
theorem dX9_piece_77 : decode cX9_piece 77 = .ok (.iload_n 3, 1) := by decide +kernel
theorem dX9_piece_78 : decode cX9_piece 78 = .ok (.bipush 62, 2) := by decide +kernel
theorem dX9_piece_80 : decode cX9_piece 80 = .ok (.if_icmp .eq 18, 3) := by decide +kernel
theorem dX9_piece_83 : decode cX9_piece 83 = .ok (.iload_n 3, 1) := by decide +kernel
theorem dX9_piece_84 : decode cX9_piece 84 = .ok (.bipush 61, 2) := by decide +kernel
theorem dX9_piece_86 : decode cX9_piece 86 = .ok (.if_icmp .eq 12, 3) := by decide +kernel
theorem dX9_piece_89 : decode cX9_piece 89 = .ok (.aload_n 0, 1) := by decide +kernel
theorem dX9_piece_90 : decode cX9_piece 90 = .ok (.iconst 1, 1) := by decide +kernel
theorem dX9_piece_91 : decode cX9_piece 91 = .ok (.aload_n 0, 1) := by decide +kernel
theorem dX9_piece_92 : decode cX9_piece 92 = .ok (.getfield 32, 3) := by decide +kernel
theorem dX9_piece_95 : decode cX9_piece 95 = .ok (.invokevirtual 49, 3) := by decide +kernel
theorem dX9_piece_98 : decode cX9_piece 98 = .ok (.aload_n 0, 1) := by decide +kernel
theorem dX9_piece_99 : decode cX9_piece 99 = .ok (.dup, 1) := by decide +kernel
theorem dX9_piece_100 : decode cX9_piece 100 = .ok (.getfield 32, 3) := by decide +kernel
theorem dX9_piece_103 : decode cX9_piece 103 = .ok (.iconst 1, 1) := by decide +kernel
theorem dX9_piece_104 : decode cX9_piece 104 = .ok (.iadd, 1) := by decide +kernel
theorem dX9_piece_105 : decode cX9_piece 105 = .ok (.putfield 32, 3) := by decide +kernel
theorem dX9_piece_108 : decode cX9_piece 108 = .ok (.new 116, 3) := by decide +kernel
theorem dX9_piece_111 : decode cX9_piece 111 = .ok (.dup, 1) := by decide +kernel
theorem dX9_piece_112 : decode cX9_piece 112 = .ok (.aload_n 2, 1) := by decide +kernel
theorem dX9_piece_113 : decode cX9_piece 113 = .ok (.iload_n 3, 1) := by decide +kernel
theorem dX9_piece_114 : decode cX9_piece 114 = .ok (.aload_n 0, 1) := by decide +kernel
theorem dX9_piece_115 : decode cX9_piece 115 = .ok (.invokevirtual 53, 3) := by decide +kernel
theorem dX9_piece_118 : decode cX9_piece 118 = .ok (.ifCond .eq 10, 3) := by decide +kernel
theorem dX9_piece_121 : decode cX9_piece 121 = .ok (.aload_n 0, 1) := by decide +kernel
theorem dX9_piece_122 : decode cX9_piece 122 = .ok (.invokevirtual 62, 3) := by decide +kernel
theorem dX9_piece_125 : decode cX9_piece 125 = .ok (.goto 4, 3) := by decide +kernel
theorem dX9_piece_128 : decode cX9_piece 128 = .ok (.aconst_null, 1) := by decide +kernel
theorem dX9_piece_129 : decode cX9_piece 129 = .ok (.invokespecial 118, 3) := by decide +kernel
theorem dX9_piece_132 : decode cX9_piece 132 = .ok (.areturn, 1) := by decide +kernel
section
variable {v : Option Nat}
variable {dd : Nat}
noncomputable def x9_piece_98 (F : Nat) (Wpiece : Nat → XS → XR (Option Nat)) (Wcondition : Nat → XS → XR (Option Nat)) (x0 : Nat) (x2 : Option Nat) (x3 : Int32) (τ : XS) : XR (Option Nat) :=
  (gI τ x0 [9] 6).bind (fun v1 => (pF τ x0 [9] 6 (.int (v1 + 1))).bind (fun τ1 => nx (xN τ1 (.inr (18, fun q => defaultValue (tyX18 q)))) (fun τ2 => tk 1 3 (if isC τ2 x0 [9] = true then (x9_isGood F x0 τ2).bind (fun r1 => tk r1.2.2.1 r1.2.2.2 (if r1.1 = 0 then ((x18_init F τ1.2.2.2.2 x2 x3 none r1.2.1).bind (fun r2 => tk r2.2.2.1 r2.2.2.2 (some (some τ1.2.2.2.2, r2.2.1, 0, 0)))) else (if isC r1.2.1 x0 [9] = true then (xd_sum F 8 x0 r1.2.1).bind (fun r3 => tk r3.2.2.1 r3.2.2.2 ((x18_init F τ1.2.2.2.2 x2 x3 r3.1 r3.2.1).bind (fun r4 => tk r4.2.2.1 r4.2.2.2 (some (some τ1.2.2.2.2, r4.2.1, 0, 0))))) else none))) else none))))
theorem kx9_piece_98 (M : XC γ cX9_piece 4 RX9 "piece" G o B (dd + 1) (some (.object "AshCity$Condition")) (xQq G o B v τr) c0 s0) (hd : 30 ≤ dd) (Wpiece : Nat → XS → XR (Option Nat)) (dpiece : Nat) (hdpiece : dpiece ≤ dd) (hWpiece : MetW_piece (jl γ) G o B dpiece Wpiece) (Wcondition : Nat → XS → XR (Option Nat)) (dcondition : Nat) (hdcondition : dcondition ≤ dd) (hWcondition : MetW_condition (jl γ) G o B dcondition Wcondition) (x0 : Nat) (x2 : Option Nat) (x3 : Int32) (τ : XS) {c s k n : Nat} (hf : x9_piece_98 F Wpiece Wcondition x0 x2 x3 τ = some (v, τr, c, s)) (hkn : k + c ≤ c0 ∧ n + s ≤ s0) : J γ (XW G o B τ) k n 98 [(0, .ref x0), (2, va_rf x2), (3, .int x3)] [] := by
  unfold x9_piece_98 at hf
  refine j_aload_n (pc := 98) M.1 dX9_piece_98 0 rfl ?_
  refine j_dup (pc := 99) M.1 dX9_piece_99 rfl ?_
  obtain ⟨v1, g1, hf⟩ := o_bind hf
  refine jx_getI (pc := 100) M xfl_X9_32 g1 dX9_piece_100 ?_
  refine j_iconst (pc := 103) M.1 dX9_piece_103 kc_iconst_1 ?_
  refine j_iadd (pc := 104) M.1 dX9_piece_104 ?_
  obtain ⟨τ1, g2, hf⟩ := o_bind hf
  refine jx_putV (pc := 105) M xfl_X9_32 rfl rfl g2 dX9_piece_105 ?_
  obtain ⟨τ2, e1, hf⟩ := o_nx hf
  obtain ⟨c1, s1, hf, hc1, hs1⟩ := o_tk hf
  replace hkn := kn_step hkn hc1 hs1
  refine jx_new (pc := 108) M xnew_X9_116 dX9_piece_108 (kn_le hkn) e1 ?_
  refine j_dup (pc := 111) M.1 dX9_piece_111 rfl ?_
  refine j_aloadq_n (pc := 112) M.1 dX9_piece_112 1 rfl ?_
  refine j_iload_n (pc := 113) M.1 dX9_piece_113 2 rfl ?_
  refine j_aload_n (pc := 114) M.1 dX9_piece_114 0 rfl ?_
  obtain ⟨b1, hf⟩ := o_need hf
  obtain ⟨r1, g3, hf⟩ := o_bind hf
  obtain ⟨c2, s2, hf, hc2, hs2⟩ := o_tk hf
  replace hkn := kn_step hkn hc2 hs2
  refine jx_i M (x_runW (pc := 115) (As := []) (rest := [.int x3, va_rf x2, .ref τ1.2.2.2.2, .ref τ1.2.2.2.2]) M xcw_X9_53 (met_x9_isGood g3) b1 (by omega) rfl rfl (by cases x2 <;> rfl) dX9_piece_115 (kn_le hkn)) ?_
  refine j_if_eq (pc := 118) M.1 128 dX9_piece_118 rfl (fun b2 => ?_) (fun b2 => ?_)
  · replace hf := o_pos b2 hf
    refine j_null (pc := 128) M.1 dX9_piece_128 ?_
    obtain ⟨r2, g4, hf⟩ := o_bind hf
    obtain ⟨c3, s3, hf, hc3, hs3⟩ := o_tk hf
    replace hkn := kn_step hkn hc3 hs3
    refine jx_v (r := r2.1) M (x_runI (pc := 129) (As := [va_rf x2, .int x3, va_rf none]) (rest := [.ref τ1.2.2.2.2]) M xci_X9_118 (met_x18_init g4) (by omega) rfl rfl rfl dX9_piece_129 (kn_le hkn)) ?_
    exact jx_aretF (pc := 132) (w := some τ1.2.2.2.2) M dX9_piece_132 hf hkn
  · replace hf := o_neg b2 hf
    refine j_aload_n (pc := 121) M.1 dX9_piece_121 0 rfl ?_
    obtain ⟨b3, hf⟩ := o_need hf
    obtain ⟨r3, g5, hf⟩ := o_bind hf
    obtain ⟨c4, s4, hf, hc4, hs4⟩ := o_tk hf
    replace hkn := kn_step hkn hc4 hs4
    refine jx_q M (x_runW (pc := 122) (As := []) (rest := [.int x3, va_rf x2, .ref τ1.2.2.2.2, .ref τ1.2.2.2.2]) M xcw_X9_62 (metd_sum g5) b3 (by omega) rfl rfl (by cases x2 <;> rfl) dX9_piece_122 (kn_le hkn)) ?_
    refine j_goto (pc := 125) M.1 129 dX9_piece_125 rfl ?_
    obtain ⟨r4, g6, hf⟩ := o_bind hf
    obtain ⟨c5, s5, hf, hc5, hs5⟩ := o_tk hf
    replace hkn := kn_step hkn hc5 hs5
    refine jx_v (r := r4.1) M (x_runI (pc := 129) (As := [va_rf x2, .int x3, va_rf r3.1]) (rest := [.ref τ1.2.2.2.2]) M xci_X9_118 (met_x18_init g6) (by omega) rfl rfl rfl dX9_piece_129 (kn_le hkn)) ?_
    exact jx_aretF (pc := 132) (w := some τ1.2.2.2.2) M dX9_piece_132 hf hkn
noncomputable def x9_piece_30 (F : Nat) (Wpiece : Nat → XS → XR (Option Nat)) (Wcondition : Nat → XS → XR (Option Nat)) (x0 : Nat) (u0 : Option Nat) (τ : XS) : XR (Option Nat) :=
  (gI τ x0 [9] 7).bind (fun v1 => (pF τ x0 [9] 7 (.int (v1 - 1))).bind (fun τ1 => nx (xN τ1 (.inr (13, fun q => defaultValue (tyX13 q)))) (fun τ2 => tk 1 1 ((x13_init F τ1.2.2.2.2 u0 τ2).bind (fun r1 => tk r1.2.2.1 r1.2.2.2 (some (some τ1.2.2.2.2, r1.2.1, 0, 0)))))))
theorem kx9_piece_30 (M : XC γ cX9_piece 4 RX9 "piece" G o B (dd + 1) (some (.object "AshCity$Condition")) (xQq G o B v τr) c0 s0) (hd : 30 ≤ dd) (Wpiece : Nat → XS → XR (Option Nat)) (dpiece : Nat) (hdpiece : dpiece ≤ dd) (hWpiece : MetW_piece (jl γ) G o B dpiece Wpiece) (Wcondition : Nat → XS → XR (Option Nat)) (dcondition : Nat) (hdcondition : dcondition ≤ dd) (hWcondition : MetW_condition (jl γ) G o B dcondition Wcondition) (x0 : Nat) (u0 : Option Nat) (τ : XS) {c s k n : Nat} (hf : x9_piece_30 F Wpiece Wcondition x0 u0 τ = some (v, τr, c, s)) (hkn : k + c ≤ c0 ∧ n + s ≤ s0) : J γ (XW G o B τ) k n 30 [(0, .ref x0)] [va_rf u0] := by
  unfold x9_piece_30 at hf
  refine j_astoreq_n (pc := 30) M.1 [(2, va_rf u0), (0, .ref x0)] dX9_piece_30 rfl rfl ?_
  refine j_aload_n (pc := 31) M.1 dX9_piece_31 1 rfl ?_
  refine j_dup (pc := 32) M.1 dX9_piece_32 rfl ?_
  obtain ⟨v1, g1, hf⟩ := o_bind hf
  refine jx_getI (pc := 33) M xfl_X9_56 g1 dX9_piece_33 ?_
  refine j_iconst (pc := 36) M.1 dX9_piece_36 kc_iconst_1 ?_
  refine j_isub (pc := 37) M.1 dX9_piece_37 ?_
  obtain ⟨τ1, g2, hf⟩ := o_bind hf
  refine jx_putV (pc := 38) M xfl_X9_56 rfl rfl g2 dX9_piece_38 ?_
  obtain ⟨τ2, e1, hf⟩ := o_nx hf
  obtain ⟨c1, s1, hf, hc1, hs1⟩ := o_tk hf
  replace hkn := kn_step hkn hc1 hs1
  refine jx_new (pc := 41) M xnew_X9_108 dX9_piece_41 (kn_le hkn) e1 ?_
  refine j_dup (pc := 44) M.1 dX9_piece_44 rfl ?_
  refine j_aloadq_n (pc := 45) M.1 dX9_piece_45 0 rfl ?_
  obtain ⟨r1, g3, hf⟩ := o_bind hf
  obtain ⟨c2, s2, hf, hc2, hs2⟩ := o_tk hf
  replace hkn := kn_step hkn hc2 hs2
  refine jx_v (r := r1.1) M (x_runI (pc := 46) (As := [va_rf u0]) (rest := [.ref τ1.2.2.2.2]) M xci_X9_110 (met_x13_init g3) (by omega) rfl rfl rfl dX9_piece_46 (kn_le hkn)) ?_
  exact jx_aretF (pc := 49) (w := some τ1.2.2.2.2) M dX9_piece_49 hf hkn
noncomputable def x9_piece (F : Nat) (Wpiece : Nat → XS → XR (Option Nat)) (Wcondition : Nat → XS → XR (Option Nat)) (x0 : Nat) (τ : XS) : XR (Option Nat) :=
  if isC τ x0 [9] = true then (x9_here F x0 τ).bind (fun r1 => tk r1.2.2.1 r1.2.2.2 (if r1.1 = 33 then (if isC r1.2.1 x0 [9] = true then (x9_opens F x0 r1.2.1).bind (fun r6 => tk r6.2.2.1 r6.2.2.2 (if isC r6.2.1 x0 [9] = true then (x9_isGood F x0 r6.2.1).bind (fun r7 => tk r7.2.2.1 r7.2.2.2 (if r7.1 = 0 then (x9_piece_30 F Wpiece Wcondition x0 none r7.2.1) else (if isC r7.2.1 x0 [9] = true then (Wpiece x0 r7.2.1).bind (fun r8 => tk r8.2.2.1 r8.2.2.2 (x9_piece_30 F Wpiece Wcondition x0 r8.1 r8.2.1)) else none))) else none)) else none) else (if r1.1 = 40 then (if isC r1.2.1 x0 [9] = true then (Wcondition x0 r1.2.1).bind (fun r5 => tk r5.2.2.1 r5.2.2.2 (some (r5.1, r5.2.1, 0, 0))) else none) else (if isC r1.2.1 x0 [9] = true then (xd_sum F 8 x0 r1.2.1).bind (fun r2 => tk r2.2.2.1 r2.2.2.2 (if isC r2.2.1 x0 [9] = true then (x9_here F x0 r2.2.1).bind (fun r3 => tk r3.2.2.1 r3.2.2.2 (if r3.1 = 60 then (x9_piece_98 F Wpiece Wcondition x0 r2.1 r3.1 r3.2.1) else (if r3.1 = 62 then (x9_piece_98 F Wpiece Wcondition x0 r2.1 r3.1 r3.2.1) else (if r3.1 = 61 then (x9_piece_98 F Wpiece Wcondition x0 r2.1 r3.1 r3.2.1) else ((gI r3.2.1 x0 [9] 6).bind (fun v1 => if isC r3.2.1 x0 [9] = true then (x9_bad F x0 1 v1 r3.2.1).bind (fun r4 => tk r4.2.2.1 r4.2.2.2 (x9_piece_98 F Wpiece Wcondition x0 r2.1 r3.1 r4.2.1)) else none)))))) else none)) else none)))) else none
theorem met_x9_piece {l : Launch} {G : gG} {o B F : Nat} {dd : Nat} (hd : 30 ≤ dd) {Wpiece : Nat → XS → XR (Option Nat)} {dpiece : Nat} (hdpiece : dpiece ≤ dd) (hWpiece : MetW_piece l G o B dpiece Wpiece) {Wcondition : Nat → XS → XR (Option Nat)} {dcondition : Nat} (hdcondition : dcondition ≤ dd) (hWcondition : MetW_condition l G o B dcondition Wcondition) {x0 : Nat} {τ : XS} {r : Option Nat × XS × Nat × Nat} (hf : x9_piece F Wpiece Wcondition x0 τ = some r) : MetX l G o B yX9_piece cX9_piece 4 (some (.object "AshCity$Condition")) (dd + 1) [.ref x0] τ (xQq G o B r.1 r.2.1) r.2.2.1 r.2.2.2 := by
  obtain ⟨v, τr, c, s⟩ := r
  refine metX_of (own := RX9) (mn := "piece") (by decide) rfl rfl rfl (fun γ hγ M => ?_)
  subst hγ
  show J γ (XW G o B τ) 0 0 0 [(0, .ref x0)] []
  have hkn : 0 + c ≤ c ∧ 0 + s ≤ s := ⟨by omega, by omega⟩
  unfold x9_piece at hf
  refine j_aload_n (pc := 0) M.1 dX9_piece_0 0 rfl ?_
  obtain ⟨b1, hf⟩ := o_need hf
  obtain ⟨r1, g1, hf⟩ := o_bind hf
  obtain ⟨c1, s1, hf, hc1, hs1⟩ := o_tk hf
  replace hkn := kn_step hkn hc1 hs1
  refine jx_i M (x_runW (pc := 1) (As := []) (rest := []) M xcw_X9_41 (met_x9_here g1) b1 (by omega) rfl rfl rfl dX9_piece_1 (kn_le hkn)) ?_
  refine j_istore_n (pc := 4) M.1 [(1, .int r1.1), (0, .ref x0)] dX9_piece_4 rfl rfl ?_
  refine j_iload_n (pc := 5) M.1 dX9_piece_5 0 rfl ?_
  refine j_bipush (pc := 6) M.1 dX9_piece_6 kc_bipush_33 ?_
  refine j_icmp_ne (pc := 8) M.1 50 dX9_piece_8 rfl (fun b2 => ?_) (fun b2 => ?_)
  · replace hf := o_neg b2 hf
    refine j_iload_n (pc := 50) M.1 dX9_piece_50 0 rfl ?_
    refine j_bipush (pc := 51) M.1 dX9_piece_51 kc_bipush_40 ?_
    refine j_icmp_ne (pc := 53) M.1 61 dX9_piece_53 rfl (fun b3 => ?_) (fun b3 => ?_)
    · replace hf := o_neg b3 hf
      refine j_aload_n (pc := 61) M.1 dX9_piece_61 1 rfl ?_
      obtain ⟨b4, hf⟩ := o_need hf
      obtain ⟨r2, g2, hf⟩ := o_bind hf
      obtain ⟨c2, s2, hf, hc2, hs2⟩ := o_tk hf
      replace hkn := kn_step hkn hc2 hs2
      refine jx_q M (x_runW (pc := 62) (As := []) (rest := []) M xcw_X9_62 (metd_sum g2) b4 (by omega) rfl rfl rfl dX9_piece_62 (kn_le hkn)) ?_
      refine j_astoreq_n (pc := 65) M.1 [(2, va_rf r2.1), (1, .int r1.1), (0, .ref x0)] dX9_piece_65 rfl rfl ?_
      refine j_aload_n (pc := 66) M.1 dX9_piece_66 2 rfl ?_
      obtain ⟨b5, hf⟩ := o_need hf
      obtain ⟨r3, g3, hf⟩ := o_bind hf
      obtain ⟨c3, s3, hf, hc3, hs3⟩ := o_tk hf
      replace hkn := kn_step hkn hc3 hs3
      refine jx_i M (x_runW (pc := 67) (As := []) (rest := []) M xcw_X9_41 (met_x9_here g3) b5 (by omega) rfl rfl rfl dX9_piece_67 (kn_le hkn)) ?_
      refine j_istore_n (pc := 70) M.1 [(3, .int r3.1), (2, va_rf r2.1), (1, .int r1.1), (0, .ref x0)] dX9_piece_70 rfl (by cases r2.1 <;> rfl) ?_
      refine j_iload_n (pc := 71) M.1 dX9_piece_71 0 rfl ?_
      refine j_bipush (pc := 72) M.1 dX9_piece_72 kc_bipush_60 ?_
      refine j_icmp_eq (pc := 74) M.1 98 dX9_piece_74 rfl (fun b6 => ?_) (fun b6 => ?_)
      · replace hf := o_pos b6 hf
        refine j_sub [3, 1, 0] (show lv_pick _ _ = [(0, .ref x0), (2, va_rf r2.1), (3, .int r3.1)] from rfl) ?_
        exact kx9_piece_98 M hd Wpiece dpiece hdpiece hWpiece Wcondition dcondition hdcondition hWcondition x0 r2.1 r3.1 r3.2.1 hf hkn
      · replace hf := o_neg b6 hf
        refine j_iload_n (pc := 77) M.1 dX9_piece_77 0 rfl ?_
        refine j_bipush (pc := 78) M.1 dX9_piece_78 kc_bipush_62 ?_
        refine j_icmp_eq (pc := 80) M.1 98 dX9_piece_80 rfl (fun b7 => ?_) (fun b7 => ?_)
        · replace hf := o_pos b7 hf
          refine j_sub [3, 1, 0] (show lv_pick _ _ = [(0, .ref x0), (2, va_rf r2.1), (3, .int r3.1)] from rfl) ?_
          exact kx9_piece_98 M hd Wpiece dpiece hdpiece hWpiece Wcondition dcondition hdcondition hWcondition x0 r2.1 r3.1 r3.2.1 hf hkn
        · replace hf := o_neg b7 hf
          refine j_iload_n (pc := 83) M.1 dX9_piece_83 0 rfl ?_
          refine j_bipush (pc := 84) M.1 dX9_piece_84 kc_bipush_61 ?_
          refine j_icmp_eq (pc := 86) M.1 98 dX9_piece_86 rfl (fun b8 => ?_) (fun b8 => ?_)
          · replace hf := o_pos b8 hf
            refine j_sub [3, 1, 0] (show lv_pick _ _ = [(0, .ref x0), (2, va_rf r2.1), (3, .int r3.1)] from rfl) ?_
            exact kx9_piece_98 M hd Wpiece dpiece hdpiece hWpiece Wcondition dcondition hdcondition hWcondition x0 r2.1 r3.1 r3.2.1 hf hkn
          · replace hf := o_neg b8 hf
            refine j_aload_n (pc := 89) M.1 dX9_piece_89 3 rfl ?_
            refine j_iconst (pc := 90) M.1 dX9_piece_90 kc_iconst_1 ?_
            refine j_aload_n (pc := 91) M.1 dX9_piece_91 3 rfl ?_
            obtain ⟨v1, g4, hf⟩ := o_bind hf
            refine jx_getI (pc := 92) M xfl_X9_32 g4 dX9_piece_92 ?_
            obtain ⟨b9, hf⟩ := o_need hf
            obtain ⟨r4, g5, hf⟩ := o_bind hf
            obtain ⟨c4, s4, hf, hc4, hs4⟩ := o_tk hf
            replace hkn := kn_step hkn hc4 hs4
            refine jx_v (r := r4.1) M (x_runW (pc := 95) (As := [.int 1, .int v1]) (rest := []) M xcw_X9_49 (met_x9_bad g5) b9 (by omega) rfl rfl rfl dX9_piece_95 (kn_le hkn)) ?_
            refine j_sub [3, 1, 0] (show lv_pick _ _ = [(0, .ref x0), (2, va_rf r2.1), (3, .int r3.1)] from rfl) ?_
            exact kx9_piece_98 M hd Wpiece dpiece hdpiece hWpiece Wcondition dcondition hdcondition hWcondition x0 r2.1 r3.1 r4.2.1 hf hkn
    · replace hf := o_pos b3 hf
      refine j_aload_n (pc := 56) M.1 dX9_piece_56 1 rfl ?_
      obtain ⟨b10, hf⟩ := o_need hf
      obtain ⟨r5, g6, hf⟩ := o_bind hf
      obtain ⟨c5, s5, hf, hc5, hs5⟩ := o_tk hf
      replace hkn := kn_step hkn hc5 hs5
      refine jx_q M (x_runW (pc := 57) (As := []) (rest := []) M xcw_X9_113 (hWcondition _ _ _ g6) b10 (by omega) rfl rfl rfl dX9_piece_57 (kn_le hkn)) ?_
      exact jx_aretF (pc := 60) (w := r5.1) M dX9_piece_60 hf hkn
  · replace hf := o_pos b2 hf
    refine j_aload_n (pc := 11) M.1 dX9_piece_11 1 rfl ?_
    obtain ⟨b11, hf⟩ := o_need hf
    obtain ⟨r6, g7, hf⟩ := o_bind hf
    obtain ⟨c6, s6, hf, hc6, hs6⟩ := o_tk hf
    replace hkn := kn_step hkn hc6 hs6
    refine jx_v (r := r6.1) M (x_runW (pc := 12) (As := []) (rest := []) M xcw_X9_59 (met_x9_opens g7) b11 (by omega) rfl rfl rfl dX9_piece_12 (kn_le hkn)) ?_
    refine j_aload_n (pc := 15) M.1 dX9_piece_15 1 rfl ?_
    obtain ⟨b12, hf⟩ := o_need hf
    obtain ⟨r7, g8, hf⟩ := o_bind hf
    obtain ⟨c7, s7, hf, hc7, hs7⟩ := o_tk hf
    replace hkn := kn_step hkn hc7 hs7
    refine jx_i M (x_runW (pc := 16) (As := []) (rest := []) M xcw_X9_53 (met_x9_isGood g8) b12 (by omega) rfl rfl rfl dX9_piece_16 (kn_le hkn)) ?_
    refine j_if_eq (pc := 19) M.1 29 dX9_piece_19 rfl (fun b13 => ?_) (fun b13 => ?_)
    · replace hf := o_pos b13 hf
      refine j_null (pc := 29) M.1 dX9_piece_29 ?_
      refine j_sub [1] (show lv_pick _ _ = [(0, .ref x0)] from rfl) ?_
      exact kx9_piece_30 M hd Wpiece dpiece hdpiece hWpiece Wcondition dcondition hdcondition hWcondition x0 none r7.2.1 hf hkn
    · replace hf := o_neg b13 hf
      refine j_aload_n (pc := 22) M.1 dX9_piece_22 1 rfl ?_
      obtain ⟨b14, hf⟩ := o_need hf
      obtain ⟨r8, g9, hf⟩ := o_bind hf
      obtain ⟨c8, s8, hf, hc8, hs8⟩ := o_tk hf
      replace hkn := kn_step hkn hc8 hs8
      refine jx_q M (x_runW (pc := 23) (As := []) (rest := []) M xcw_X9_104 (hWpiece _ _ _ g9) b14 (by omega) rfl rfl rfl dX9_piece_23 (kn_le hkn)) ?_
      refine j_goto (pc := 26) M.1 30 dX9_piece_26 rfl ?_
      refine j_sub [1] (show lv_pick _ _ = [(0, .ref x0)] from rfl) ?_
      exact kx9_piece_30 M hd Wpiece dpiece hdpiece hWpiece Wcondition dcondition hdcondition hWcondition x0 r8.1 r8.2.1 hf hkn
end
theorem dX9_pieces_0 : decode cX9_pieces 0 = .ok (.new 121, 3) := by decide +kernel
theorem dX9_pieces_3 : decode cX9_pieces 3 = .ok (.dup, 1) := by decide +kernel
theorem dX9_pieces_4 : decode cX9_pieces 4 = .ok (.aload_n 0, 1) := by decide +kernel
theorem dX9_pieces_5 : decode cX9_pieces 5 = .ok (.invokevirtual 104, 3) := by decide +kernel
theorem dX9_pieces_8 : decode cX9_pieces 8 = .ok (.iconst 0, 1) := by decide +kernel
theorem dX9_pieces_9 : decode cX9_pieces 9 = .ok (.invokespecial 123, 3) := by decide +kernel
theorem dX9_pieces_12 : decode cX9_pieces 12 = .ok (.astore_n 1, 1) := by decide +kernel
theorem dX9_pieces_13 : decode cX9_pieces 13 = .ok (.aload_n 1, 1) := by decide +kernel
theorem dX9_pieces_14 : decode cX9_pieces 14 = .ok (.astore_n 2, 1) := by decide +kernel
theorem dX9_pieces_15 : decode cX9_pieces 15 = .ok (.aload_n 0, 1) := by decide +kernel
theorem dX9_pieces_16 : decode cX9_pieces 16 = .ok (.invokevirtual 53, 3) := by decide +kernel
theorem dX9_pieces_19 : decode cX9_pieces 19 = .ok (.ifCond .eq 46, 3) := by decide +kernel
theorem dX9_pieces_22 : decode cX9_pieces 22 = .ok (.aload_n 0, 1) := by decide +kernel
theorem dX9_pieces_23 : decode cX9_pieces 23 = .ok (.invokevirtual 41, 3) := by decide +kernel
theorem dX9_pieces_26 : decode cX9_pieces 26 = .ok (.bipush 38, 2) := by decide +kernel
theorem dX9_pieces_28 : decode cX9_pieces 28 = .ok (.if_icmp .ne 37, 3) := by decide +kernel
theorem dX9_pieces_31 : decode cX9_pieces 31 = .ok (.aload_n 0, 1) := by decide +kernel
theorem dX9_pieces_32 : decode cX9_pieces 32 = .ok (.dup, 1) := by decide +kernel
theorem dX9_pieces_33 : decode cX9_pieces 33 = .ok (.getfield 32, 3) := by decide +kernel
theorem dX9_pieces_36 : decode cX9_pieces 36 = .ok (.iconst 1, 1) := by decide +kernel
theorem dX9_pieces_37 : decode cX9_pieces 37 = .ok (.iadd, 1) := by decide +kernel
theorem dX9_pieces_38 : decode cX9_pieces 38 = .ok (.putfield 32, 3) := by decide +kernel
theorem dX9_pieces_41 : decode cX9_pieces 41 = .ok (.aload_n 2, 1) := by decide +kernel
theorem dX9_pieces_42 : decode cX9_pieces 42 = .ok (.new 121, 3) := by decide +kernel
theorem dX9_pieces_45 : decode cX9_pieces 45 = .ok (.dup, 1) := by decide +kernel
theorem dX9_pieces_46 : decode cX9_pieces 46 = .ok (.aload_n 0, 1) := by decide +kernel
theorem dX9_pieces_47 : decode cX9_pieces 47 = .ok (.invokevirtual 104, 3) := by decide +kernel
theorem dX9_pieces_50 : decode cX9_pieces 50 = .ok (.iconst 0, 1) := by decide +kernel
theorem dX9_pieces_51 : decode cX9_pieces 51 = .ok (.invokespecial 123, 3) := by decide +kernel
theorem dX9_pieces_54 : decode cX9_pieces 54 = .ok (.putfield 126, 3) := by decide +kernel
theorem dX9_pieces_57 : decode cX9_pieces 57 = .ok (.aload_n 2, 1) := by decide +kernel
theorem dX9_pieces_58 : decode cX9_pieces 58 = .ok (.getfield 126, 3) := by decide +kernel
theorem dX9_pieces_61 : decode cX9_pieces 61 = .ok (.astore_n 2, 1) := by decide +kernel
theorem dX9_pieces_62 : decode cX9_pieces 62 = .ok (.goto (-47), 3) := by decide +kernel
theorem dX9_pieces_65 : decode cX9_pieces 65 = .ok (.aload_n 1, 1) := by decide +kernel
theorem dX9_pieces_66 : decode cX9_pieces 66 = .ok (.areturn, 1) := by decide +kernel
section
variable {v : Option Nat}
variable {dd : Nat}
noncomputable def x9_pieces_B15 (F : Nat) (Wpiece : Nat → XS → XR (Option Nat)) (x0 : Nat) (x1 : Nat) (R : Option Nat × XS → XR (Option Nat)) (a : Option Nat × XS) : XR (Option Nat) :=
  if isC a.2 x0 [9] = true then (x9_isGood F x0 a.2).bind (fun r1 => tk r1.2.2.1 r1.2.2.2 (if r1.1 = 0 then (some (some x1, r1.2.1, 0, 0)) else (if isC r1.2.1 x0 [9] = true then (x9_here F x0 r1.2.1).bind (fun r2 => tk r2.2.2.1 r2.2.2.2 (if r2.1 = 38 then ((gI r2.2.1 x0 [9] 6).bind (fun v1 => (pF r2.2.1 x0 [9] 6 (.int (v1 + 1))).bind (fun τ1 => nx (xN τ1 (.inr (12, fun q => defaultValue (tyX12 q)))) (fun τ2 => tk 1 3 (if isC τ2 x0 [9] = true then (Wpiece x0 τ2).bind (fun r3 => tk r3.2.2.1 r3.2.2.2 ((x12_init F τ1.2.2.2.2 r3.1 0 r3.2.1).bind (fun r4 => tk r4.2.2.1 r4.2.2.2 ((a.1).bind (fun a1 => (pF r4.2.1 a1 [12] 2 (.ref τ1.2.2.2.2)).bind (fun τ3 => (a.1).bind (fun a2 => (gQ τ3 a2 [12] 2).bind (fun p1 => R (p1, τ3))))))))) else none))))) else (some (some x1, r2.2.1, 0, 0)))) else none))) else none
theorem kx9_pieces_B15 (M : XC γ cX9_pieces 3 RX9 "pieces" G o B (dd + 1) (some (.object "AshCity$Condition")) (xQq G o B v τr) c0 s0) (hd : 3 ≤ dd) (Wpiece : Nat → XS → XR (Option Nat)) (hWpiece : MetW_piece (jl γ) G o B dd Wpiece) (x0 : Nat) (x1 : Nat) : ∀ R : Option Nat × XS → XR (Option Nat), (∀ a c s, R a = some (v, τr, c, s) → ∀ k n, k + c ≤ c0 ∧ n + s ≤ s0 → J γ (XW G o B a.2) k n 15 [(0, .ref x0), (1, .ref x1), (2, va_rf a.1)] []) → ∀ a c s, x9_pieces_B15 F Wpiece x0 x1 R a = some (v, τr, c, s) → ∀ k n, k + c ≤ c0 ∧ n + s ≤ s0 → J γ (XW G o B a.2) k n 15 [(0, .ref x0), (1, .ref x1), (2, va_rf a.1)] [] := by
  intro R hR a c s hf k n hkn
  unfold x9_pieces_B15 at hf
  refine j_aload_n (pc := 15) M.1 dX9_pieces_15 0 rfl ?_
  obtain ⟨b1, hf⟩ := o_need hf
  obtain ⟨r1, g1, hf⟩ := o_bind hf
  obtain ⟨c1, s1, hf, hc1, hs1⟩ := o_tk hf
  replace hkn := kn_step hkn hc1 hs1
  refine jx_i M (x_runW (pc := 16) (As := []) (rest := []) M xcw_X9_53 (met_x9_isGood g1) b1 (by omega) rfl rfl rfl dX9_pieces_16 (kn_le hkn)) ?_
  refine j_if_eq (pc := 19) M.1 65 dX9_pieces_19 rfl (fun b2 => ?_) (fun b2 => ?_)
  · replace hf := o_pos b2 hf
    refine j_aload_n (pc := 65) M.1 dX9_pieces_65 1 rfl ?_
    exact jx_aretF (pc := 66) (w := some x1) M dX9_pieces_66 hf hkn
  · replace hf := o_neg b2 hf
    refine j_aload_n (pc := 22) M.1 dX9_pieces_22 0 rfl ?_
    obtain ⟨b3, hf⟩ := o_need hf
    obtain ⟨r2, g2, hf⟩ := o_bind hf
    obtain ⟨c2, s2, hf, hc2, hs2⟩ := o_tk hf
    replace hkn := kn_step hkn hc2 hs2
    refine jx_i M (x_runW (pc := 23) (As := []) (rest := []) M xcw_X9_41 (met_x9_here g2) b3 (by omega) rfl rfl rfl dX9_pieces_23 (kn_le hkn)) ?_
    refine j_bipush (pc := 26) M.1 dX9_pieces_26 kc_bipush_38 ?_
    refine j_icmp_ne (pc := 28) M.1 65 dX9_pieces_28 rfl (fun b4 => ?_) (fun b4 => ?_)
    · replace hf := o_neg b4 hf
      refine j_aload_n (pc := 65) M.1 dX9_pieces_65 1 rfl ?_
      exact jx_aretF (pc := 66) (w := some x1) M dX9_pieces_66 hf hkn
    · replace hf := o_pos b4 hf
      refine j_aload_n (pc := 31) M.1 dX9_pieces_31 0 rfl ?_
      refine j_dup (pc := 32) M.1 dX9_pieces_32 rfl ?_
      obtain ⟨v1, g3, hf⟩ := o_bind hf
      refine jx_getI (pc := 33) M xfl_X9_32 g3 dX9_pieces_33 ?_
      refine j_iconst (pc := 36) M.1 dX9_pieces_36 kc_iconst_1 ?_
      refine j_iadd (pc := 37) M.1 dX9_pieces_37 ?_
      obtain ⟨τ1, g4, hf⟩ := o_bind hf
      refine jx_putV (pc := 38) M xfl_X9_32 rfl rfl g4 dX9_pieces_38 ?_
      refine j_aloadq_n (pc := 41) M.1 dX9_pieces_41 2 rfl ?_
      obtain ⟨τ2, e1, hf⟩ := o_nx hf
      obtain ⟨c3, s3, hf, hc3, hs3⟩ := o_tk hf
      replace hkn := kn_step hkn hc3 hs3
      refine jx_new (pc := 42) M xnew_X9_121 dX9_pieces_42 (kn_le hkn) e1 ?_
      refine j_dup (pc := 45) M.1 dX9_pieces_45 rfl ?_
      refine j_aload_n (pc := 46) M.1 dX9_pieces_46 0 rfl ?_
      obtain ⟨b5, hf⟩ := o_need hf
      obtain ⟨r3, g5, hf⟩ := o_bind hf
      obtain ⟨c4, s4, hf, hc4, hs4⟩ := o_tk hf
      replace hkn := kn_step hkn hc4 hs4
      refine jx_q M (x_runW (pc := 47) (As := []) (rest := [.ref τ1.2.2.2.2, .ref τ1.2.2.2.2, va_rf a.1]) M xcw_X9_104 (hWpiece _ _ _ g5) b5 (Nat.lt_succ_self _) rfl rfl (by cases a.1 <;> rfl) dX9_pieces_47 (kn_le hkn)) ?_
      refine j_iconst (pc := 50) M.1 dX9_pieces_50 kc_iconst_0 ?_
      obtain ⟨r4, g6, hf⟩ := o_bind hf
      obtain ⟨c5, s5, hf, hc5, hs5⟩ := o_tk hf
      replace hkn := kn_step hkn hc5 hs5
      refine jx_v (r := r4.1) M (x_runI (pc := 51) (As := [va_rf r3.1, .int 0]) (rest := [.ref τ1.2.2.2.2, va_rf a.1]) M xci_X9_123 (met_x12_init g6) (by omega) rfl rfl (by cases a.1 <;> rfl) dX9_pieces_51 (kn_le hkn)) ?_
      obtain ⟨a1, hq1, hf⟩ := o_bind hf
      refine j_st (show _ = [.ref τ1.2.2.2.2, .ref a1] by simp only [hq1, va_rf]) ?_
      obtain ⟨τ3, g7, hf⟩ := o_bind hf
      refine jx_putV (pc := 54) M xfl_X9_126 rfl rfl g7 dX9_pieces_54 ?_
      refine j_aloadq_n (pc := 57) M.1 dX9_pieces_57 2 rfl ?_
      obtain ⟨a2, hq2, hf⟩ := o_bind hf
      refine j_st (show _ = [.ref a2] by simp only [hq2, va_rf]) ?_
      obtain ⟨p1, g8, hf⟩ := o_bind hf
      refine jx_getQ (pc := 58) M xfl_X9_126 g8 dX9_pieces_58 ?_
      refine j_astoreq_n (pc := 61) M.1 [(2, va_rf p1), (0, .ref x0), (1, .ref x1)] dX9_pieces_61 rfl rfl ?_
      refine j_goto (pc := 62) M.1 15 dX9_pieces_62 rfl ?_
      refine j_sub [1, 2, 0] (show lv_pick _ _ = [(0, .ref x0), (1, .ref x1), (2, va_rf p1)] from rfl) ?_
      have hy := hR _ _ _ hf _ _ hkn
      exact hy
noncomputable def x9_pieces (F : Nat) (Wpiece : Nat → XS → XR (Option Nat)) (x0 : Nat) (τ : XS) : XR (Option Nat) :=
  nx (xN τ (.inr (12, fun q => defaultValue (tyX12 q)))) (fun τ1 => tk 1 3 (if isC τ1 x0 [9] = true then (Wpiece x0 τ1).bind (fun r1 => tk r1.2.2.1 r1.2.2.2 ((x12_init F τ.2.2.2.2 r1.1 0 r1.2.1).bind (fun r2 => tk r2.2.2.1 r2.2.2.2 (lp (x9_pieces_B15 F Wpiece x0 τ.2.2.2.2) F (some τ.2.2.2.2, r2.2.1))))) else none))
theorem met_x9_pieces {l : Launch} {G : gG} {o B F : Nat} {dd : Nat} (hd : 3 ≤ dd) {Wpiece : Nat → XS → XR (Option Nat)} (hWpiece : MetW_piece l G o B dd Wpiece) {x0 : Nat} {τ : XS} {r : Option Nat × XS × Nat × Nat} (hf : x9_pieces F Wpiece x0 τ = some r) : MetX l G o B yX9_pieces cX9_pieces 3 (some (.object "AshCity$Condition")) (dd + 1) [.ref x0] τ (xQq G o B r.1 r.2.1) r.2.2.1 r.2.2.2 := by
  obtain ⟨v, τr, c, s⟩ := r
  refine metX_of (own := RX9) (mn := "pieces") (by decide) rfl rfl rfl (fun γ hγ M => ?_)
  subst hγ
  show J γ (XW G o B τ) 0 0 0 [(0, .ref x0)] []
  have hkn : 0 + c ≤ c ∧ 0 + s ≤ s := ⟨by omega, by omega⟩
  unfold x9_pieces at hf
  obtain ⟨τ1, e1, hf⟩ := o_nx hf
  obtain ⟨c1, s1, hf, hc1, hs1⟩ := o_tk hf
  replace hkn := kn_step hkn hc1 hs1
  refine jx_new (pc := 0) M xnew_X9_121 dX9_pieces_0 (kn_le hkn) e1 ?_
  refine j_dup (pc := 3) M.1 dX9_pieces_3 rfl ?_
  refine j_aload_n (pc := 4) M.1 dX9_pieces_4 0 rfl ?_
  obtain ⟨b1, hf⟩ := o_need hf
  obtain ⟨r1, g1, hf⟩ := o_bind hf
  obtain ⟨c2, s2, hf, hc2, hs2⟩ := o_tk hf
  replace hkn := kn_step hkn hc2 hs2
  refine jx_q M (x_runW (pc := 5) (As := []) (rest := [.ref τ.2.2.2.2, .ref τ.2.2.2.2]) M xcw_X9_104 (hWpiece _ _ _ g1) b1 (Nat.lt_succ_self _) rfl rfl rfl dX9_pieces_5 (kn_le hkn)) ?_
  refine j_iconst (pc := 8) M.1 dX9_pieces_8 kc_iconst_0 ?_
  obtain ⟨r2, g2, hf⟩ := o_bind hf
  obtain ⟨c3, s3, hf, hc3, hs3⟩ := o_tk hf
  replace hkn := kn_step hkn hc3 hs3
  refine jx_v (r := r2.1) M (x_runI (pc := 9) (As := [va_rf r1.1, .int 0]) (rest := [.ref τ.2.2.2.2]) M xci_X9_123 (met_x12_init g2) (by omega) rfl rfl rfl dX9_pieces_9 (kn_le hkn)) ?_
  refine j_astore_n (pc := 12) M.1 [(1, .ref τ.2.2.2.2), (0, .ref x0)] dX9_pieces_12 rfl rfl ?_
  refine j_aload_n (pc := 13) M.1 dX9_pieces_13 0 rfl ?_
  refine j_astore_n (pc := 14) M.1 [(2, .ref τ.2.2.2.2), (1, .ref τ.2.2.2.2), (0, .ref x0)] dX9_pieces_14 rfl rfl ?_
  refine j_sub [2, 1, 0] (show lv_pick _ _ = [(0, .ref x0), (1, .ref τ.2.2.2.2), (2, va_rf (some τ.2.2.2.2))] from rfl) ?_
  refine lp_Wc (kx9_pieces_B15 M hd Wpiece hWpiece x0 τ.2.2.2.2) F (some τ.2.2.2.2, r2.2.1) _ _ hf _ _ hkn
end
noncomputable def xd_piece (F : Nat) : Nat → Nat → XS → XR (Option Nat) := fun D => Nat.rec (fun _ _ => none) (fun _ W => x9_piece F W (x9_condition F (x9_pieces F W))) D
noncomputable def xd_condition (F D : Nat) : Nat → XS → XR (Option Nat) := x9_condition F (x9_pieces F (xd_piece F D))
theorem metW_condition_of {l : Launch} {G : gG} {o B F : Nat} {D : Nat} (h : MetW_piece l G o B (3 * D + 40) (xd_piece F D)) : MetW_condition l G o B (3 * D + 42) (xd_condition F D) := by
  have h1 : MetW_pieces l G o B (3 * D + 41) (x9_pieces F (xd_piece F D)) := fun a τ r hf => met_x9_pieces (dd := 3 * D + 40) (by omega) h hf
  exact fun a τ r hf => met_x9_condition (dd := 3 * D + 41) (by omega) h1 hf
theorem metW_piece {l : Launch} {G : gG} {o B F : Nat} : ∀ D : Nat, MetW_piece l G o B (3 * D + 40) (xd_piece F D) := by
  intro D
  induction D with
  | zero => intro a τ r hf; cases hf
  | succ D ih =>
    intro a τ r hf
    exact met_x9_piece (dd := 3 * D + 42) (by omega) (dpiece := 3 * D + 40) (by omega) ih (dcondition := 3 * D + 42) (by omega) (metW_condition_of ih) hf
theorem metd_condition {l : Launch} {G : gG} {o B F : Nat} {a : Nat} {τ : XS} {r : Option Nat × XS × Nat × Nat} (hf : xd_condition F 8 a τ = some r) : MetX l G o B yX9_condition cX9_condition 3 (some (.object "AshCity$Condition")) 66 [.ref a] τ (xQq G o B r.1 r.2.1) r.2.2.1 r.2.2.2 := metW_condition_of (metW_piece 8) a τ r hf
theorem dX9_clause_0 : decode cX9_clause 0 = .ok (.aload_n 0, 1) := by decide +kernel
theorem dX9_clause_1 : decode cX9_clause 1 = .ok (.invokevirtual 41, 3) := by decide +kernel
theorem dX9_clause_4 : decode cX9_clause 4 = .ok (.istore_n 1, 1) := by decide +kernel
theorem dX9_clause_5 : decode cX9_clause 5 = .ok (.iload_n 1, 1) := by decide +kernel
theorem dX9_clause_6 : decode cX9_clause 6 = .ok (.ifCond .eq 12, 3) := by decide +kernel
theorem dX9_clause_9 : decode cX9_clause 9 = .ok (.ldc 132, 2) := by decide +kernel
theorem dX9_clause_11 : decode cX9_clause 11 = .ok (.iload_n 1, 1) := by decide +kernel
theorem dX9_clause_12 : decode cX9_clause 12 = .ok (.invokevirtual 81, 3) := by decide +kernel
theorem dX9_clause_15 : decode cX9_clause 15 = .ok (.ifCond .ge 15, 3) := by decide +kernel
theorem dX9_clause_18 : decode cX9_clause 18 = .ok (.aload_n 0, 1) := by decide +kernel
theorem dX9_clause_19 : decode cX9_clause 19 = .ok (.iconst 1, 1) := by decide +kernel
theorem dX9_clause_20 : decode cX9_clause 20 = .ok (.aload_n 0, 1) := by decide +kernel
theorem dX9_clause_21 : decode cX9_clause 21 = .ok (.getfield 32, 3) := by decide +kernel
theorem dX9_clause_24 : decode cX9_clause 24 = .ok (.invokevirtual 49, 3) := by decide +kernel
theorem dX9_clause_27 : decode cX9_clause 27 = .ok (.goto 21, 3) := by decide +kernel
theorem dX9_clause_30 : decode cX9_clause 30 = .ok (.aload_n 0, 1) := by decide +kernel
theorem dX9_clause_31 : decode cX9_clause 31 = .ok (.getfield 134, 3) := by decide +kernel
theorem dX9_clause_34 : decode cX9_clause 34 = .ok (.bipush 10, 2) := by decide +kernel
theorem dX9_clause_36 : decode cX9_clause 36 = .ok (.if_icmp .ne 12, 3) := by decide +kernel
theorem dX9_clause_39 : decode cX9_clause 39 = .ok (.aload_n 0, 1) := by decide +kernel
theorem dX9_clause_40 : decode cX9_clause 40 = .ok (.iconst 4, 1) := by decide +kernel
theorem dX9_clause_41 : decode cX9_clause 41 = .ok (.aload_n 0, 1) := by decide +kernel
theorem dX9_clause_42 : decode cX9_clause 42 = .ok (.getfield 32, 3) := by decide +kernel
theorem dX9_clause_45 : decode cX9_clause 45 = .ok (.invokevirtual 49, 3) := by decide +kernel
theorem dX9_clause_48 : decode cX9_clause 48 = .ok (.aload_n 0, 1) := by decide +kernel
theorem dX9_clause_49 : decode cX9_clause 49 = .ok (.invokevirtual 53, 3) := by decide +kernel
theorem dX9_clause_52 : decode cX9_clause 52 = .ok (.ifCond .ne 4, 3) := by decide +kernel
theorem dX9_clause_55 : decode cX9_clause 55 = .ok (.return_, 1) := by decide +kernel
theorem dX9_clause_56 : decode cX9_clause 56 = .ok (.new 9, 3) := by decide +kernel
theorem dX9_clause_59 : decode cX9_clause 59 = .ok (.dup, 1) := by decide +kernel
theorem dX9_clause_60 : decode cX9_clause 60 = .ok (.iload_n 1, 1) := by decide +kernel
theorem dX9_clause_61 : decode cX9_clause 61 = .ok (.invokespecial 137, 3) := by decide +kernel
theorem dX9_clause_64 : decode cX9_clause 64 = .ok (.astore_n 2, 1) := by decide +kernel
theorem dX9_clause_65 : decode cX9_clause 65 = .ok (.aload_n 0, 1) := by decide +kernel
theorem dX9_clause_66 : decode cX9_clause 66 = .ok (.dup, 1) := by decide +kernel
theorem dX9_clause_67 : decode cX9_clause 67 = .ok (.getfield 32, 3) := by decide +kernel
theorem dX9_clause_70 : decode cX9_clause 70 = .ok (.iconst 1, 1) := by decide +kernel
theorem dX9_clause_71 : decode cX9_clause 71 = .ok (.iadd, 1) := by decide +kernel
theorem dX9_clause_72 : decode cX9_clause 72 = .ok (.putfield 32, 3) := by decide +kernel
theorem dX9_clause_75 : decode cX9_clause 75 = .ok (.aload_n 0, 1) := by decide +kernel
theorem dX9_clause_76 : decode cX9_clause 76 = .ok (.iconst 0, 1) := by decide +kernel
theorem dX9_clause_77 : decode cX9_clause 77 = .ok (.putfield 56, 3) := by decide +kernel
theorem dX9_clause_80 : decode cX9_clause 80 = .ok (.aload_n 2, 1) := by decide +kernel
theorem dX9_clause_81 : decode cX9_clause 81 = .ok (.aload_n 0, 1) := by decide +kernel
theorem dX9_clause_82 : decode cX9_clause 82 = .ok (.iload_n 1, 1) := by decide +kernel
theorem dX9_clause_83 : decode cX9_clause 83 = .ok (.invokestatic 138, 3) := by decide +kernel
theorem dX9_clause_86 : decode cX9_clause 86 = .ok (.invokevirtual 73, 3) := by decide +kernel
theorem dX9_clause_89 : decode cX9_clause 89 = .ok (.putfield 141, 3) := by decide +kernel
theorem dX9_clause_92 : decode cX9_clause 92 = .ok (.iload_n 1, 1) := by decide +kernel
theorem dX9_clause_93 : decode cX9_clause 93 = .ok (.bipush 120, 2) := by decide +kernel
theorem dX9_clause_95 : decode cX9_clause 95 = .ok (.if_icmp .ne 16, 3) := by decide +kernel
theorem dX9_clause_98 : decode cX9_clause 98 = .ok (.aload_n 0, 1) := by decide +kernel
theorem dX9_clause_99 : decode cX9_clause 99 = .ok (.invokevirtual 53, 3) := by decide +kernel
theorem dX9_clause_102 : decode cX9_clause 102 = .ok (.ifCond .eq 9, 3) := by decide +kernel
theorem dX9_clause_105 : decode cX9_clause 105 = .ok (.aload_n 0, 1) := by decide +kernel
theorem dX9_clause_106 : decode cX9_clause 106 = .ok (.bipush 46, 2) := by decide +kernel
theorem dX9_clause_108 : decode cX9_clause 108 = .ok (.invokevirtual 66, 3) := by decide +kernel
theorem dX9_clause_111 : decode cX9_clause 111 = .ok (.iload_n 1, 1) := by decide +kernel
theorem dX9_clause_112 : decode cX9_clause 112 = .ok (.bipush 120, 2) := by decide +kernel
theorem dX9_clause_114 : decode cX9_clause 114 = .ok (.if_icmp .ne 20, 3) := by decide +kernel
theorem dX9_clause_117 : decode cX9_clause 117 = .ok (.aload_n 0, 1) := by decide +kernel
theorem dX9_clause_118 : decode cX9_clause 118 = .ok (.invokevirtual 53, 3) := by decide +kernel
theorem dX9_clause_121 : decode cX9_clause 121 = .ok (.ifCond .eq 13, 3) := by decide +kernel
theorem dX9_clause_124 : decode cX9_clause 124 = .ok (.aload_n 2, 1) := by decide +kernel
theorem dX9_clause_125 : decode cX9_clause 125 = .ok (.aload_n 0, 1) := by decide +kernel
theorem dX9_clause_126 : decode cX9_clause 126 = .ok (.bipush 9, 2) := by decide +kernel
theorem dX9_clause_128 : decode cX9_clause 128 = .ok (.invokevirtual 73, 3) := by decide +kernel
theorem dX9_clause_131 : decode cX9_clause 131 = .ok (.putfield 143, 3) := by decide +kernel
theorem dX9_clause_134 : decode cX9_clause 134 = .ok (.iload_n 1, 1) := by decide +kernel
theorem dX9_clause_135 : decode cX9_clause 135 = .ok (.bipush 120, 2) := by decide +kernel
theorem dX9_clause_137 : decode cX9_clause 137 = .ok (.if_icmp .eq 27, 3) := by decide +kernel
theorem dX9_clause_140 : decode cX9_clause 140 = .ok (.aload_n 0, 1) := by decide +kernel
theorem dX9_clause_141 : decode cX9_clause 141 = .ok (.invokevirtual 53, 3) := by decide +kernel
theorem dX9_clause_144 : decode cX9_clause 144 = .ok (.ifCond .eq 20, 3) := by decide +kernel
theorem dX9_clause_147 : decode cX9_clause 147 = .ok (.aload_n 0, 1) := by decide +kernel
theorem dX9_clause_148 : decode cX9_clause 148 = .ok (.invokevirtual 41, 3) := by decide +kernel
theorem dX9_clause_151 : decode cX9_clause 151 = .ok (.bipush 40, 2) := by decide +kernel
theorem dX9_clause_153 : decode cX9_clause 153 = .ok (.if_icmp .ne 11, 3) := by decide +kernel
theorem dX9_clause_156 : decode cX9_clause 156 = .ok (.aload_n 2, 1) := by decide +kernel
theorem dX9_clause_157 : decode cX9_clause 157 = .ok (.aload_n 0, 1) := by decide +kernel
theorem dX9_clause_158 : decode cX9_clause 158 = .ok (.invokevirtual 113, 3) := by decide +kernel
theorem dX9_clause_161 : decode cX9_clause 161 = .ok (.putfield 146, 3) := by decide +kernel
theorem dX9_clause_164 : decode cX9_clause 164 = .ok (.aload_n 0, 1) := by decide +kernel
theorem dX9_clause_165 : decode cX9_clause 165 = .ok (.getfield 11, 3) := by decide +kernel
theorem dX9_clause_168 : decode cX9_clause 168 = .ok (.aload_n 0, 1) := by decide +kernel
theorem dX9_clause_169 : decode cX9_clause 169 = .ok (.getfield 134, 3) := by decide +kernel
theorem dX9_clause_172 : decode cX9_clause 172 = .ok (.aload_n 2, 1) := by decide +kernel
theorem dX9_clause_173 : decode cX9_clause 173 = .ok (.aastore, 1) := by decide +kernel
theorem dX9_clause_174 : decode cX9_clause 174 = .ok (.aload_n 0, 1) := by decide +kernel
theorem dX9_clause_175 : decode cX9_clause 175 = .ok (.dup, 1) := by decide +kernel
theorem dX9_clause_176 : decode cX9_clause 176 = .ok (.getfield 134, 3) := by decide +kernel
theorem dX9_clause_179 : decode cX9_clause 179 = .ok (.iconst 1, 1) := by decide +kernel
theorem dX9_clause_180 : decode cX9_clause 180 = .ok (.iadd, 1) := by decide +kernel
theorem dX9_clause_181 : decode cX9_clause 181 = .ok (.putfield 134, 3) := by decide +kernel
theorem dX9_clause_184 : decode cX9_clause 184 = .ok (.return_, 1) := by decide +kernel
section
variable {v : Int32}
noncomputable def x9_clause_164 (F : Nat) (x0 : Nat) (x2 : Nat) (τ : XS) : XR Int32 :=
  (gN τ x0 [9] 0).bind (fun n1 => (gI τ x0 [9] 2).bind (fun v1 => (gB τ n1 14).bind (fun A1 => if isC τ x2 [10] = true then if okI v1 A1.1 = true then nx (xP τ n1 (.inl (14, A1.1, .inr (.inr (.inr (.inr (va_up A1.2 v1.toNatClampNeg (some x2)))))))) (fun τ1 => (gI τ1 x0 [9] 2).bind (fun v2 => (pF τ1 x0 [9] 2 (.int (v2 + 1))).bind (fun τ2 => some (0, τ2, 0, 0)))) else none else none)))
theorem kx9_clause_164 (M : XC γ cX9_clause 3 RX9 "clause" G o B 67 none (xQv G o B v τr) c0 s0) (x0 : Nat) (x2 : Nat) (τ : XS) {c s k n : Nat} (hf : x9_clause_164 F x0 x2 τ = some (v, τr, c, s)) (hkn : k + c ≤ c0 ∧ n + s ≤ s0) : J γ (XW G o B τ) k n 164 [(0, .ref x0), (2, .ref x2)] [] := by
  unfold x9_clause_164 at hf
  refine j_aload_n (pc := 164) M.1 dX9_clause_164 0 rfl ?_
  obtain ⟨n1, g1, hf⟩ := o_bind hf
  refine jx_getN (pc := 165) M xfl_X9_11 g1 dX9_clause_165 ?_
  refine j_aload_n (pc := 168) M.1 dX9_clause_168 0 rfl ?_
  obtain ⟨v1, g2, hf⟩ := o_bind hf
  refine jx_getI (pc := 169) M xfl_X9_134 g2 dX9_clause_169 ?_
  refine j_aload_n (pc := 172) M.1 dX9_clause_172 1 rfl ?_
  obtain ⟨A1, g3, hf⟩ := o_bind hf
  obtain ⟨b1, hf⟩ := o_need hf
  obtain ⟨b2, hf⟩ := o_need hf
  obtain ⟨τ1, e1, hf⟩ := o_nx hf
  refine jx_paast (pc := 173) M xel_14 g3 b1 b2 dX9_clause_173 e1 ?_
  refine j_aload_n (pc := 174) M.1 dX9_clause_174 0 rfl ?_
  refine j_dup (pc := 175) M.1 dX9_clause_175 rfl ?_
  obtain ⟨v2, g4, hf⟩ := o_bind hf
  refine jx_getI (pc := 176) M xfl_X9_134 g4 dX9_clause_176 ?_
  refine j_iconst (pc := 179) M.1 dX9_clause_179 kc_iconst_1 ?_
  refine j_iadd (pc := 180) M.1 dX9_clause_180 ?_
  obtain ⟨τ2, g5, hf⟩ := o_bind hf
  refine jx_putV (pc := 181) M xfl_X9_134 rfl rfl g5 dX9_clause_181 ?_
  exact jx_vretF (pc := 184) M dX9_clause_184 hf hkn
noncomputable def x9_clause_134 (F : Nat) (x0 : Nat) (x1 : Int32) (x2 : Nat) (τ : XS) : XR Int32 :=
  if x1 = 120 then (x9_clause_164 F x0 x2 τ) else (if isC τ x0 [9] = true then (x9_isGood F x0 τ).bind (fun r1 => tk r1.2.2.1 r1.2.2.2 (if r1.1 = 0 then (x9_clause_164 F x0 x2 r1.2.1) else (if isC r1.2.1 x0 [9] = true then (x9_here F x0 r1.2.1).bind (fun r2 => tk r2.2.2.1 r2.2.2.2 (if r2.1 = 40 then (if isC r2.2.1 x0 [9] = true then (xd_condition F 8 x0 r2.2.1).bind (fun r3 => tk r3.2.2.1 r3.2.2.2 ((pF r3.2.1 x2 [10] 3 (va_rf r3.1)).bind (fun τ1 => x9_clause_164 F x0 x2 τ1))) else none) else (x9_clause_164 F x0 x2 r2.2.1))) else none))) else none)
theorem kx9_clause_134 (M : XC γ cX9_clause 3 RX9 "clause" G o B 67 none (xQv G o B v τr) c0 s0) (x0 : Nat) (x1 : Int32) (x2 : Nat) (τ : XS) {c s k n : Nat} (hf : x9_clause_134 F x0 x1 x2 τ = some (v, τr, c, s)) (hkn : k + c ≤ c0 ∧ n + s ≤ s0) : J γ (XW G o B τ) k n 134 [(0, .ref x0), (1, .int x1), (2, .ref x2)] [] := by
  unfold x9_clause_134 at hf
  refine j_iload_n (pc := 134) M.1 dX9_clause_134 1 rfl ?_
  refine j_bipush (pc := 135) M.1 dX9_clause_135 kc_bipush_120 ?_
  refine j_icmp_eq (pc := 137) M.1 164 dX9_clause_137 rfl (fun b1 => ?_) (fun b1 => ?_)
  · replace hf := o_pos b1 hf
    refine j_sub [0, 2] (show lv_pick _ _ = [(0, .ref x0), (2, .ref x2)] from rfl) ?_
    exact kx9_clause_164 M x0 x2 τ hf hkn
  · replace hf := o_neg b1 hf
    refine j_aload_n (pc := 140) M.1 dX9_clause_140 0 rfl ?_
    obtain ⟨b2, hf⟩ := o_need hf
    obtain ⟨r1, g1, hf⟩ := o_bind hf
    obtain ⟨c1, s1, hf, hc1, hs1⟩ := o_tk hf
    replace hkn := kn_step hkn hc1 hs1
    refine jx_i M (x_runW (pc := 141) (As := []) (rest := []) M xcw_X9_53 (met_x9_isGood g1) b2 (by decide) rfl rfl rfl dX9_clause_141 (kn_le hkn)) ?_
    refine j_if_eq (pc := 144) M.1 164 dX9_clause_144 rfl (fun b3 => ?_) (fun b3 => ?_)
    · replace hf := o_pos b3 hf
      refine j_sub [0, 2] (show lv_pick _ _ = [(0, .ref x0), (2, .ref x2)] from rfl) ?_
      exact kx9_clause_164 M x0 x2 r1.2.1 hf hkn
    · replace hf := o_neg b3 hf
      refine j_aload_n (pc := 147) M.1 dX9_clause_147 0 rfl ?_
      obtain ⟨b4, hf⟩ := o_need hf
      obtain ⟨r2, g2, hf⟩ := o_bind hf
      obtain ⟨c2, s2, hf, hc2, hs2⟩ := o_tk hf
      replace hkn := kn_step hkn hc2 hs2
      refine jx_i M (x_runW (pc := 148) (As := []) (rest := []) M xcw_X9_41 (met_x9_here g2) b4 (by decide) rfl rfl rfl dX9_clause_148 (kn_le hkn)) ?_
      refine j_bipush (pc := 151) M.1 dX9_clause_151 kc_bipush_40 ?_
      refine j_icmp_ne (pc := 153) M.1 164 dX9_clause_153 rfl (fun b5 => ?_) (fun b5 => ?_)
      · replace hf := o_neg b5 hf
        refine j_sub [0, 2] (show lv_pick _ _ = [(0, .ref x0), (2, .ref x2)] from rfl) ?_
        exact kx9_clause_164 M x0 x2 r2.2.1 hf hkn
      · replace hf := o_pos b5 hf
        refine j_aload_n (pc := 156) M.1 dX9_clause_156 2 rfl ?_
        refine j_aload_n (pc := 157) M.1 dX9_clause_157 0 rfl ?_
        obtain ⟨b6, hf⟩ := o_need hf
        obtain ⟨r3, g3, hf⟩ := o_bind hf
        obtain ⟨c3, s3, hf, hc3, hs3⟩ := o_tk hf
        replace hkn := kn_step hkn hc3 hs3
        refine jx_q M (x_runW (pc := 158) (As := []) (rest := [.ref x2]) M xcw_X9_113 (metd_condition g3) b6 (by decide) rfl rfl rfl dX9_clause_158 (kn_le hkn)) ?_
        obtain ⟨τ1, g4, hf⟩ := o_bind hf
        refine jx_putV (pc := 161) M xfl_X9_146 (nar_rf _ _) (fit_rf _ _) g4 dX9_clause_161 ?_
        refine j_sub [0, 2] (show lv_pick _ _ = [(0, .ref x0), (2, .ref x2)] from rfl) ?_
        exact kx9_clause_164 M x0 x2 τ1 hf hkn
noncomputable def x9_clause_111 (F : Nat) (x0 : Nat) (x1 : Int32) (x2 : Nat) (τ : XS) : XR Int32 :=
  if x1 = 120 then (if isC τ x0 [9] = true then (x9_isGood F x0 τ).bind (fun r1 => tk r1.2.2.1 r1.2.2.2 (if r1.1 = 0 then (x9_clause_134 F x0 x1 x2 r1.2.1) else (if isC r1.2.1 x0 [9] = true then (x9_number F x0 9 r1.2.1).bind (fun r2 => tk r2.2.2.1 r2.2.2.2 ((pF r2.2.1 x2 [10] 2 (.int r2.1)).bind (fun τ1 => x9_clause_134 F x0 x1 x2 τ1))) else none))) else none) else (x9_clause_134 F x0 x1 x2 τ)
theorem kx9_clause_111 (M : XC γ cX9_clause 3 RX9 "clause" G o B 67 none (xQv G o B v τr) c0 s0) (x0 : Nat) (x1 : Int32) (x2 : Nat) (τ : XS) {c s k n : Nat} (hf : x9_clause_111 F x0 x1 x2 τ = some (v, τr, c, s)) (hkn : k + c ≤ c0 ∧ n + s ≤ s0) : J γ (XW G o B τ) k n 111 [(0, .ref x0), (1, .int x1), (2, .ref x2)] [] := by
  unfold x9_clause_111 at hf
  refine j_iload_n (pc := 111) M.1 dX9_clause_111 1 rfl ?_
  refine j_bipush (pc := 112) M.1 dX9_clause_112 kc_bipush_120 ?_
  refine j_icmp_ne (pc := 114) M.1 134 dX9_clause_114 rfl (fun b1 => ?_) (fun b1 => ?_)
  · replace hf := o_neg b1 hf
    exact kx9_clause_134 M x0 x1 x2 τ hf hkn
  · replace hf := o_pos b1 hf
    refine j_aload_n (pc := 117) M.1 dX9_clause_117 0 rfl ?_
    obtain ⟨b2, hf⟩ := o_need hf
    obtain ⟨r1, g1, hf⟩ := o_bind hf
    obtain ⟨c1, s1, hf, hc1, hs1⟩ := o_tk hf
    replace hkn := kn_step hkn hc1 hs1
    refine jx_i M (x_runW (pc := 118) (As := []) (rest := []) M xcw_X9_53 (met_x9_isGood g1) b2 (by decide) rfl rfl rfl dX9_clause_118 (kn_le hkn)) ?_
    refine j_if_eq (pc := 121) M.1 134 dX9_clause_121 rfl (fun b3 => ?_) (fun b3 => ?_)
    · replace hf := o_pos b3 hf
      exact kx9_clause_134 M x0 x1 x2 r1.2.1 hf hkn
    · replace hf := o_neg b3 hf
      refine j_aload_n (pc := 124) M.1 dX9_clause_124 2 rfl ?_
      refine j_aload_n (pc := 125) M.1 dX9_clause_125 0 rfl ?_
      refine j_bipush (pc := 126) M.1 dX9_clause_126 kc_bipush_9 ?_
      obtain ⟨b4, hf⟩ := o_need hf
      obtain ⟨r2, g2, hf⟩ := o_bind hf
      obtain ⟨c2, s2, hf, hc2, hs2⟩ := o_tk hf
      replace hkn := kn_step hkn hc2 hs2
      refine jx_i M (x_runW (pc := 128) (As := [.int 9]) (rest := [.ref x2]) M xcw_X9_73 (met_x9_number g2) b4 (by decide) rfl rfl rfl dX9_clause_128 (kn_le hkn)) ?_
      obtain ⟨τ1, g3, hf⟩ := o_bind hf
      refine jx_putV (pc := 131) M xfl_X9_143 rfl rfl g3 dX9_clause_131 ?_
      exact kx9_clause_134 M x0 x1 x2 τ1 hf hkn
noncomputable def x9_clause_48 (F : Nat) (x0 : Nat) (x1 : Int32) (τ : XS) : XR Int32 :=
  if isC τ x0 [9] = true then (x9_isGood F x0 τ).bind (fun r1 => tk r1.2.2.1 r1.2.2.2 (if r1.1 = 0 then (some (0, r1.2.1, 0, 0)) else (nx (xN r1.2.1 (.inr (10, fun q => defaultValue (tyX10 q)))) (fun τ1 => tk 1 4 ((x10_init F r1.2.1.2.2.2.2 x1 τ1).bind (fun r2 => tk r2.2.2.1 r2.2.2.2 ((gI r2.2.1 x0 [9] 6).bind (fun v1 => (pF r2.2.1 x0 [9] 6 (.int (v1 + 1))).bind (fun τ2 => (pF τ2 x0 [9] 7 (.int 0)).bind (fun τ3 => (x9_most F x1).bind (fun r3 => if isC τ3 x0 [9] = true then (x9_number F x0 r3 τ3).bind (fun r4 => tk r4.2.2.1 r4.2.2.2 ((pF r4.2.1 r1.2.1.2.2.2.2 [10] 1 (.int r4.1)).bind (fun τ4 => if x1 = 120 then (if isC τ4 x0 [9] = true then (x9_isGood F x0 τ4).bind (fun r5 => tk r5.2.2.1 r5.2.2.2 (if r5.1 = 0 then (x9_clause_111 F x0 x1 r1.2.1.2.2.2.2 r5.2.1) else (if isC r5.2.1 x0 [9] = true then (x9_must F x0 46 r5.2.1).bind (fun r6 => tk r6.2.2.1 r6.2.2.2 (x9_clause_111 F x0 x1 r1.2.1.2.2.2.2 r6.2.1)) else none))) else none) else (x9_clause_111 F x0 x1 r1.2.1.2.2.2.2 τ4)))) else none))))))))))) else none
theorem kx9_clause_48 (M : XC γ cX9_clause 3 RX9 "clause" G o B 67 none (xQv G o B v τr) c0 s0) (x0 : Nat) (x1 : Int32) (τ : XS) {c s k n : Nat} (hf : x9_clause_48 F x0 x1 τ = some (v, τr, c, s)) (hkn : k + c ≤ c0 ∧ n + s ≤ s0) : J γ (XW G o B τ) k n 48 [(0, .ref x0), (1, .int x1)] [] := by
  unfold x9_clause_48 at hf
  refine j_aload_n (pc := 48) M.1 dX9_clause_48 0 rfl ?_
  obtain ⟨b1, hf⟩ := o_need hf
  obtain ⟨r1, g1, hf⟩ := o_bind hf
  obtain ⟨c1, s1, hf, hc1, hs1⟩ := o_tk hf
  replace hkn := kn_step hkn hc1 hs1
  refine jx_i M (x_runW (pc := 49) (As := []) (rest := []) M xcw_X9_53 (met_x9_isGood g1) b1 (by decide) rfl rfl rfl dX9_clause_49 (kn_le hkn)) ?_
  refine j_if_ne (pc := 52) M.1 56 dX9_clause_52 rfl (fun b2 => ?_) (fun b2 => ?_)
  · replace hf := o_neg b2 hf
    obtain ⟨τ1, e1, hf⟩ := o_nx hf
    obtain ⟨c2, s2, hf, hc2, hs2⟩ := o_tk hf
    replace hkn := kn_step hkn hc2 hs2
    refine jx_new (pc := 56) M xnew_X9_9 dX9_clause_56 (kn_le hkn) e1 ?_
    refine j_dup (pc := 59) M.1 dX9_clause_59 rfl ?_
    refine j_iload_n (pc := 60) M.1 dX9_clause_60 1 rfl ?_
    obtain ⟨r2, g2, hf⟩ := o_bind hf
    obtain ⟨c3, s3, hf, hc3, hs3⟩ := o_tk hf
    replace hkn := kn_step hkn hc3 hs3
    refine jx_v (r := r2.1) M (x_runI (pc := 61) (As := [.int x1]) (rest := [.ref r1.2.1.2.2.2.2]) M xci_X9_137 (met_x10_init g2) (by decide) rfl rfl rfl dX9_clause_61 (kn_le hkn)) ?_
    refine j_astore_n (pc := 64) M.1 [(2, .ref r1.2.1.2.2.2.2), (0, .ref x0), (1, .int x1)] dX9_clause_64 rfl rfl ?_
    refine j_aload_n (pc := 65) M.1 dX9_clause_65 1 rfl ?_
    refine j_dup (pc := 66) M.1 dX9_clause_66 rfl ?_
    obtain ⟨v1, g3, hf⟩ := o_bind hf
    refine jx_getI (pc := 67) M xfl_X9_32 g3 dX9_clause_67 ?_
    refine j_iconst (pc := 70) M.1 dX9_clause_70 kc_iconst_1 ?_
    refine j_iadd (pc := 71) M.1 dX9_clause_71 ?_
    obtain ⟨τ2, g4, hf⟩ := o_bind hf
    refine jx_putV (pc := 72) M xfl_X9_32 rfl rfl g4 dX9_clause_72 ?_
    refine j_aload_n (pc := 75) M.1 dX9_clause_75 1 rfl ?_
    refine j_iconst (pc := 76) M.1 dX9_clause_76 kc_iconst_0 ?_
    obtain ⟨τ3, g5, hf⟩ := o_bind hf
    refine jx_putV (pc := 77) M xfl_X9_56 rfl rfl g5 dX9_clause_77 ?_
    refine j_aload_n (pc := 80) M.1 dX9_clause_80 0 rfl ?_
    refine j_aload_n (pc := 81) M.1 dX9_clause_81 1 rfl ?_
    refine j_iload_n (pc := 82) M.1 dX9_clause_82 2 rfl ?_
    obtain ⟨r3, g6, hf⟩ := o_bind hf
    refine jx_calls (pc := 83) (As := [.int x1]) (rest := [.ref x0, .ref r1.2.1.2.2.2.2]) M xcs_X9_138 (met_x9_most g6) rfl rfl rfl rfl dX9_clause_83 (kn_le0 hkn) ?_
    obtain ⟨b3, hf⟩ := o_need hf
    obtain ⟨r4, g7, hf⟩ := o_bind hf
    obtain ⟨c4, s4, hf, hc4, hs4⟩ := o_tk hf
    replace hkn := kn_step hkn hc4 hs4
    refine jx_i M (x_runW (pc := 86) (As := [.int r3]) (rest := [.ref r1.2.1.2.2.2.2]) M xcw_X9_73 (met_x9_number g7) b3 (by decide) rfl rfl rfl dX9_clause_86 (kn_le hkn)) ?_
    obtain ⟨τ4, g8, hf⟩ := o_bind hf
    refine jx_putV (pc := 89) M xfl_X9_141 rfl rfl g8 dX9_clause_89 ?_
    refine j_iload_n (pc := 92) M.1 dX9_clause_92 2 rfl ?_
    refine j_bipush (pc := 93) M.1 dX9_clause_93 kc_bipush_120 ?_
    refine j_icmp_ne (pc := 95) M.1 111 dX9_clause_95 rfl (fun b4 => ?_) (fun b4 => ?_)
    · replace hf := o_neg b4 hf
      refine j_sub [1, 2, 0] (show lv_pick _ _ = [(0, .ref x0), (1, .int x1), (2, .ref r1.2.1.2.2.2.2)] from rfl) ?_
      exact kx9_clause_111 M x0 x1 r1.2.1.2.2.2.2 τ4 hf hkn
    · replace hf := o_pos b4 hf
      refine j_aload_n (pc := 98) M.1 dX9_clause_98 1 rfl ?_
      obtain ⟨b5, hf⟩ := o_need hf
      obtain ⟨r5, g9, hf⟩ := o_bind hf
      obtain ⟨c5, s5, hf, hc5, hs5⟩ := o_tk hf
      replace hkn := kn_step hkn hc5 hs5
      refine jx_i M (x_runW (pc := 99) (As := []) (rest := []) M xcw_X9_53 (met_x9_isGood g9) b5 (by decide) rfl rfl rfl dX9_clause_99 (kn_le hkn)) ?_
      refine j_if_eq (pc := 102) M.1 111 dX9_clause_102 rfl (fun b6 => ?_) (fun b6 => ?_)
      · replace hf := o_pos b6 hf
        refine j_sub [1, 2, 0] (show lv_pick _ _ = [(0, .ref x0), (1, .int x1), (2, .ref r1.2.1.2.2.2.2)] from rfl) ?_
        exact kx9_clause_111 M x0 x1 r1.2.1.2.2.2.2 r5.2.1 hf hkn
      · replace hf := o_neg b6 hf
        refine j_aload_n (pc := 105) M.1 dX9_clause_105 1 rfl ?_
        refine j_bipush (pc := 106) M.1 dX9_clause_106 kc_bipush_46 ?_
        obtain ⟨b7, hf⟩ := o_need hf
        obtain ⟨r6, g10, hf⟩ := o_bind hf
        obtain ⟨c6, s6, hf, hc6, hs6⟩ := o_tk hf
        replace hkn := kn_step hkn hc6 hs6
        refine jx_v (r := r6.1) M (x_runW (pc := 108) (As := [.int 46]) (rest := []) M xcw_X9_66 (met_x9_must g10) b7 (by decide) rfl rfl rfl dX9_clause_108 (kn_le hkn)) ?_
        refine j_sub [1, 2, 0] (show lv_pick _ _ = [(0, .ref x0), (1, .int x1), (2, .ref r1.2.1.2.2.2.2)] from rfl) ?_
        exact kx9_clause_111 M x0 x1 r1.2.1.2.2.2.2 r6.2.1 hf hkn
  · replace hf := o_pos b2 hf
    exact jx_vretF (pc := 55) M dX9_clause_55 hf hkn
noncomputable def x9_clause (F : Nat) (x0 : Nat) (τ : XS) : XR Int32 :=
  if isC τ x0 [9] = true then (x9_here F x0 τ).bind (fun r1 => tk r1.2.2.1 r1.2.2.2 (if r1.1 = 0 then ((gI r1.2.1 x0 [9] 6).bind (fun v1 => if isC r1.2.1 x0 [9] = true then (x9_bad F x0 1 v1 r1.2.1).bind (fun r2 => tk r2.2.2.1 r2.2.2.2 (x9_clause_48 F x0 r1.1 r2.2.1)) else none)) else (if 0 ≤ (tIdx 0 r1.1) then ((gI r1.2.1 x0 [9] 2).bind (fun v2 => if v2 = 10 then ((gI r1.2.1 x0 [9] 6).bind (fun v3 => if isC r1.2.1 x0 [9] = true then (x9_bad F x0 4 v3 r1.2.1).bind (fun r3 => tk r3.2.2.1 r3.2.2.2 (x9_clause_48 F x0 r1.1 r3.2.1)) else none)) else (x9_clause_48 F x0 r1.1 r1.2.1))) else ((gI r1.2.1 x0 [9] 6).bind (fun v4 => if isC r1.2.1 x0 [9] = true then (x9_bad F x0 1 v4 r1.2.1).bind (fun r4 => tk r4.2.2.1 r4.2.2.2 (x9_clause_48 F x0 r1.1 r4.2.1)) else none))))) else none
theorem met_x9_clause {l : Launch} {G : gG} {o B F : Nat} {x0 : Nat} {τ : XS} {r : Int32 × XS × Nat × Nat} (hf : x9_clause F x0 τ = some r) : MetX l G o B yX9_clause cX9_clause 3 none 67 [.ref x0] τ (xQv G o B r.1 r.2.1) r.2.2.1 r.2.2.2 := by
  obtain ⟨v, τr, c, s⟩ := r
  refine metX_of (own := RX9) (mn := "clause") (by decide) rfl rfl rfl (fun γ hγ M => ?_)
  subst hγ
  show J γ (XW G o B τ) 0 0 0 [(0, .ref x0)] []
  have hkn : 0 + c ≤ c ∧ 0 + s ≤ s := ⟨by omega, by omega⟩
  unfold x9_clause at hf
  refine j_aload_n (pc := 0) M.1 dX9_clause_0 0 rfl ?_
  obtain ⟨b1, hf⟩ := o_need hf
  obtain ⟨r1, g1, hf⟩ := o_bind hf
  obtain ⟨c1, s1, hf, hc1, hs1⟩ := o_tk hf
  replace hkn := kn_step hkn hc1 hs1
  refine jx_i M (x_runW (pc := 1) (As := []) (rest := []) M xcw_X9_41 (met_x9_here g1) b1 (by decide) rfl rfl rfl dX9_clause_1 (kn_le hkn)) ?_
  refine j_istore_n (pc := 4) M.1 [(1, .int r1.1), (0, .ref x0)] dX9_clause_4 rfl rfl ?_
  refine j_iload_n (pc := 5) M.1 dX9_clause_5 0 rfl ?_
  refine j_if_eq (pc := 6) M.1 18 dX9_clause_6 rfl (fun b2 => ?_) (fun b2 => ?_)
  · replace hf := o_pos b2 hf
    refine j_aload_n (pc := 18) M.1 dX9_clause_18 1 rfl ?_
    refine j_iconst (pc := 19) M.1 dX9_clause_19 kc_iconst_1 ?_
    refine j_aload_n (pc := 20) M.1 dX9_clause_20 1 rfl ?_
    obtain ⟨v1, g2, hf⟩ := o_bind hf
    refine jx_getI (pc := 21) M xfl_X9_32 g2 dX9_clause_21 ?_
    obtain ⟨b3, hf⟩ := o_need hf
    obtain ⟨r2, g3, hf⟩ := o_bind hf
    obtain ⟨c2, s2, hf, hc2, hs2⟩ := o_tk hf
    replace hkn := kn_step hkn hc2 hs2
    refine jx_v (r := r2.1) M (x_runW (pc := 24) (As := [.int 1, .int v1]) (rest := []) M xcw_X9_49 (met_x9_bad g3) b3 (by decide) rfl rfl rfl dX9_clause_24 (kn_le hkn)) ?_
    refine j_goto (pc := 27) M.1 48 dX9_clause_27 rfl ?_
    refine j_sub [1, 0] (show lv_pick _ _ = [(0, .ref x0), (1, .int r1.1)] from rfl) ?_
    exact kx9_clause_48 M x0 r1.1 r2.2.1 hf hkn
  · replace hf := o_neg b2 hf
    refine jx_ldcT0 (pc := 9) M dX9_clause_9 (fun q1 z1 => ?_)
    refine j_iload_n (pc := 11) M.1 dX9_clause_11 0 rfl ?_
    refine jx_idx (pc := 12) M z1 (by decide) dX9_clause_12 (kn_le0 hkn) ?_
    refine j_if_ge (pc := 15) M.1 30 dX9_clause_15 rfl (fun b4 => ?_) (fun b4 => ?_)
    · replace hf := o_pos b4 hf
      refine j_aload_n (pc := 30) M.1 dX9_clause_30 1 rfl ?_
      obtain ⟨v2, g4, hf⟩ := o_bind hf
      refine jx_getI (pc := 31) M xfl_X9_134 g4 dX9_clause_31 ?_
      refine j_bipush (pc := 34) M.1 dX9_clause_34 kc_bipush_10 ?_
      refine j_icmp_ne (pc := 36) M.1 48 dX9_clause_36 rfl (fun b5 => ?_) (fun b5 => ?_)
      · replace hf := o_neg b5 hf
        refine j_sub [1, 0] (show lv_pick _ _ = [(0, .ref x0), (1, .int r1.1)] from rfl) ?_
        exact kx9_clause_48 M x0 r1.1 r1.2.1 hf hkn
      · replace hf := o_pos b5 hf
        refine j_aload_n (pc := 39) M.1 dX9_clause_39 1 rfl ?_
        refine j_iconst (pc := 40) M.1 dX9_clause_40 kc_iconst_4 ?_
        refine j_aload_n (pc := 41) M.1 dX9_clause_41 1 rfl ?_
        obtain ⟨v3, g5, hf⟩ := o_bind hf
        refine jx_getI (pc := 42) M xfl_X9_32 g5 dX9_clause_42 ?_
        obtain ⟨b6, hf⟩ := o_need hf
        obtain ⟨r3, g6, hf⟩ := o_bind hf
        obtain ⟨c3, s3, hf, hc3, hs3⟩ := o_tk hf
        replace hkn := kn_step hkn hc3 hs3
        refine jx_v (r := r3.1) M (x_runW (pc := 45) (As := [.int 4, .int v3]) (rest := []) M xcw_X9_49 (met_x9_bad g6) b6 (by decide) rfl rfl rfl dX9_clause_45 (kn_le hkn)) ?_
        refine j_sub [1, 0] (show lv_pick _ _ = [(0, .ref x0), (1, .int r1.1)] from rfl) ?_
        exact kx9_clause_48 M x0 r1.1 r3.2.1 hf hkn
    · replace hf := o_neg b4 hf
      refine j_aload_n (pc := 18) M.1 dX9_clause_18 1 rfl ?_
      refine j_iconst (pc := 19) M.1 dX9_clause_19 kc_iconst_1 ?_
      refine j_aload_n (pc := 20) M.1 dX9_clause_20 1 rfl ?_
      obtain ⟨v4, g7, hf⟩ := o_bind hf
      refine jx_getI (pc := 21) M xfl_X9_32 g7 dX9_clause_21 ?_
      obtain ⟨b7, hf⟩ := o_need hf
      obtain ⟨r4, g8, hf⟩ := o_bind hf
      obtain ⟨c4, s4, hf, hc4, hs4⟩ := o_tk hf
      replace hkn := kn_step hkn hc4 hs4
      refine jx_v (r := r4.1) M (x_runW (pc := 24) (As := [.int 1, .int v4]) (rest := []) M xcw_X9_49 (met_x9_bad g8) b7 (by decide) rfl rfl rfl dX9_clause_24 (kn_le hkn)) ?_
      refine j_goto (pc := 27) M.1 48 dX9_clause_27 rfl ?_
      refine j_sub [1, 0] (show lv_pick _ _ = [(0, .ref x0), (1, .int r1.1)] from rfl) ?_
      exact kx9_clause_48 M x0 r1.1 r4.2.1 hf hkn
end
theorem dX9_read_0 : decode cX9_read 0 = .ok (.iconst 1, 1) := by decide +kernel
theorem dX9_read_1 : decode cX9_read 1 = .ok (.istore_n 1, 1) := by decide +kernel
theorem dX9_read_2 : decode cX9_read 2 = .ok (.iload_n 1, 1) := by decide +kernel
theorem dX9_read_3 : decode cX9_read 3 = .ok (.ifCond .eq 52, 3) := by decide +kernel
theorem dX9_read_6 : decode cX9_read 6 = .ok (.aload_n 0, 1) := by decide +kernel
theorem dX9_read_7 : decode cX9_read 7 = .ok (.invokevirtual 53, 3) := by decide +kernel
theorem dX9_read_10 : decode cX9_read 10 = .ok (.ifCond .eq 45, 3) := by decide +kernel
theorem dX9_read_13 : decode cX9_read 13 = .ok (.aload_n 0, 1) := by decide +kernel
theorem dX9_read_14 : decode cX9_read 14 = .ok (.invokevirtual 149, 3) := by decide +kernel
theorem dX9_read_17 : decode cX9_read 17 = .ok (.aload_n 0, 1) := by decide +kernel
theorem dX9_read_18 : decode cX9_read 18 = .ok (.invokevirtual 53, 3) := by decide +kernel
theorem dX9_read_21 : decode cX9_read 21 = .ok (.ifCond .eq 19, 3) := by decide +kernel
theorem dX9_read_24 : decode cX9_read 24 = .ok (.aload_n 0, 1) := by decide +kernel
theorem dX9_read_25 : decode cX9_read 25 = .ok (.getfield 32, 3) := by decide +kernel
theorem dX9_read_28 : decode cX9_read 28 = .ok (.aload_n 0, 1) := by decide +kernel
theorem dX9_read_29 : decode cX9_read 29 = .ok (.getfield 28, 3) := by decide +kernel
theorem dX9_read_32 : decode cX9_read 32 = .ok (.arraylength, 1) := by decide +kernel
theorem dX9_read_33 : decode cX9_read 33 = .ok (.if_icmp .ge 7, 3) := by decide +kernel
theorem dX9_read_36 : decode cX9_read 36 = .ok (.iconst 1, 1) := by decide +kernel
theorem dX9_read_37 : decode cX9_read 37 = .ok (.goto 4, 3) := by decide +kernel
theorem dX9_read_40 : decode cX9_read 40 = .ok (.iconst 0, 1) := by decide +kernel
theorem dX9_read_41 : decode cX9_read 41 = .ok (.istore_n 1, 1) := by decide +kernel
theorem dX9_read_42 : decode cX9_read 42 = .ok (.iload_n 1, 1) := by decide +kernel
theorem dX9_read_43 : decode cX9_read 43 = .ok (.ifCond .eq (-41), 3) := by decide +kernel
theorem dX9_read_46 : decode cX9_read 46 = .ok (.aload_n 0, 1) := by decide +kernel
theorem dX9_read_47 : decode cX9_read 47 = .ok (.bipush 59, 2) := by decide +kernel
theorem dX9_read_49 : decode cX9_read 49 = .ok (.invokevirtual 66, 3) := by decide +kernel
theorem dX9_read_52 : decode cX9_read 52 = .ok (.goto (-50), 3) := by decide +kernel
theorem dX9_read_55 : decode cX9_read 55 = .ok (.aload_n 0, 1) := by decide +kernel
theorem dX9_read_56 : decode cX9_read 56 = .ok (.invokevirtual 53, 3) := by decide +kernel
theorem dX9_read_59 : decode cX9_read 59 = .ok (.ifCond .eq 7, 3) := by decide +kernel
theorem dX9_read_62 : decode cX9_read 62 = .ok (.iconst 0, 1) := by decide +kernel
theorem dX9_read_63 : decode cX9_read 63 = .ok (.goto 16, 3) := by decide +kernel
theorem dX9_read_66 : decode cX9_read 66 = .ok (.sipush (-1000), 3) := by decide +kernel
theorem dX9_read_69 : decode cX9_read 69 = .ok (.aload_n 0, 1) := by decide +kernel
theorem dX9_read_70 : decode cX9_read 70 = .ok (.getfield 35, 3) := by decide +kernel
theorem dX9_read_73 : decode cX9_read 73 = .ok (.imul, 1) := by decide +kernel
theorem dX9_read_74 : decode cX9_read 74 = .ok (.aload_n 0, 1) := by decide +kernel
theorem dX9_read_75 : decode cX9_read 75 = .ok (.getfield 38, 3) := by decide +kernel
theorem dX9_read_78 : decode cX9_read 78 = .ok (.isub, 1) := by decide +kernel
theorem dX9_read_79 : decode cX9_read 79 = .ok (.ireturn, 1) := by decide +kernel
section
variable {v : Int32}
noncomputable def x9_read_41 (F : Nat) (K55 : Int32 × XS → XR Int32) (R : Int32 × XS → XR Int32) (x0 : Nat) (u0 : Int32) (τ : XS) : XR Int32 :=
  if u0 = 0 then (R (u0, τ)) else (if isC τ x0 [9] = true then (x9_must F x0 59 τ).bind (fun r1 => tk r1.2.2.1 r1.2.2.2 (R (u0, r1.2.1))) else none)
theorem kx9_read_41 (M : XC γ cX9_read 2 RX9 "read" G o B 68 (some .int) (xQi G o B v τr) c0 s0) (x0 : Nat) (u0 : Int32) (K55 : Int32 × XS → XR Int32) (hK55 : ∀ a c s, K55 a = some (v, τr, c, s) → ∀ k n, k + c ≤ c0 ∧ n + s ≤ s0 → J γ (XW G o B a.2) k n 55 [(0, .ref x0)] []) (R : Int32 × XS → XR Int32) (hR : ∀ a c s, R a = some (v, τr, c, s) → ∀ k n, k + c ≤ c0 ∧ n + s ≤ s0 → J γ (XW G o B a.2) k n 2 [(0, .ref x0), (1, .int a.1)] []) (τ : XS) {c s k n : Nat} (hf : x9_read_41 F K55 R x0 u0 τ = some (v, τr, c, s)) (hkn : k + c ≤ c0 ∧ n + s ≤ s0) : J γ (XW G o B τ) k n 41 [(0, .ref x0)] [.int u0] := by
  unfold x9_read_41 at hf
  refine j_istore_n (pc := 41) M.1 [(1, .int u0), (0, .ref x0)] dX9_read_41 rfl rfl ?_
  refine j_iload_n (pc := 42) M.1 dX9_read_42 0 rfl ?_
  refine j_if_eq (pc := 43) M.1 2 dX9_read_43 rfl (fun b1 => ?_) (fun b1 => ?_)
  · replace hf := o_pos b1 hf
    refine j_sub [1, 0] (show lv_pick _ _ = [(0, .ref x0), (1, .int u0)] from rfl) ?_
    have hy := hR _ _ _ hf _ _ hkn
    exact hy
  · replace hf := o_neg b1 hf
    refine j_aload_n (pc := 46) M.1 dX9_read_46 1 rfl ?_
    refine j_bipush (pc := 47) M.1 dX9_read_47 kc_bipush_59 ?_
    obtain ⟨b2, hf⟩ := o_need hf
    obtain ⟨r1, g1, hf⟩ := o_bind hf
    obtain ⟨c1, s1, hf, hc1, hs1⟩ := o_tk hf
    replace hkn := kn_step hkn hc1 hs1
    refine jx_v (r := r1.1) M (x_runW (pc := 49) (As := [.int 59]) (rest := []) M xcw_X9_66 (met_x9_must g1) b2 (by decide) rfl rfl rfl dX9_read_49 (kn_le hkn)) ?_
    refine j_goto (pc := 52) M.1 2 dX9_read_52 rfl ?_
    refine j_sub [1, 0] (show lv_pick _ _ = [(0, .ref x0), (1, .int u0)] from rfl) ?_
    have hy := hR _ _ _ hf _ _ hkn
    exact hy
noncomputable def x9_read_B2 (F : Nat) (K55 : Int32 × XS → XR Int32) (x0 : Nat) (R : Int32 × XS → XR Int32) (a : Int32 × XS) : XR Int32 :=
  if a.1 = 0 then (K55 (a.1, a.2)) else (if isC a.2 x0 [9] = true then (x9_isGood F x0 a.2).bind (fun r1 => tk r1.2.2.1 r1.2.2.2 (if r1.1 = 0 then (K55 (a.1, r1.2.1)) else (if isC r1.2.1 x0 [9] = true then (x9_clause F x0 r1.2.1).bind (fun r2 => tk r2.2.2.1 r2.2.2.2 (if isC r2.2.1 x0 [9] = true then (x9_isGood F x0 r2.2.1).bind (fun r3 => tk r3.2.2.1 r3.2.2.2 (if r3.1 = 0 then (x9_read_41 F K55 R x0 0 r3.2.1) else ((gI r3.2.1 x0 [9] 6).bind (fun v1 => (gN r3.2.1 x0 [9] 5).bind (fun n1 => (gA r3.2.1 n1 1).bind (fun A1 => if (nI A1.1) ≤ v1 then (x9_read_41 F K55 R x0 0 r3.2.1) else (x9_read_41 F K55 R x0 1 r3.2.1))))))) else none)) else none))) else none)
theorem kx9_read_B2 (M : XC γ cX9_read 2 RX9 "read" G o B 68 (some .int) (xQi G o B v τr) c0 s0) (x0 : Nat) (K55 : Int32 × XS → XR Int32) (hK55 : ∀ a c s, K55 a = some (v, τr, c, s) → ∀ k n, k + c ≤ c0 ∧ n + s ≤ s0 → J γ (XW G o B a.2) k n 55 [(0, .ref x0)] []) : ∀ R : Int32 × XS → XR Int32, (∀ a c s, R a = some (v, τr, c, s) → ∀ k n, k + c ≤ c0 ∧ n + s ≤ s0 → J γ (XW G o B a.2) k n 2 [(0, .ref x0), (1, .int a.1)] []) → ∀ a c s, x9_read_B2 F K55 x0 R a = some (v, τr, c, s) → ∀ k n, k + c ≤ c0 ∧ n + s ≤ s0 → J γ (XW G o B a.2) k n 2 [(0, .ref x0), (1, .int a.1)] [] := by
  intro R hR a c s hf k n hkn
  unfold x9_read_B2 at hf
  refine j_iload_n (pc := 2) M.1 dX9_read_2 1 rfl ?_
  refine j_if_eq (pc := 3) M.1 55 dX9_read_3 rfl (fun b1 => ?_) (fun b1 => ?_)
  · replace hf := o_pos b1 hf
    refine j_sub [0] (show lv_pick _ _ = [(0, .ref x0)] from rfl) ?_
    have hy := hK55 _ _ _ hf _ _ hkn
    exact hy
  · replace hf := o_neg b1 hf
    refine j_aload_n (pc := 6) M.1 dX9_read_6 0 rfl ?_
    obtain ⟨b2, hf⟩ := o_need hf
    obtain ⟨r1, g1, hf⟩ := o_bind hf
    obtain ⟨c1, s1, hf, hc1, hs1⟩ := o_tk hf
    replace hkn := kn_step hkn hc1 hs1
    refine jx_i M (x_runW (pc := 7) (As := []) (rest := []) M xcw_X9_53 (met_x9_isGood g1) b2 (by decide) rfl rfl rfl dX9_read_7 (kn_le hkn)) ?_
    refine j_if_eq (pc := 10) M.1 55 dX9_read_10 rfl (fun b3 => ?_) (fun b3 => ?_)
    · replace hf := o_pos b3 hf
      refine j_sub [0] (show lv_pick _ _ = [(0, .ref x0)] from rfl) ?_
      have hy := hK55 _ _ _ hf _ _ hkn
      exact hy
    · replace hf := o_neg b3 hf
      refine j_aload_n (pc := 13) M.1 dX9_read_13 0 rfl ?_
      obtain ⟨b4, hf⟩ := o_need hf
      obtain ⟨r2, g2, hf⟩ := o_bind hf
      obtain ⟨c2, s2, hf, hc2, hs2⟩ := o_tk hf
      replace hkn := kn_step hkn hc2 hs2
      refine jx_v (r := r2.1) M (x_runW (pc := 14) (As := []) (rest := []) M xcw_X9_149 (met_x9_clause g2) b4 (by decide) rfl rfl rfl dX9_read_14 (kn_le hkn)) ?_
      refine j_aload_n (pc := 17) M.1 dX9_read_17 0 rfl ?_
      obtain ⟨b5, hf⟩ := o_need hf
      obtain ⟨r3, g3, hf⟩ := o_bind hf
      obtain ⟨c3, s3, hf, hc3, hs3⟩ := o_tk hf
      replace hkn := kn_step hkn hc3 hs3
      refine jx_i M (x_runW (pc := 18) (As := []) (rest := []) M xcw_X9_53 (met_x9_isGood g3) b5 (by decide) rfl rfl rfl dX9_read_18 (kn_le hkn)) ?_
      refine j_if_eq (pc := 21) M.1 40 dX9_read_21 rfl (fun b6 => ?_) (fun b6 => ?_)
      · replace hf := o_pos b6 hf
        refine j_iconst (pc := 40) M.1 dX9_read_40 kc_iconst_0 ?_
        refine j_sub [0] (show lv_pick _ _ = [(0, .ref x0)] from rfl) ?_
        exact kx9_read_41 M x0 0 K55 hK55 R hR r3.2.1 hf hkn
      · replace hf := o_neg b6 hf
        refine j_aload_n (pc := 24) M.1 dX9_read_24 0 rfl ?_
        obtain ⟨v1, g4, hf⟩ := o_bind hf
        refine jx_getI (pc := 25) M xfl_X9_32 g4 dX9_read_25 ?_
        refine j_aload_n (pc := 28) M.1 dX9_read_28 0 rfl ?_
        obtain ⟨n1, g5, hf⟩ := o_bind hf
        refine jx_getN (pc := 29) M xfl_X9_28 g5 dX9_read_29 ?_
        obtain ⟨A1, g6, hf⟩ := o_bind hf
        refine jx_alen (pc := 32) M (fun _ => rfl) g6 dX9_read_32 ?_
        refine j_icmp_ge (pc := 33) M.1 40 dX9_read_33 rfl (fun b7 => ?_) (fun b7 => ?_)
        · replace hf := o_pos b7 hf
          refine j_iconst (pc := 40) M.1 dX9_read_40 kc_iconst_0 ?_
          refine j_sub [0] (show lv_pick _ _ = [(0, .ref x0)] from rfl) ?_
          exact kx9_read_41 M x0 0 K55 hK55 R hR r3.2.1 hf hkn
        · replace hf := o_neg b7 hf
          refine j_iconst (pc := 36) M.1 dX9_read_36 kc_iconst_1 ?_
          refine j_goto (pc := 37) M.1 41 dX9_read_37 rfl ?_
          refine j_sub [0] (show lv_pick _ _ = [(0, .ref x0)] from rfl) ?_
          exact kx9_read_41 M x0 1 K55 hK55 R hR r3.2.1 hf hkn
noncomputable def x9_read_55 (F : Nat) (x0 : Nat) (τ : XS) : XR Int32 :=
  if isC τ x0 [9] = true then (x9_isGood F x0 τ).bind (fun r1 => tk r1.2.2.1 r1.2.2.2 (if r1.1 = 0 then ((gI r1.2.1 x0 [9] 8).bind (fun v1 => (gI r1.2.1 x0 [9] 9).bind (fun v2 => some ((((-1000)) * v1) - v2, r1.2.1, 0, 0)))) else (some (0, r1.2.1, 0, 0)))) else none
theorem kx9_read_55 (M : XC γ cX9_read 2 RX9 "read" G o B 68 (some .int) (xQi G o B v τr) c0 s0) (x0 : Nat) (τ : XS) {c s k n : Nat} (hf : x9_read_55 F x0 τ = some (v, τr, c, s)) (hkn : k + c ≤ c0 ∧ n + s ≤ s0) : J γ (XW G o B τ) k n 55 [(0, .ref x0)] [] := by
  unfold x9_read_55 at hf
  refine j_aload_n (pc := 55) M.1 dX9_read_55 0 rfl ?_
  obtain ⟨b1, hf⟩ := o_need hf
  obtain ⟨r1, g1, hf⟩ := o_bind hf
  obtain ⟨c1, s1, hf, hc1, hs1⟩ := o_tk hf
  replace hkn := kn_step hkn hc1 hs1
  refine jx_i M (x_runW (pc := 56) (As := []) (rest := []) M xcw_X9_53 (met_x9_isGood g1) b1 (by decide) rfl rfl rfl dX9_read_56 (kn_le hkn)) ?_
  refine j_if_eq (pc := 59) M.1 66 dX9_read_59 rfl (fun b2 => ?_) (fun b2 => ?_)
  · replace hf := o_pos b2 hf
    refine j_sipush (pc := 66) M.1 dX9_read_66 kc_sipush_m1000 ?_
    refine j_aload_n (pc := 69) M.1 dX9_read_69 0 rfl ?_
    obtain ⟨v1, g2, hf⟩ := o_bind hf
    refine jx_getI (pc := 70) M xfl_X9_35 g2 dX9_read_70 ?_
    refine j_imul (pc := 73) M.1 dX9_read_73 ?_
    refine j_aload_n (pc := 74) M.1 dX9_read_74 0 rfl ?_
    obtain ⟨v2, g3, hf⟩ := o_bind hf
    refine jx_getI (pc := 75) M xfl_X9_38 g3 dX9_read_75 ?_
    refine j_isub (pc := 78) M.1 dX9_read_78 ?_
    exact jx_iretF (pc := 79) M dX9_read_79 hf hkn
  · replace hf := o_neg b2 hf
    refine j_iconst (pc := 62) M.1 dX9_read_62 kc_iconst_0 ?_
    refine j_goto (pc := 63) M.1 79 dX9_read_63 rfl ?_
    exact jx_iretF (pc := 79) M dX9_read_79 hf hkn
noncomputable def x9_read (F : Nat) (x0 : Nat) (τ : XS) : XR Int32 :=
  lp (x9_read_B2 F (fun a1 => x9_read_55 F x0 a1.2) x0) F (1, τ)
theorem met_x9_read {l : Launch} {G : gG} {o B F : Nat} {x0 : Nat} {τ : XS} {r : Int32 × XS × Nat × Nat} (hf : x9_read F x0 τ = some r) : MetX l G o B yX9_read cX9_read 2 (some .int) 68 [.ref x0] τ (xQi G o B r.1 r.2.1) r.2.2.1 r.2.2.2 := by
  obtain ⟨v, τr, c, s⟩ := r
  refine metX_of (own := RX9) (mn := "read") (by decide) rfl rfl rfl (fun γ hγ M => ?_)
  subst hγ
  show J γ (XW G o B τ) 0 0 0 [(0, .ref x0)] []
  have hkn : 0 + c ≤ c ∧ 0 + s ≤ s := ⟨by omega, by omega⟩
  unfold x9_read at hf
  refine j_iconst (pc := 0) M.1 dX9_read_0 kc_iconst_1 ?_
  refine j_istore_n (pc := 1) M.1 [(1, .int 1), (0, .ref x0)] dX9_read_1 rfl rfl ?_
  refine j_sub [1, 0] (show lv_pick _ _ = [(0, .ref x0), (1, .int 1)] from rfl) ?_
  refine lp_Wc (kx9_read_B2 M x0 _ ?_) F (1, τ) _ _ hf _ _ hkn
  · intro a1 c s hf k n hkn
    exact kx9_read_55 M x0 a1.2 hf hkn
end
theorem dX0_rules_0 : decode cX0_rules 0 = .ok (.iload_n 1, 1) := by decide +kernel
theorem dX0_rules_1 : decode cX0_rules 1 = .ok (.invokestatic 154, 3) := by decide +kernel
theorem dX0_rules_4 : decode cX0_rules 4 = .ok (.ifCond .eq 44, 3) := by decide +kernel
theorem dX0_rules_7 : decode cX0_rules 7 = .ok (.iload_n 2, 1) := by decide +kernel
theorem dX0_rules_8 : decode cX0_rules 8 = .ok (.invokestatic 154, 3) := by decide +kernel
theorem dX0_rules_11 : decode cX0_rules 11 = .ok (.ifCond .eq 37, 3) := by decide +kernel
theorem dX0_rules_14 : decode cX0_rules 14 = .ok (.iload_n 2, 1) := by decide +kernel
theorem dX0_rules_15 : decode cX0_rules 15 = .ok (.iload_n 1, 1) := by decide +kernel
theorem dX0_rules_16 : decode cX0_rules 16 = .ok (.if_icmp .lt 32, 3) := by decide +kernel
theorem dX0_rules_19 : decode cX0_rules 19 = .ok (.iload_n 3, 1) := by decide +kernel
theorem dX0_rules_20 : decode cX0_rules 20 = .ok (.iconst 1, 1) := by decide +kernel
theorem dX0_rules_21 : decode cX0_rules 21 = .ok (.if_icmp .lt 27, 3) := by decide +kernel
theorem dX0_rules_24 : decode cX0_rules 24 = .ok (.iload_n 3, 1) := by decide +kernel
theorem dX0_rules_25 : decode cX0_rules 25 = .ok (.sipush 160, 3) := by decide +kernel
theorem dX0_rules_28 : decode cX0_rules 28 = .ok (.if_icmp .gt 20, 3) := by decide +kernel
theorem dX0_rules_31 : decode cX0_rules 31 = .ok (.iload_n 3, 1) := by decide +kernel
theorem dX0_rules_32 : decode cX0_rules 32 = .ok (.aload_n 0, 1) := by decide +kernel
theorem dX0_rules_33 : decode cX0_rules 33 = .ok (.getfield 264, 3) := by decide +kernel
theorem dX0_rules_36 : decode cX0_rules 36 = .ok (.if_icmp .gt 12, 3) := by decide +kernel
theorem dX0_rules_39 : decode cX0_rules 39 = .ok (.aload_n 0, 1) := by decide +kernel
theorem dX0_rules_40 : decode cX0_rules 40 = .ok (.getfield 271, 3) := by decide +kernel
theorem dX0_rules_43 : decode cX0_rules 43 = .ok (.bipush 20, 2) := by decide +kernel
theorem dX0_rules_45 : decode cX0_rules 45 = .ok (.if_icmp .ne 5, 3) := by decide +kernel
theorem dX0_rules_48 : decode cX0_rules 48 = .ok (.iconst (-1), 1) := by decide +kernel
theorem dX0_rules_49 : decode cX0_rules 49 = .ok (.ireturn, 1) := by decide +kernel
theorem dX0_rules_50 : decode cX0_rules 50 = .ok (.aload_n 0, 1) := by decide +kernel
theorem dX0_rules_51 : decode cX0_rules 51 = .ok (.iconst 0, 1) := by decide +kernel
theorem dX0_rules_52 : decode cX0_rules 52 = .ok (.putfield 264, 3) := by decide +kernel
theorem dX0_rules_55 : decode cX0_rules 55 = .ok (.new 51, 3) := by decide +kernel
theorem dX0_rules_58 : decode cX0_rules 58 = .ok (.dup, 1) := by decide +kernel
theorem dX0_rules_59 : decode cX0_rules 59 = .ok (.iload_n 1, 1) := by decide +kernel
theorem dX0_rules_60 : decode cX0_rules 60 = .ok (.iload_n 2, 1) := by decide +kernel
theorem dX0_rules_61 : decode cX0_rules 61 = .ok (.aload_n 0, 1) := by decide +kernel
theorem dX0_rules_62 : decode cX0_rules 62 = .ok (.getfield 41, 3) := by decide +kernel
theorem dX0_rules_65 : decode cX0_rules 65 = .ok (.iload_n 3, 1) := by decide +kernel
theorem dX0_rules_66 : decode cX0_rules 66 = .ok (.invokespecial 274, 3) := by decide +kernel
theorem dX0_rules_69 : decode cX0_rules 69 = .ok (.astore 4, 2) := by decide +kernel
theorem dX0_rules_71 : decode cX0_rules 71 = .ok (.aload 4, 2) := by decide +kernel
theorem dX0_rules_73 : decode cX0_rules 73 = .ok (.invokevirtual 277, 3) := by decide +kernel
theorem dX0_rules_76 : decode cX0_rules 76 = .ok (.istore 5, 2) := by decide +kernel
theorem dX0_rules_78 : decode cX0_rules 78 = .ok (.iload 5, 2) := by decide +kernel
theorem dX0_rules_80 : decode cX0_rules 80 = .ok (.ifCond .ge 6, 3) := by decide +kernel
theorem dX0_rules_83 : decode cX0_rules 83 = .ok (.iload 5, 2) := by decide +kernel
theorem dX0_rules_85 : decode cX0_rules 85 = .ok (.ireturn, 1) := by decide +kernel
theorem dX0_rules_86 : decode cX0_rules 86 = .ok (.aload_n 0, 1) := by decide +kernel
theorem dX0_rules_87 : decode cX0_rules 87 = .ok (.getfield 53, 3) := by decide +kernel
theorem dX0_rules_90 : decode cX0_rules 90 = .ok (.aload_n 0, 1) := by decide +kernel
theorem dX0_rules_91 : decode cX0_rules 91 = .ok (.getfield 271, 3) := by decide +kernel
theorem dX0_rules_94 : decode cX0_rules 94 = .ok (.aload 4, 2) := by decide +kernel
theorem dX0_rules_96 : decode cX0_rules 96 = .ok (.aastore, 1) := by decide +kernel
theorem dX0_rules_97 : decode cX0_rules 97 = .ok (.aload_n 0, 1) := by decide +kernel
theorem dX0_rules_98 : decode cX0_rules 98 = .ok (.dup, 1) := by decide +kernel
theorem dX0_rules_99 : decode cX0_rules 99 = .ok (.getfield 271, 3) := by decide +kernel
theorem dX0_rules_102 : decode cX0_rules 102 = .ok (.iconst 1, 1) := by decide +kernel
theorem dX0_rules_103 : decode cX0_rules 103 = .ok (.iadd, 1) := by decide +kernel
theorem dX0_rules_104 : decode cX0_rules 104 = .ok (.putfield 271, 3) := by decide +kernel
theorem dX0_rules_107 : decode cX0_rules 107 = .ok (.aload_n 0, 1) := by decide +kernel
theorem dX0_rules_108 : decode cX0_rules 108 = .ok (.getfield 271, 3) := by decide +kernel
theorem dX0_rules_111 : decode cX0_rules 111 = .ok (.iconst 1, 1) := by decide +kernel
theorem dX0_rules_112 : decode cX0_rules 112 = .ok (.isub, 1) := by decide +kernel
theorem dX0_rules_113 : decode cX0_rules 113 = .ok (.ireturn, 1) := by decide +kernel
section
variable {v : Int32}
noncomputable def x0_rules (F : Nat) (x1 : Int32) (x2 : Int32) (x3 : Int32) (τ : XS) : XR Int32 :=
  (x0_isWeek F x1).bind (fun r1 => if r1 = 0 then (some ((-1), τ, 0, 0)) else ((x0_isWeek F x2).bind (fun r2 => if r2 = 0 then (some ((-1), τ, 0, 0)) else (if x2 < x1 then (some ((-1), τ, 0, 0)) else (if x3 < 1 then (some ((-1), τ, 0, 0)) else (if 160 < x3 then (some ((-1), τ, 0, 0)) else (if (τ.1.1 5) < x3 then (some ((-1), τ, 0, 0)) else (if (τ.1.1 14) = 20 then (some ((-1), τ, 0, 0)) else (nx (xS τ 5 0) (fun τ1 => nx (xN τ1 (.inr (9, fun q => defaultValue (tyX9 q)))) (fun τ2 => tk 1 10 ((x9_init F τ1.2.2.2.2 x1 x2 x3 τ2).bind (fun r3 => tk r3.2.2.1 r3.2.2.2 (if isC r3.2.1 τ1.2.2.2.2 [9] = true then (x9_read F τ1.2.2.2.2 r3.2.1).bind (fun r4 => tk r4.2.2.1 r4.2.2.2 (if 0 ≤ r4.1 then (if isC r4.2.1 τ1.2.2.2.2 [9] = true then if okI (r4.2.1.1.1 14) 20 = true then nx (xR r4.2.1 6 (r4.2.1.1.1 14).toNatClampNeg (some τ1.2.2.2.2)) (fun τ3 => nx (xS τ3 14 ((τ3.1.1 14) + 1)) (fun τ4 => some ((τ4.1.1 14) - 1, τ4, 0, 0))) else none else none) else (some (r4.1, r4.2.1, 0, 0)))) else none))))))))))))))
theorem met_x0_rules {l : Launch} {G : gG} {o B F : Nat} {x1 : Int32} {x2 : Int32} {x3 : Int32} {τ : XS} {r : Int32 × XS × Nat × Nat} (hf : x0_rules F x1 x2 x3 τ = some r) : MetX l G o B yX0_rules cX0_rules 6 (some .int) 69 [.ref o, .int x1, .int x2, .int x3] τ (xQi G o B r.1 r.2.1) r.2.2.1 r.2.2.2 := by
  obtain ⟨v, τr, c, s⟩ := r
  refine metX_of (own := RX0) (mn := "rules") (by decide) rfl rfl rfl (fun γ hγ M => ?_)
  subst hγ
  show J γ (XW G o B τ) 0 0 0 [(0, .ref o), (1, .int x1), (2, .int x2), (3, .int x3)] []
  have hkn : 0 + c ≤ c ∧ 0 + s ≤ s := ⟨by omega, by omega⟩
  unfold x0_rules at hf
  refine j_iload_n (pc := 0) M.1 dX0_rules_0 1 rfl ?_
  obtain ⟨r1, g1, hf⟩ := o_bind hf
  refine jx_calls (pc := 1) (As := [.int x1]) (rest := []) M xcs_X0_154 (met_x0_isWeek g1) rfl rfl rfl rfl dX0_rules_1 (kn_le0 hkn) ?_
  refine j_if_eq (pc := 4) M.1 48 dX0_rules_4 rfl (fun b1 => ?_) (fun b1 => ?_)
  · replace hf := o_pos b1 hf
    refine j_iconst (pc := 48) M.1 dX0_rules_48 kc_iconst_m1 ?_
    exact jx_iretF (pc := 49) M dX0_rules_49 hf hkn
  · replace hf := o_neg b1 hf
    refine j_iload_n (pc := 7) M.1 dX0_rules_7 2 rfl ?_
    obtain ⟨r2, g2, hf⟩ := o_bind hf
    refine jx_calls (pc := 8) (As := [.int x2]) (rest := []) M xcs_X0_154 (met_x0_isWeek g2) rfl rfl rfl rfl dX0_rules_8 (kn_le0 hkn) ?_
    refine j_if_eq (pc := 11) M.1 48 dX0_rules_11 rfl (fun b2 => ?_) (fun b2 => ?_)
    · replace hf := o_pos b2 hf
      refine j_iconst (pc := 48) M.1 dX0_rules_48 kc_iconst_m1 ?_
      exact jx_iretF (pc := 49) M dX0_rules_49 hf hkn
    · replace hf := o_neg b2 hf
      refine j_iload_n (pc := 14) M.1 dX0_rules_14 2 rfl ?_
      refine j_iload_n (pc := 15) M.1 dX0_rules_15 1 rfl ?_
      refine j_icmp_lt (pc := 16) M.1 48 dX0_rules_16 rfl (fun b3 => ?_) (fun b3 => ?_)
      · replace hf := o_pos b3 hf
        refine j_iconst (pc := 48) M.1 dX0_rules_48 kc_iconst_m1 ?_
        exact jx_iretF (pc := 49) M dX0_rules_49 hf hkn
      · replace hf := o_neg b3 hf
        refine j_iload_n (pc := 19) M.1 dX0_rules_19 3 rfl ?_
        refine j_iconst (pc := 20) M.1 dX0_rules_20 kc_iconst_1 ?_
        refine j_icmp_lt (pc := 21) M.1 48 dX0_rules_21 rfl (fun b4 => ?_) (fun b4 => ?_)
        · replace hf := o_pos b4 hf
          refine j_iconst (pc := 48) M.1 dX0_rules_48 kc_iconst_m1 ?_
          exact jx_iretF (pc := 49) M dX0_rules_49 hf hkn
        · replace hf := o_neg b4 hf
          refine j_iload_n (pc := 24) M.1 dX0_rules_24 3 rfl ?_
          refine j_sipush (pc := 25) M.1 dX0_rules_25 kc_sipush_160 ?_
          refine j_icmp_gt (pc := 28) M.1 48 dX0_rules_28 rfl (fun b5 => ?_) (fun b5 => ?_)
          · replace hf := o_pos b5 hf
            refine j_iconst (pc := 48) M.1 dX0_rules_48 kc_iconst_m1 ?_
            exact jx_iretF (pc := 49) M dX0_rules_49 hf hkn
          · replace hf := o_neg b5 hf
            refine j_iload_n (pc := 31) M.1 dX0_rules_31 3 rfl ?_
            refine j_aload_n (pc := 32) M.1 dX0_rules_32 0 rfl ?_
            refine jx_getS (pc := 33) M xfs_264 dX0_rules_33 ?_
            refine j_icmp_gt (pc := 36) M.1 48 dX0_rules_36 rfl (fun b6 => ?_) (fun b6 => ?_)
            · replace hf := o_pos b6 hf
              refine j_iconst (pc := 48) M.1 dX0_rules_48 kc_iconst_m1 ?_
              exact jx_iretF (pc := 49) M dX0_rules_49 hf hkn
            · replace hf := o_neg b6 hf
              refine j_aload_n (pc := 39) M.1 dX0_rules_39 0 rfl ?_
              refine jx_getS (pc := 40) M xfs_271 dX0_rules_40 ?_
              refine j_bipush (pc := 43) M.1 dX0_rules_43 kc_bipush_20 ?_
              refine j_icmp_ne (pc := 45) M.1 50 dX0_rules_45 rfl (fun b7 => ?_) (fun b7 => ?_)
              · replace hf := o_neg b7 hf
                refine j_aload_n (pc := 50) M.1 dX0_rules_50 0 rfl ?_
                refine j_iconst (pc := 51) M.1 dX0_rules_51 kc_iconst_0 ?_
                obtain ⟨τ1, e1, hf⟩ := o_nx hf
                refine jx_putS (pc := 52) M xfs_264 dX0_rules_52 e1 ?_
                obtain ⟨τ2, e2, hf⟩ := o_nx hf
                obtain ⟨c1, s1, hf, hc1, hs1⟩ := o_tk hf
                replace hkn := kn_step hkn hc1 hs1
                refine jx_new (pc := 55) M xnew_X0_51 dX0_rules_55 (kn_le hkn) e2 ?_
                refine j_dup (pc := 58) M.1 dX0_rules_58 rfl ?_
                refine j_iload_n (pc := 59) M.1 dX0_rules_59 1 rfl ?_
                refine j_iload_n (pc := 60) M.1 dX0_rules_60 2 rfl ?_
                refine j_aload_n (pc := 61) M.1 dX0_rules_61 0 rfl ?_
                refine jx_getA (pc := 62) M xfa_41 dX0_rules_62 ?_
                refine j_iload_n (pc := 65) M.1 dX0_rules_65 3 rfl ?_
                obtain ⟨r3, g3, hf⟩ := o_bind hf
                obtain ⟨c2, s2, hf, hc2, hs2⟩ := o_tk hf
                replace hkn := kn_step hkn hc2 hs2
                refine jx_v (r := r3.1) M (x_runI (pc := 66) (As := [.int x1, .int x2, .ref (o + 1 + 4), .int x3]) (rest := [.ref τ1.2.2.2.2]) M xci_X0_274 (met_x9_init g3) (by decide) rfl rfl rfl dX0_rules_66 (kn_le hkn)) ?_
                refine j_astore (pc := 69) M.1 [(4, .ref τ1.2.2.2.2), (0, .ref o), (1, .int x1), (2, .int x2), (3, .int x3)] dX0_rules_69 rfl rfl ?_
                refine j_aload (pc := 71) M.1 dX0_rules_71 0 rfl ?_
                obtain ⟨b8, hf⟩ := o_need hf
                obtain ⟨r4, g4, hf⟩ := o_bind hf
                obtain ⟨c3, s3, hf, hc3, hs3⟩ := o_tk hf
                replace hkn := kn_step hkn hc3 hs3
                refine jx_i M (x_runW (pc := 73) (As := []) (rest := []) M xcw_X0_277 (met_x9_read g4) b8 (by decide) rfl rfl rfl dX0_rules_73 (kn_le hkn)) ?_
                refine j_istore (pc := 76) M.1 [(5, .int r4.1), (4, .ref τ1.2.2.2.2), (0, .ref o), (1, .int x1), (2, .int x2), (3, .int x3)] dX0_rules_76 rfl rfl ?_
                refine j_iload (pc := 78) M.1 dX0_rules_78 0 rfl ?_
                refine j_if_ge (pc := 80) M.1 86 dX0_rules_80 rfl (fun b9 => ?_) (fun b9 => ?_)
                · replace hf := o_pos b9 hf
                  refine j_aload_n (pc := 86) M.1 dX0_rules_86 2 rfl ?_
                  refine jx_getA (pc := 87) M xfa_53 dX0_rules_87 ?_
                  refine j_aload_n (pc := 90) M.1 dX0_rules_90 2 rfl ?_
                  refine jx_getS (pc := 91) M xfs_271 dX0_rules_91 ?_
                  refine j_aload (pc := 94) M.1 dX0_rules_94 1 rfl ?_
                  obtain ⟨b10, hf⟩ := o_need hf
                  obtain ⟨b11, hf⟩ := o_need hf
                  obtain ⟨τ3, e3, hf⟩ := o_nx hf
                  refine jx_aast (pc := 96) M xax_6 (by decide) (by decide) xel_6 b10 b11 dX0_rules_96 e3 ?_
                  refine j_aload_n (pc := 97) M.1 dX0_rules_97 2 rfl ?_
                  refine j_dup (pc := 98) M.1 dX0_rules_98 rfl ?_
                  refine jx_getS (pc := 99) M xfs_271 dX0_rules_99 ?_
                  refine j_iconst (pc := 102) M.1 dX0_rules_102 kc_iconst_1 ?_
                  refine j_iadd (pc := 103) M.1 dX0_rules_103 ?_
                  obtain ⟨τ4, e4, hf⟩ := o_nx hf
                  refine jx_putS (pc := 104) M xfs_271 dX0_rules_104 e4 ?_
                  refine j_aload_n (pc := 107) M.1 dX0_rules_107 2 rfl ?_
                  refine jx_getS (pc := 108) M xfs_271 dX0_rules_108 ?_
                  refine j_iconst (pc := 111) M.1 dX0_rules_111 kc_iconst_1 ?_
                  refine j_isub (pc := 112) M.1 dX0_rules_112 ?_
                  exact jx_iretF (pc := 113) M dX0_rules_113 hf hkn
                · replace hf := o_neg b9 hf
                  refine j_iload (pc := 83) M.1 dX0_rules_83 0 rfl ?_
                  exact jx_iretF (pc := 85) M dX0_rules_85 hf hkn
              · replace hf := o_pos b7 hf
                refine j_iconst (pc := 48) M.1 dX0_rules_48 kc_iconst_m1 ?_
                exact jx_iretF (pc := 49) M dX0_rules_49 hf hkn
end
theorem dX19_init_0 : decode cX19_init 0 = .ok (.aload_n 0, 1) := by decide +kernel
theorem dX19_init_1 : decode cX19_init 1 = .ok (.invokespecial 1, 3) := by decide +kernel
theorem dX19_init_4 : decode cX19_init 4 = .ok (.aload_n 0, 1) := by decide +kernel
theorem dX19_init_5 : decode cX19_init 5 = .ok (.iload_n 1, 1) := by decide +kernel
theorem dX19_init_6 : decode cX19_init 6 = .ok (.putfield 7, 3) := by decide +kernel
theorem dX19_init_9 : decode cX19_init 9 = .ok (.aload_n 0, 1) := by decide +kernel
theorem dX19_init_10 : decode cX19_init 10 = .ok (.iload_n 2, 1) := by decide +kernel
theorem dX19_init_11 : decode cX19_init 11 = .ok (.putfield 13, 3) := by decide +kernel
theorem dX19_init_14 : decode cX19_init 14 = .ok (.aload_n 0, 1) := by decide +kernel
theorem dX19_init_15 : decode cX19_init 15 = .ok (.iload_n 3, 1) := by decide +kernel
theorem dX19_init_16 : decode cX19_init 16 = .ok (.putfield 16, 3) := by decide +kernel
theorem dX19_init_19 : decode cX19_init 19 = .ok (.aload_n 0, 1) := by decide +kernel
theorem dX19_init_20 : decode cX19_init 20 = .ok (.iload 4, 2) := by decide +kernel
theorem dX19_init_22 : decode cX19_init 22 = .ok (.putfield 19, 3) := by decide +kernel
theorem dX19_init_25 : decode cX19_init 25 = .ok (.aload_n 0, 1) := by decide +kernel
theorem dX19_init_26 : decode cX19_init 26 = .ok (.iload 5, 2) := by decide +kernel
theorem dX19_init_28 : decode cX19_init 28 = .ok (.putfield 22, 3) := by decide +kernel
theorem dX19_init_31 : decode cX19_init 31 = .ok (.return_, 1) := by decide +kernel
section
variable {v : Int32}
noncomputable def x19_init (F : Nat) (x0 : Nat) (x1 : Int32) (x2 : Int32) (x3 : Int32) (x4 : Int32) (x5 : Int32) (τ : XS) : XR Int32 :=
  (pF τ x0 [19] 0 (.int x1)).bind (fun τ1 => (pF τ1 x0 [19] 1 (.int x2)).bind (fun τ2 => (pF τ2 x0 [19] 2 (.int x3)).bind (fun τ3 => (pF τ3 x0 [19] 3 (.int x4)).bind (fun τ4 => (pF τ4 x0 [19] 4 (.int x5)).bind (fun τ5 => some (0, τ5, 0, 0))))))
theorem met_x19_init {l : Launch} {G : gG} {o B F : Nat} {x0 : Nat} {x1 : Int32} {x2 : Int32} {x3 : Int32} {x4 : Int32} {x5 : Int32} {τ : XS} {r : Int32 × XS × Nat × Nat} (hf : x19_init F x0 x1 x2 x3 x4 x5 τ = some r) : MetX l G o B yX19_init cX19_init 6 none 2 [.ref x0, .int x1, .int x2, .int x3, .int x4, .int x5] τ (xQv G o B r.1 r.2.1) r.2.2.1 r.2.2.2 := by
  obtain ⟨v, τr, c, s⟩ := r
  refine metX_of (own := RX19) (mn := "<init>") (by decide) rfl rfl rfl (fun γ hγ M => ?_)
  subst hγ
  show J γ (XW G o B τ) 0 0 0 [(0, .ref x0), (1, .int x1), (2, .int x2), (3, .int x3), (4, .int x4), (5, .int x5)] []
  have hkn : 0 + c ≤ c ∧ 0 + s ≤ s := ⟨by omega, by omega⟩
  unfold x19_init at hf
  refine j_aload_n (pc := 0) M.1 dX19_init_0 0 rfl ?_
  refine j_objInit (pc := 1) M.1 q893 dX19_init_1 (M.room (by decide)) rfl ?_
  refine j_aload_n (pc := 4) M.1 dX19_init_4 0 rfl ?_
  refine j_iload_n (pc := 5) M.1 dX19_init_5 1 rfl ?_
  obtain ⟨τ1, g1, hf⟩ := o_bind hf
  refine jx_putW (pc := 6) M q894 xfw_X19_7 rfl rfl g1 dX19_init_6 ?_
  refine j_aload_n (pc := 9) M.1 dX19_init_9 0 rfl ?_
  refine j_iload_n (pc := 10) M.1 dX19_init_10 2 rfl ?_
  obtain ⟨τ2, g2, hf⟩ := o_bind hf
  refine jx_putW (pc := 11) M q896 xfw_X19_13 rfl rfl g2 dX19_init_11 ?_
  refine j_aload_n (pc := 14) M.1 dX19_init_14 0 rfl ?_
  refine j_iload_n (pc := 15) M.1 dX19_init_15 3 rfl ?_
  obtain ⟨τ3, g3, hf⟩ := o_bind hf
  refine jx_putW (pc := 16) M q897 xfw_X19_16 rfl rfl g3 dX19_init_16 ?_
  refine j_aload_n (pc := 19) M.1 dX19_init_19 0 rfl ?_
  refine j_iload (pc := 20) M.1 dX19_init_20 4 rfl ?_
  obtain ⟨τ4, g4, hf⟩ := o_bind hf
  refine jx_putW (pc := 22) M q898 xfw_X19_19 rfl rfl g4 dX19_init_22 ?_
  refine j_aload_n (pc := 25) M.1 dX19_init_25 0 rfl ?_
  refine j_iload (pc := 26) M.1 dX19_init_26 5 rfl ?_
  obtain ⟨τ5, g5, hf⟩ := o_bind hf
  refine jx_putW (pc := 28) M q899 xfw_X19_22 rfl rfl g5 dX19_init_28 ?_
  exact jx_vretF (pc := 31) M dX19_init_31 hf hkn
end
theorem dX19_value_0 : decode cX19_value 0 = .ok (.iload_n 1, 1) := by decide +kernel
theorem dX19_value_1 : decode cX19_value 1 = .ok (.bipush 119, 2) := by decide +kernel
theorem dX19_value_3 : decode cX19_value 3 = .ok (.if_icmp .ne 10, 3) := by decide +kernel
theorem dX19_value_6 : decode cX19_value 6 = .ok (.aload_n 0, 1) := by decide +kernel
theorem dX19_value_7 : decode cX19_value 7 = .ok (.getfield 7, 3) := by decide +kernel
theorem dX19_value_10 : decode cX19_value 10 = .ok (.goto 46, 3) := by decide +kernel
theorem dX19_value_13 : decode cX19_value 13 = .ok (.iload_n 1, 1) := by decide +kernel
theorem dX19_value_14 : decode cX19_value 14 = .ok (.bipush 104, 2) := by decide +kernel
theorem dX19_value_16 : decode cX19_value 16 = .ok (.if_icmp .ne 10, 3) := by decide +kernel
theorem dX19_value_19 : decode cX19_value 19 = .ok (.aload_n 0, 1) := by decide +kernel
theorem dX19_value_20 : decode cX19_value 20 = .ok (.getfield 13, 3) := by decide +kernel
theorem dX19_value_23 : decode cX19_value 23 = .ok (.goto 33, 3) := by decide +kernel
theorem dX19_value_26 : decode cX19_value 26 = .ok (.iload_n 1, 1) := by decide +kernel
theorem dX19_value_27 : decode cX19_value 27 = .ok (.bipush 107, 2) := by decide +kernel
theorem dX19_value_29 : decode cX19_value 29 = .ok (.if_icmp .ne 10, 3) := by decide +kernel
theorem dX19_value_32 : decode cX19_value 32 = .ok (.aload_n 0, 1) := by decide +kernel
theorem dX19_value_33 : decode cX19_value 33 = .ok (.getfield 16, 3) := by decide +kernel
theorem dX19_value_36 : decode cX19_value 36 = .ok (.goto 20, 3) := by decide +kernel
theorem dX19_value_39 : decode cX19_value 39 = .ok (.iload_n 1, 1) := by decide +kernel
theorem dX19_value_40 : decode cX19_value 40 = .ok (.bipush 109, 2) := by decide +kernel
theorem dX19_value_42 : decode cX19_value 42 = .ok (.if_icmp .ne 10, 3) := by decide +kernel
theorem dX19_value_45 : decode cX19_value 45 = .ok (.aload_n 0, 1) := by decide +kernel
theorem dX19_value_46 : decode cX19_value 46 = .ok (.getfield 19, 3) := by decide +kernel
theorem dX19_value_49 : decode cX19_value 49 = .ok (.goto 7, 3) := by decide +kernel
theorem dX19_value_52 : decode cX19_value 52 = .ok (.aload_n 0, 1) := by decide +kernel
theorem dX19_value_53 : decode cX19_value 53 = .ok (.getfield 22, 3) := by decide +kernel
theorem dX19_value_56 : decode cX19_value 56 = .ok (.ireturn, 1) := by decide +kernel
section
variable {v : Int32}
noncomputable def x19_value (F : Nat) (x0 : Nat) (x1 : Int32) (τ : XS) : XR Int32 :=
  if x1 = 119 then ((gI τ x0 [19] 0).bind (fun v5 => some (v5, τ, 0, 0))) else (if x1 = 104 then ((gI τ x0 [19] 1).bind (fun v4 => some (v4, τ, 0, 0))) else (if x1 = 107 then ((gI τ x0 [19] 2).bind (fun v3 => some (v3, τ, 0, 0))) else (if x1 = 109 then ((gI τ x0 [19] 3).bind (fun v2 => some (v2, τ, 0, 0))) else ((gI τ x0 [19] 4).bind (fun v1 => some (v1, τ, 0, 0))))))
theorem met_x19_value {l : Launch} {G : gG} {o B F : Nat} {x0 : Nat} {x1 : Int32} {τ : XS} {r : Int32 × XS × Nat × Nat} (hf : x19_value F x0 x1 τ = some r) : MetX l G o B yX19_value cX19_value 2 (some .int) 1 [.ref x0, .int x1] τ (xQi G o B r.1 r.2.1) r.2.2.1 r.2.2.2 := by
  obtain ⟨v, τr, c, s⟩ := r
  refine metX_of (own := RX19) (mn := "value") (by decide) rfl rfl rfl (fun γ hγ M => ?_)
  subst hγ
  show J γ (XW G o B τ) 0 0 0 [(0, .ref x0), (1, .int x1)] []
  have hkn : 0 + c ≤ c ∧ 0 + s ≤ s := ⟨by omega, by omega⟩
  unfold x19_value at hf
  refine j_iload_n (pc := 0) M.1 dX19_value_0 1 rfl ?_
  refine j_bipush (pc := 1) M.1 dX19_value_1 kc_bipush_119 ?_
  refine j_icmp_ne (pc := 3) M.1 13 dX19_value_3 rfl (fun b1 => ?_) (fun b1 => ?_)
  · replace hf := o_neg b1 hf
    refine j_iload_n (pc := 13) M.1 dX19_value_13 1 rfl ?_
    refine j_bipush (pc := 14) M.1 dX19_value_14 kc_bipush_104 ?_
    refine j_icmp_ne (pc := 16) M.1 26 dX19_value_16 rfl (fun b2 => ?_) (fun b2 => ?_)
    · replace hf := o_neg b2 hf
      refine j_iload_n (pc := 26) M.1 dX19_value_26 1 rfl ?_
      refine j_bipush (pc := 27) M.1 dX19_value_27 kc_bipush_107 ?_
      refine j_icmp_ne (pc := 29) M.1 39 dX19_value_29 rfl (fun b3 => ?_) (fun b3 => ?_)
      · replace hf := o_neg b3 hf
        refine j_iload_n (pc := 39) M.1 dX19_value_39 1 rfl ?_
        refine j_bipush (pc := 40) M.1 dX19_value_40 kc_bipush_109 ?_
        refine j_icmp_ne (pc := 42) M.1 52 dX19_value_42 rfl (fun b4 => ?_) (fun b4 => ?_)
        · replace hf := o_neg b4 hf
          refine j_aload_n (pc := 52) M.1 dX19_value_52 0 rfl ?_
          obtain ⟨v1, g1, hf⟩ := o_bind hf
          refine jx_getI (pc := 53) M xfl_X19_22 g1 dX19_value_53 ?_
          exact jx_iretF (pc := 56) M dX19_value_56 hf hkn
        · replace hf := o_pos b4 hf
          refine j_aload_n (pc := 45) M.1 dX19_value_45 0 rfl ?_
          obtain ⟨v2, g2, hf⟩ := o_bind hf
          refine jx_getI (pc := 46) M xfl_X19_19 g2 dX19_value_46 ?_
          refine j_goto (pc := 49) M.1 56 dX19_value_49 rfl ?_
          exact jx_iretF (pc := 56) M dX19_value_56 hf hkn
      · replace hf := o_pos b3 hf
        refine j_aload_n (pc := 32) M.1 dX19_value_32 0 rfl ?_
        obtain ⟨v3, g3, hf⟩ := o_bind hf
        refine jx_getI (pc := 33) M xfl_X19_16 g3 dX19_value_33 ?_
        refine j_goto (pc := 36) M.1 56 dX19_value_36 rfl ?_
        exact jx_iretF (pc := 56) M dX19_value_56 hf hkn
    · replace hf := o_pos b2 hf
      refine j_aload_n (pc := 19) M.1 dX19_value_19 0 rfl ?_
      obtain ⟨v4, g4, hf⟩ := o_bind hf
      refine jx_getI (pc := 20) M xfl_X19_13 g4 dX19_value_20 ?_
      refine j_goto (pc := 23) M.1 56 dX19_value_23 rfl ?_
      exact jx_iretF (pc := 56) M dX19_value_56 hf hkn
  · replace hf := o_pos b1 hf
    refine j_aload_n (pc := 6) M.1 dX19_value_6 0 rfl ?_
    obtain ⟨v5, g5, hf⟩ := o_bind hf
    refine jx_getI (pc := 7) M xfl_X19_7 g5 dX19_value_7 ?_
    refine j_goto (pc := 10) M.1 56 dX19_value_10 rfl ?_
    exact jx_iretF (pc := 56) M dX19_value_56 hf hkn
end
theorem dX17_worth_0 : decode cX17_worth 0 = .ok (.aload_n 1, 1) := by decide +kernel
theorem dX17_worth_1 : decode cX17_worth 1 = .ok (.aload_n 0, 1) := by decide +kernel
theorem dX17_worth_2 : decode cX17_worth 2 = .ok (.getfield 7, 3) := by decide +kernel
theorem dX17_worth_5 : decode cX17_worth 5 = .ok (.invokevirtual 13, 3) := by decide +kernel
theorem dX17_worth_8 : decode cX17_worth 8 = .ok (.ireturn, 1) := by decide +kernel
section
variable {v : Int32}
variable {dd : Nat}
noncomputable def x17_worth (F : Nat) (x0 : Nat) (x1 : Nat) (τ : XS) : XR Int32 :=
  (gI τ x0 [17] 0).bind (fun v1 => if isC τ x1 [19] = true then (x19_value F x1 v1 τ).bind (fun r1 => tk r1.2.2.1 r1.2.2.2 (some (r1.1, r1.2.1, 0, 0))) else none)
theorem met_x17_worth {l : Launch} {G : gG} {o B F : Nat} {dd : Nat} (hd : 1 ≤ dd) {x0 : Nat} {x1 : Nat} {τ : XS} {r : Int32 × XS × Nat × Nat} (hf : x17_worth F x0 x1 τ = some r) : MetX l G o B yX17_worth cX17_worth 2 (some .int) (dd + 1) [.ref x0, .ref x1] τ (xQi G o B r.1 r.2.1) r.2.2.1 r.2.2.2 := by
  obtain ⟨v, τr, c, s⟩ := r
  refine metX_of (own := RX17) (mn := "worth") (by decide) rfl rfl rfl (fun γ hγ M => ?_)
  subst hγ
  show J γ (XW G o B τ) 0 0 0 [(0, .ref x0), (1, .ref x1)] []
  have hkn : 0 + c ≤ c ∧ 0 + s ≤ s := ⟨by omega, by omega⟩
  unfold x17_worth at hf
  refine j_aload_n (pc := 0) M.1 dX17_worth_0 1 rfl ?_
  refine j_aload_n (pc := 1) M.1 dX17_worth_1 0 rfl ?_
  obtain ⟨v1, g1, hf⟩ := o_bind hf
  refine jx_getI (pc := 2) M xfl_X17_7 g1 dX17_worth_2 ?_
  obtain ⟨b1, hf⟩ := o_need hf
  obtain ⟨r1, g2, hf⟩ := o_bind hf
  obtain ⟨c1, s1, hf, hc1, hs1⟩ := o_tk hf
  replace hkn := kn_step hkn hc1 hs1
  refine jx_i M (x_runW (pc := 5) (As := [.int v1]) (rest := []) M xcw_X17_13 (met_x19_value g2) b1 (by omega) rfl rfl rfl dX17_worth_5 (kn_le hkn)) ?_
  exact jx_iretF (pc := 8) M dX17_worth_8 hf hkn
end
theorem dX16_worth_0 : decode cX16_worth 0 = .ok (.aload_n 0, 1) := by decide +kernel
theorem dX16_worth_1 : decode cX16_worth 1 = .ok (.getfield 7, 3) := by decide +kernel
theorem dX16_worth_4 : decode cX16_worth 4 = .ok (.ireturn, 1) := by decide +kernel
section
variable {v : Int32}
variable {dd : Nat}
noncomputable def x16_worth (F : Nat) (x0 : Nat) (x1 : Nat) (τ : XS) : XR Int32 :=
  (gI τ x0 [16] 0).bind (fun v1 => some (v1, τ, 0, 0))
theorem met_x16_worth {l : Launch} {G : gG} {o B F : Nat} {dd : Nat} (hd : 0 ≤ dd) {x0 : Nat} {x1 : Nat} {τ : XS} {r : Int32 × XS × Nat × Nat} (hf : x16_worth F x0 x1 τ = some r) : MetX l G o B yX16_worth cX16_worth 2 (some .int) (dd + 1) [.ref x0, .ref x1] τ (xQi G o B r.1 r.2.1) r.2.2.1 r.2.2.2 := by
  obtain ⟨v, τr, c, s⟩ := r
  refine metX_of (own := RX16) (mn := "worth") (by decide) rfl rfl rfl (fun γ hγ M => ?_)
  subst hγ
  show J γ (XW G o B τ) 0 0 0 [(0, .ref x0), (1, .ref x1)] []
  have hkn : 0 + c ≤ c ∧ 0 + s ≤ s := ⟨by omega, by omega⟩
  unfold x16_worth at hf
  refine j_aload_n (pc := 0) M.1 dX16_worth_0 0 rfl ?_
  obtain ⟨v1, g1, hf⟩ := o_bind hf
  refine jx_getI (pc := 1) M xfl_X16_7 g1 dX16_worth_1 ?_
  exact jx_iretF (pc := 4) M dX16_worth_4 hf hkn
end
theorem dX15_worked_0 : decode cX15_worked 0 = .ok (.iload_n 0, 1) := by decide +kernel
theorem dX15_worked_1 : decode cX15_worked 1 = .ok (.tableswitch 43 42 45 #[39, 31, 43, 35], 31) := by decide +kernel
theorem dX15_worked_32 : decode cX15_worked 32 = .ok (.iload_n 1, 1) := by decide +kernel
theorem dX15_worked_33 : decode cX15_worked 33 = .ok (.iload_n 2, 1) := by decide +kernel
theorem dX15_worked_34 : decode cX15_worked 34 = .ok (.iadd, 1) := by decide +kernel
theorem dX15_worked_35 : decode cX15_worked 35 = .ok (.ireturn, 1) := by decide +kernel
theorem dX15_worked_36 : decode cX15_worked 36 = .ok (.iload_n 1, 1) := by decide +kernel
theorem dX15_worked_37 : decode cX15_worked 37 = .ok (.iload_n 2, 1) := by decide +kernel
theorem dX15_worked_38 : decode cX15_worked 38 = .ok (.isub, 1) := by decide +kernel
theorem dX15_worked_39 : decode cX15_worked 39 = .ok (.ireturn, 1) := by decide +kernel
theorem dX15_worked_40 : decode cX15_worked 40 = .ok (.iload_n 1, 1) := by decide +kernel
theorem dX15_worked_41 : decode cX15_worked 41 = .ok (.iload_n 2, 1) := by decide +kernel
theorem dX15_worked_42 : decode cX15_worked 42 = .ok (.imul, 1) := by decide +kernel
theorem dX15_worked_43 : decode cX15_worked 43 = .ok (.ireturn, 1) := by decide +kernel
theorem dX15_worked_44 : decode cX15_worked 44 = .ok (.iload_n 2, 1) := by decide +kernel
theorem dX15_worked_45 : decode cX15_worked 45 = .ok (.ifCond .ne 8, 3) := by decide +kernel
theorem dX15_worked_48 : decode cX15_worked 48 = .ok (.aload_n 3, 1) := by decide +kernel
theorem dX15_worked_49 : decode cX15_worked 49 = .ok (.iconst 1, 1) := by decide +kernel
theorem dX15_worked_50 : decode cX15_worked 50 = .ok (.putfield 17, 3) := by decide +kernel
theorem dX15_worked_53 : decode cX15_worked 53 = .ok (.iload_n 2, 1) := by decide +kernel
theorem dX15_worked_54 : decode cX15_worked 54 = .ok (.ifCond .ne 7, 3) := by decide +kernel
theorem dX15_worked_57 : decode cX15_worked 57 = .ok (.iconst 0, 1) := by decide +kernel
theorem dX15_worked_58 : decode cX15_worked 58 = .ok (.goto 18, 3) := by decide +kernel
theorem dX15_worked_61 : decode cX15_worked 61 = .ok (.iload_n 0, 1) := by decide +kernel
theorem dX15_worked_62 : decode cX15_worked 62 = .ok (.bipush 47, 2) := by decide +kernel
theorem dX15_worked_64 : decode cX15_worked 64 = .ok (.if_icmp .ne 9, 3) := by decide +kernel
theorem dX15_worked_67 : decode cX15_worked 67 = .ok (.iload_n 1, 1) := by decide +kernel
theorem dX15_worked_68 : decode cX15_worked 68 = .ok (.iload_n 2, 1) := by decide +kernel
theorem dX15_worked_69 : decode cX15_worked 69 = .ok (.idiv, 1) := by decide +kernel
theorem dX15_worked_70 : decode cX15_worked 70 = .ok (.goto 6, 3) := by decide +kernel
theorem dX15_worked_73 : decode cX15_worked 73 = .ok (.iload_n 1, 1) := by decide +kernel
theorem dX15_worked_74 : decode cX15_worked 74 = .ok (.iload_n 2, 1) := by decide +kernel
theorem dX15_worked_75 : decode cX15_worked 75 = .ok (.irem, 1) := by decide +kernel
theorem dX15_worked_76 : decode cX15_worked 76 = .ok (.ireturn, 1) := by decide +kernel
section
variable {v : Int32}
noncomputable def x15_worked_53 (F : Nat) (x0 : Int32) (x1 : Int32) (x2 : Int32) (τ : XS) : XR Int32 :=
  if x2 = 0 then (some (0, τ, 0, 0)) else (if x0 = 47 then (if ¬ x2 = 0 then some (x1 / x2, τ, 0, 0) else none) else (if ¬ x2 = 0 then some (jrem x1 x2, τ, 0, 0) else none))
theorem kx15_worked_53 (M : XC γ cX15_worked 4 RX15 "worked" G o B 1 (some .int) (xQi G o B v τr) c0 s0) (x0 : Int32) (x1 : Int32) (x2 : Int32) (τ : XS) {c s k n : Nat} (hf : x15_worked_53 F x0 x1 x2 τ = some (v, τr, c, s)) (hkn : k + c ≤ c0 ∧ n + s ≤ s0) : J γ (XW G o B τ) k n 53 [(0, .int x0), (1, .int x1), (2, .int x2)] [] := by
  unfold x15_worked_53 at hf
  refine j_iload_n (pc := 53) M.1 dX15_worked_53 2 rfl ?_
  refine j_if_ne (pc := 54) M.1 61 dX15_worked_54 rfl (fun b1 => ?_) (fun b1 => ?_)
  · replace hf := o_neg b1 hf
    refine j_iload_n (pc := 61) M.1 dX15_worked_61 0 rfl ?_
    refine j_bipush (pc := 62) M.1 dX15_worked_62 kc_bipush_47 ?_
    refine j_icmp_ne (pc := 64) M.1 73 dX15_worked_64 rfl (fun b2 => ?_) (fun b2 => ?_)
    · replace hf := o_neg b2 hf
      refine j_iload_n (pc := 73) M.1 dX15_worked_73 1 rfl ?_
      refine j_iload_n (pc := 74) M.1 dX15_worked_74 2 rfl ?_
      obtain ⟨b3, hf⟩ := o_need hf
      refine j_irem (pc := 75) M.1 dX15_worked_75 b3 ?_
      exact jx_iretF (pc := 76) M dX15_worked_76 hf hkn
    · replace hf := o_pos b2 hf
      refine j_iload_n (pc := 67) M.1 dX15_worked_67 1 rfl ?_
      refine j_iload_n (pc := 68) M.1 dX15_worked_68 2 rfl ?_
      obtain ⟨b4, hf⟩ := o_need hf
      refine j_idiv (pc := 69) M.1 dX15_worked_69 b4 ?_
      refine j_goto (pc := 70) M.1 76 dX15_worked_70 rfl ?_
      exact jx_iretF (pc := 76) M dX15_worked_76 hf hkn
  · replace hf := o_pos b1 hf
    refine j_iconst (pc := 57) M.1 dX15_worked_57 kc_iconst_0 ?_
    refine j_goto (pc := 58) M.1 76 dX15_worked_58 rfl ?_
    exact jx_iretF (pc := 76) M dX15_worked_76 hf hkn
noncomputable def x15_worked (F : Nat) (x0 : Int32) (x1 : Int32) (x2 : Int32) (x3 : Nat) (τ : XS) : XR Int32 :=
  if x0 = 42 then (some (x1 * x2, τ, 0, 0)) else (if x0 = 43 then (some (x1 + x2, τ, 0, 0)) else (if x0 = 45 then (some (x1 - x2, τ, 0, 0)) else (if x2 = 0 then ((pF τ x3 [19] 5 (.int 1)).bind (fun τ1 => x15_worked_53 F x0 x1 x2 τ1)) else (x15_worked_53 F x0 x1 x2 τ))))
theorem met_x15_worked {l : Launch} {G : gG} {o B F : Nat} {x0 : Int32} {x1 : Int32} {x2 : Int32} {x3 : Nat} {τ : XS} {r : Int32 × XS × Nat × Nat} (hf : x15_worked F x0 x1 x2 x3 τ = some r) : MetX l G o B yX15_worked cX15_worked 4 (some .int) 1 [.int x0, .int x1, .int x2, .ref x3] τ (xQi G o B r.1 r.2.1) r.2.2.1 r.2.2.2 := by
  obtain ⟨v, τr, c, s⟩ := r
  refine metX_of (own := RX15) (mn := "worked") (by decide) rfl rfl rfl (fun γ hγ M => ?_)
  subst hγ
  show J γ (XW G o B τ) 0 0 0 [(0, .int x0), (1, .int x1), (2, .int x2), (3, .ref x3)] []
  have hkn : 0 + c ≤ c ∧ 0 + s ≤ s := ⟨by omega, by omega⟩
  unfold x15_worked at hf
  refine j_iload_n (pc := 0) M.1 dX15_worked_0 0 rfl ?_
  by_cases b1 : x0 = 42
  · replace hf := o_pos b1 hf
    refine j_tableIn (pc := 1) M.1 40 dX15_worked_1 (by rw [b1]; decide) (by rw [b1]; decide) (by rw [b1]; rfl) rfl ?_
    refine j_iload_n (pc := 40) M.1 dX15_worked_40 1 rfl ?_
    refine j_iload_n (pc := 41) M.1 dX15_worked_41 2 rfl ?_
    refine j_imul (pc := 42) M.1 dX15_worked_42 ?_
    exact jx_iretF (pc := 43) M dX15_worked_43 hf hkn
  replace hf := o_neg b1 hf
  by_cases b2 : x0 = 43
  · replace hf := o_pos b2 hf
    refine j_tableIn (pc := 1) M.1 32 dX15_worked_1 (by rw [b2]; decide) (by rw [b2]; decide) (by rw [b2]; rfl) rfl ?_
    refine j_iload_n (pc := 32) M.1 dX15_worked_32 1 rfl ?_
    refine j_iload_n (pc := 33) M.1 dX15_worked_33 2 rfl ?_
    refine j_iadd (pc := 34) M.1 dX15_worked_34 ?_
    exact jx_iretF (pc := 35) M dX15_worked_35 hf hkn
  replace hf := o_neg b2 hf
  by_cases b3 : x0 = 45
  · replace hf := o_pos b3 hf
    refine j_tableIn (pc := 1) M.1 36 dX15_worked_1 (by rw [b3]; decide) (by rw [b3]; decide) (by rw [b3]; rfl) rfl ?_
    refine j_iload_n (pc := 36) M.1 dX15_worked_36 1 rfl ?_
    refine j_iload_n (pc := 37) M.1 dX15_worked_37 2 rfl ?_
    refine j_isub (pc := 38) M.1 dX15_worked_38 ?_
    exact jx_iretF (pc := 39) M dX15_worked_39 hf hkn
  replace hf := o_neg b3 hf
  have nb1 : ¬ x0.toInt = 42 := fun z => b1 (Int32.toInt_inj.mp (by rw [z]; rfl))
  have nb2 : ¬ x0.toInt = 43 := fun z => b2 (Int32.toInt_inj.mp (by rw [z]; rfl))
  have nb3 : ¬ x0.toInt = 45 := fun z => b3 (Int32.toInt_inj.mp (by rw [z]; rfl))
  suffices g2 : J γ (XW G o B τ) _ _ 44 [(0, .int x0), (1, .int x1), (2, .int x2), (3, .ref x3)] [] by
    by_cases z : x0 = 44
    · exact j_tableIn (pc := 1) M.1 44 dX15_worked_1 (by rw [z]; decide) (by rw [z]; decide) (by rw [z]; rfl) rfl g2
    have z44 : ¬ x0.toInt = 44 := fun y => z (Int32.toInt_inj.mp (by rw [y]; rfl))
    exact j_tableOut (pc := 1) M.1 44 dX15_worked_1 (by omega) rfl g2
  refine j_iload_n (pc := 44) M.1 dX15_worked_44 2 rfl ?_
  refine j_if_ne (pc := 45) M.1 53 dX15_worked_45 rfl (fun b4 => ?_) (fun b4 => ?_)
  · replace hf := o_neg b4 hf
    refine j_sub [0, 1, 2] (show lv_pick _ _ = [(0, .int x0), (1, .int x1), (2, .int x2)] from rfl) ?_
    exact kx15_worked_53 M x0 x1 x2 τ hf hkn
  · replace hf := o_pos b4 hf
    refine j_aload_n (pc := 48) M.1 dX15_worked_48 3 rfl ?_
    refine j_iconst (pc := 49) M.1 dX15_worked_49 kc_iconst_1 ?_
    obtain ⟨τ1, g1, hf⟩ := o_bind hf
    refine jx_putV (pc := 50) M xfl_X15_17 rfl rfl g1 dX15_worked_50 ?_
    refine j_sub [0, 1, 2] (show lv_pick _ _ = [(0, .int x0), (1, .int x1), (2, .int x2)] from rfl) ?_
    exact kx15_worked_53 M x0 x1 x2 τ1 hf hkn
end
theorem dX15_worth_0 : decode cX15_worth 0 = .ok (.aload_n 0, 1) := by decide +kernel
theorem dX15_worth_1 : decode cX15_worth 1 = .ok (.getfield 13, 3) := by decide +kernel
theorem dX15_worth_4 : decode cX15_worth 4 = .ok (.aload_n 1, 1) := by decide +kernel
theorem dX15_worth_5 : decode cX15_worth 5 = .ok (.invokevirtual 23, 3) := by decide +kernel
theorem dX15_worth_8 : decode cX15_worth 8 = .ok (.istore_n 2, 1) := by decide +kernel
theorem dX15_worth_9 : decode cX15_worth 9 = .ok (.aload_n 0, 1) := by decide +kernel
theorem dX15_worth_10 : decode cX15_worth 10 = .ok (.getfield 27, 3) := by decide +kernel
theorem dX15_worth_13 : decode cX15_worth 13 = .ok (.astore_n 3, 1) := by decide +kernel
theorem dX15_worth_14 : decode cX15_worth 14 = .ok (.aload_n 3, 1) := by decide +kernel
theorem dX15_worth_15 : decode cX15_worth 15 = .ok (.ifnull 29, 3) := by decide +kernel
theorem dX15_worth_18 : decode cX15_worth 18 = .ok (.aload_n 3, 1) := by decide +kernel
theorem dX15_worth_19 : decode cX15_worth 19 = .ok (.getfield 7, 3) := by decide +kernel
theorem dX15_worth_22 : decode cX15_worth 22 = .ok (.iload_n 2, 1) := by decide +kernel
theorem dX15_worth_23 : decode cX15_worth 23 = .ok (.aload_n 3, 1) := by decide +kernel
theorem dX15_worth_24 : decode cX15_worth 24 = .ok (.getfield 13, 3) := by decide +kernel
theorem dX15_worth_27 : decode cX15_worth 27 = .ok (.aload_n 1, 1) := by decide +kernel
theorem dX15_worth_28 : decode cX15_worth 28 = .ok (.invokevirtual 23, 3) := by decide +kernel
theorem dX15_worth_31 : decode cX15_worth 31 = .ok (.aload_n 1, 1) := by decide +kernel
theorem dX15_worth_32 : decode cX15_worth 32 = .ok (.invokestatic 31, 3) := by decide +kernel
theorem dX15_worth_35 : decode cX15_worth 35 = .ok (.istore_n 2, 1) := by decide +kernel
theorem dX15_worth_36 : decode cX15_worth 36 = .ok (.aload_n 3, 1) := by decide +kernel
theorem dX15_worth_37 : decode cX15_worth 37 = .ok (.getfield 27, 3) := by decide +kernel
theorem dX15_worth_40 : decode cX15_worth 40 = .ok (.astore_n 3, 1) := by decide +kernel
theorem dX15_worth_41 : decode cX15_worth 41 = .ok (.goto (-27), 3) := by decide +kernel
theorem dX15_worth_44 : decode cX15_worth 44 = .ok (.iload_n 2, 1) := by decide +kernel
theorem dX15_worth_45 : decode cX15_worth 45 = .ok (.ireturn, 1) := by decide +kernel
section
variable {v : Int32}
variable {dd : Nat}
noncomputable def x15_worth_B14 (F : Nat) (Wworth : Nat → Nat → XS → XR Int32) (x1 : Nat) (R : Int32 × Option Nat × XS → XR Int32) (a : Int32 × Option Nat × XS) : XR Int32 :=
  if a.2.1 = none then (some (a.1, a.2.2, 0, 0)) else ((a.2.1).bind (fun a1 => (gI a.2.2 a1 [15] 0).bind (fun v1 => (a.2.1).bind (fun a2 => (gQ a.2.2 a2 [15] 1).bind (fun p1 => (p1).bind (fun a3 => (Wworth a3 x1 a.2.2).bind (fun r1 => tk r1.2.2.1 r1.2.2.2 ((x15_worked F v1 a.1 r1.1 x1 r1.2.1).bind (fun r2 => tk r2.2.2.1 r2.2.2.2 ((a.2.1).bind (fun a4 => (gQ r2.2.1 a4 [15] 2).bind (fun p2 => R (r2.1, p2, r2.2.1)))))))))))))
theorem kx15_worth_B14 (M : XC γ cX15_worth 4 RX15 "worth" G o B (dd + 1) (some .int) (xQi G o B v τr) c0 s0) (hd : 1 ≤ dd) (Wworth : Nat → Nat → XS → XR Int32) (hWworth : MetW_worth (jl γ) G o B dd Wworth) (x1 : Nat) : ∀ R : Int32 × Option Nat × XS → XR Int32, (∀ a c s, R a = some (v, τr, c, s) → ∀ k n, k + c ≤ c0 ∧ n + s ≤ s0 → J γ (XW G o B a.2.2) k n 14 [(1, .ref x1), (2, .int a.1), (3, va_rf a.2.1)] []) → ∀ a c s, x15_worth_B14 F Wworth x1 R a = some (v, τr, c, s) → ∀ k n, k + c ≤ c0 ∧ n + s ≤ s0 → J γ (XW G o B a.2.2) k n 14 [(1, .ref x1), (2, .int a.1), (3, va_rf a.2.1)] [] := by
  intro R hR a c s hf k n hkn
  unfold x15_worth_B14 at hf
  refine j_aloadq_n (pc := 14) M.1 dX15_worth_14 2 rfl ?_
  refine j_ifnull (pc := 15) (x := a.2.1) M.1 44 dX15_worth_15 rfl (fun b1 => ?_) (fun b1 => ?_)
  · replace hf := o_pos b1 hf
    refine j_iload_n (pc := 44) M.1 dX15_worth_44 1 rfl ?_
    exact jx_iretF (pc := 45) M dX15_worth_45 hf hkn
  · replace hf := o_neg b1 hf
    refine j_aloadq_n (pc := 18) M.1 dX15_worth_18 2 rfl ?_
    obtain ⟨a1, hq1, hf⟩ := o_bind hf
    refine j_st (show _ = [.ref a1] by simp only [hq1, va_rf]) ?_
    obtain ⟨v1, g1, hf⟩ := o_bind hf
    refine jx_getI (pc := 19) M xfl_X15_7 g1 dX15_worth_19 ?_
    refine j_iload_n (pc := 22) M.1 dX15_worth_22 1 rfl ?_
    refine j_aloadq_n (pc := 23) M.1 dX15_worth_23 2 rfl ?_
    obtain ⟨a2, hq2, hf⟩ := o_bind hf
    refine j_st (show _ = [.ref a2, .int a.1, .int v1] by simp only [hq2, va_rf]) ?_
    obtain ⟨p1, g2, hf⟩ := o_bind hf
    refine jx_getQ (pc := 24) M xfl_X15_13 g2 dX15_worth_24 ?_
    refine j_aload_n (pc := 27) M.1 dX15_worth_27 0 rfl ?_
    obtain ⟨a3, hq3, hf⟩ := o_bind hf
    refine j_st (show _ = [.ref x1, .ref a3, .int a.1, .int v1] by simp only [hq3, va_rf]) ?_
    obtain ⟨r1, g3, hf⟩ := o_bind hf
    obtain ⟨c1, s1, hf, hc1, hs1⟩ := o_tk hf
    replace hkn := kn_step hkn hc1 hs1
    refine jx_i M (x_runD (pc := 28) (As := [.ref x1]) (rest := [.int a.1, .int v1]) M xcv_X15_23 (hWworth _ _ _ _ g3) (Nat.lt_succ_self _) rfl rfl rfl dX15_worth_28 (kn_le hkn)) ?_
    refine j_aload_n (pc := 31) M.1 dX15_worth_31 0 rfl ?_
    obtain ⟨r2, g4, hf⟩ := o_bind hf
    obtain ⟨c2, s2, hf, hc2, hs2⟩ := o_tk hf
    replace hkn := kn_step hkn hc2 hs2
    refine jx_i M (x_runS (pc := 32) (As := [.int v1, .int a.1, .int r1.1, .ref x1]) (rest := []) M xcs_X15_31 (met_x15_worked g4) (by omega) rfl rfl rfl dX15_worth_32 (kn_le hkn)) ?_
    refine j_istore_n (pc := 35) M.1 [(2, .int r2.1), (1, .ref x1), (3, va_rf a.2.1)] dX15_worth_35 rfl rfl ?_
    refine j_aloadq_n (pc := 36) M.1 dX15_worth_36 2 rfl ?_
    obtain ⟨a4, hq4, hf⟩ := o_bind hf
    refine j_st (show _ = [.ref a4] by simp only [hq4, va_rf]) ?_
    obtain ⟨p2, g5, hf⟩ := o_bind hf
    refine jx_getQ (pc := 37) M xfl_X15_27 g5 dX15_worth_37 ?_
    refine j_astoreq_n (pc := 40) M.1 [(3, va_rf p2), (2, .int r2.1), (1, .ref x1)] dX15_worth_40 rfl rfl ?_
    refine j_goto (pc := 41) M.1 14 dX15_worth_41 rfl ?_
    refine j_sub [2, 1, 0] (show lv_pick _ _ = [(1, .ref x1), (2, .int r2.1), (3, va_rf p2)] from rfl) ?_
    have hy := hR _ _ _ hf _ _ hkn
    exact hy
noncomputable def x15_worth (F : Nat) (Wworth : Nat → Nat → XS → XR Int32) (x0 : Nat) (x1 : Nat) (τ : XS) : XR Int32 :=
  (gQ τ x0 [15] 1).bind (fun p1 => (p1).bind (fun a1 => (Wworth a1 x1 τ).bind (fun r1 => tk r1.2.2.1 r1.2.2.2 ((gQ r1.2.1 x0 [15] 2).bind (fun p2 => lp (x15_worth_B14 F Wworth x1) F (r1.1, p2, r1.2.1))))))
theorem met_x15_worth {l : Launch} {G : gG} {o B F : Nat} {dd : Nat} (hd : 1 ≤ dd) {Wworth : Nat → Nat → XS → XR Int32} (hWworth : MetW_worth l G o B dd Wworth) {x0 : Nat} {x1 : Nat} {τ : XS} {r : Int32 × XS × Nat × Nat} (hf : x15_worth F Wworth x0 x1 τ = some r) : MetX l G o B yX15_worth cX15_worth 4 (some .int) (dd + 1) [.ref x0, .ref x1] τ (xQi G o B r.1 r.2.1) r.2.2.1 r.2.2.2 := by
  obtain ⟨v, τr, c, s⟩ := r
  refine metX_of (own := RX15) (mn := "worth") (by decide) rfl rfl rfl (fun γ hγ M => ?_)
  subst hγ
  show J γ (XW G o B τ) 0 0 0 [(0, .ref x0), (1, .ref x1)] []
  have hkn : 0 + c ≤ c ∧ 0 + s ≤ s := ⟨by omega, by omega⟩
  unfold x15_worth at hf
  refine j_aload_n (pc := 0) M.1 dX15_worth_0 0 rfl ?_
  obtain ⟨p1, g1, hf⟩ := o_bind hf
  refine jx_getQ (pc := 1) M xfl_X15_13 g1 dX15_worth_1 ?_
  refine j_aload_n (pc := 4) M.1 dX15_worth_4 1 rfl ?_
  obtain ⟨a1, hq1, hf⟩ := o_bind hf
  refine j_st (show _ = [.ref x1, .ref a1] by simp only [hq1, va_rf]) ?_
  obtain ⟨r1, g2, hf⟩ := o_bind hf
  obtain ⟨c1, s1, hf, hc1, hs1⟩ := o_tk hf
  replace hkn := kn_step hkn hc1 hs1
  refine jx_i M (x_runD (pc := 5) (As := [.ref x1]) (rest := []) M xcv_X15_23 (hWworth _ _ _ _ g2) (Nat.lt_succ_self _) rfl rfl rfl dX15_worth_5 (kn_le hkn)) ?_
  refine j_istore_n (pc := 8) M.1 [(2, .int r1.1), (0, .ref x0), (1, .ref x1)] dX15_worth_8 rfl rfl ?_
  refine j_aload_n (pc := 9) M.1 dX15_worth_9 1 rfl ?_
  obtain ⟨p2, g3, hf⟩ := o_bind hf
  refine jx_getQ (pc := 10) M xfl_X15_27 g3 dX15_worth_10 ?_
  refine j_astoreq_n (pc := 13) M.1 [(3, va_rf p2), (2, .int r1.1), (0, .ref x0), (1, .ref x1)] dX15_worth_13 rfl rfl ?_
  refine j_sub [3, 1, 0] (show lv_pick _ _ = [(1, .ref x1), (2, .int r1.1), (3, va_rf p2)] from rfl) ?_
  refine lp_Wc (kx15_worth_B14 M hd Wworth hWworth x1) F (r1.1, p2, r1.2.1) _ _ hf _ _ hkn
end
noncomputable def xd_worth (F : Nat) : Nat → Nat → Nat → XS → XR Int32 := fun D => Nat.rec (fun _ _ _ => none) (fun _ W a q τ => if isC τ a [16] = true then x16_worth F a q τ else if isC τ a [17] = true then x17_worth F a q τ else if isC τ a [15] = true then x15_worth F W a q τ else none) D
theorem metW_worth {l : Launch} {G : gG} {o B F : Nat} : ∀ D : Nat, MetW_worth l G o B (D + 2) (xd_worth F D) := by
  intro D
  induction D with
  | zero => intro a q τ r hf; cases hf
  | succ D ih =>
    intro a q τ r hf
    replace hf : (if isC τ a [16] = true then x16_worth F a q τ else if isC τ a [17] = true then x17_worth F a q τ else if isC τ a [15] = true then x15_worth F (xd_worth F D) a q τ else none) = some r := hf
    by_cases b0 : isC τ a [16] = true
    · exact ⟨0, _, rfl, b0, met_x16_worth (dd := D + 2) (by omega) (o_pos b0 hf)⟩
    replace hf := o_neg b0 hf
    by_cases b1 : isC τ a [17] = true
    · exact ⟨1, _, rfl, b1, met_x17_worth (dd := D + 2) (by omega) (o_pos b1 hf)⟩
    replace hf := o_neg b1 hf
    by_cases b2 : isC τ a [15] = true
    · exact ⟨2, _, rfl, b2, met_x15_worth (dd := D + 2) (by omega) ih (o_pos b2 hf)⟩
    replace hf := o_neg b2 hf
    cases hf
theorem metd_worth {l : Launch} {G : gG} {o B F : Nat} {a q : Nat} {τ : XS} {r : Int32 × XS × Nat × Nat} (hf : xd_worth F 20 a q τ = some r) : MetV l G o B 22 (some .int) al_worth a [.ref q] τ r := metW_worth 20 a q τ r hf
theorem dX18_holds_0 : decode cX18_holds 0 = .ok (.aload_n 1, 1) := by decide +kernel
theorem dX18_holds_1 : decode cX18_holds 1 = .ok (.iconst 0, 1) := by decide +kernel
theorem dX18_holds_2 : decode cX18_holds 2 = .ok (.putfield 20, 3) := by decide +kernel
theorem dX18_holds_5 : decode cX18_holds 5 = .ok (.aload_n 0, 1) := by decide +kernel
theorem dX18_holds_6 : decode cX18_holds 6 = .ok (.getfield 7, 3) := by decide +kernel
theorem dX18_holds_9 : decode cX18_holds 9 = .ok (.aload_n 1, 1) := by decide +kernel
theorem dX18_holds_10 : decode cX18_holds 10 = .ok (.invokevirtual 26, 3) := by decide +kernel
theorem dX18_holds_13 : decode cX18_holds 13 = .ok (.istore_n 2, 1) := by decide +kernel
theorem dX18_holds_14 : decode cX18_holds 14 = .ok (.aload_n 0, 1) := by decide +kernel
theorem dX18_holds_15 : decode cX18_holds 15 = .ok (.getfield 17, 3) := by decide +kernel
theorem dX18_holds_18 : decode cX18_holds 18 = .ok (.aload_n 1, 1) := by decide +kernel
theorem dX18_holds_19 : decode cX18_holds 19 = .ok (.invokevirtual 26, 3) := by decide +kernel
theorem dX18_holds_22 : decode cX18_holds 22 = .ok (.istore_n 3, 1) := by decide +kernel
theorem dX18_holds_23 : decode cX18_holds 23 = .ok (.aload_n 0, 1) := by decide +kernel
theorem dX18_holds_24 : decode cX18_holds 24 = .ok (.getfield 13, 3) := by decide +kernel
theorem dX18_holds_27 : decode cX18_holds 27 = .ok (.bipush 60, 2) := by decide +kernel
theorem dX18_holds_29 : decode cX18_holds 29 = .ok (.if_icmp .ne 16, 3) := by decide +kernel
theorem dX18_holds_32 : decode cX18_holds 32 = .ok (.iload_n 2, 1) := by decide +kernel
theorem dX18_holds_33 : decode cX18_holds 33 = .ok (.iload_n 3, 1) := by decide +kernel
theorem dX18_holds_34 : decode cX18_holds 34 = .ok (.if_icmp .ge 7, 3) := by decide +kernel
theorem dX18_holds_37 : decode cX18_holds 37 = .ok (.iconst 1, 1) := by decide +kernel
theorem dX18_holds_38 : decode cX18_holds 38 = .ok (.goto 39, 3) := by decide +kernel
theorem dX18_holds_41 : decode cX18_holds 41 = .ok (.iconst 0, 1) := by decide +kernel
theorem dX18_holds_42 : decode cX18_holds 42 = .ok (.goto 35, 3) := by decide +kernel
theorem dX18_holds_45 : decode cX18_holds 45 = .ok (.aload_n 0, 1) := by decide +kernel
theorem dX18_holds_46 : decode cX18_holds 46 = .ok (.getfield 13, 3) := by decide +kernel
theorem dX18_holds_49 : decode cX18_holds 49 = .ok (.bipush 62, 2) := by decide +kernel
theorem dX18_holds_51 : decode cX18_holds 51 = .ok (.if_icmp .ne 16, 3) := by decide +kernel
theorem dX18_holds_54 : decode cX18_holds 54 = .ok (.iload_n 2, 1) := by decide +kernel
theorem dX18_holds_55 : decode cX18_holds 55 = .ok (.iload_n 3, 1) := by decide +kernel
theorem dX18_holds_56 : decode cX18_holds 56 = .ok (.if_icmp .le 7, 3) := by decide +kernel
theorem dX18_holds_59 : decode cX18_holds 59 = .ok (.iconst 1, 1) := by decide +kernel
theorem dX18_holds_60 : decode cX18_holds 60 = .ok (.goto 17, 3) := by decide +kernel
theorem dX18_holds_63 : decode cX18_holds 63 = .ok (.iconst 0, 1) := by decide +kernel
theorem dX18_holds_64 : decode cX18_holds 64 = .ok (.goto 13, 3) := by decide +kernel
theorem dX18_holds_67 : decode cX18_holds 67 = .ok (.iload_n 2, 1) := by decide +kernel
theorem dX18_holds_68 : decode cX18_holds 68 = .ok (.iload_n 3, 1) := by decide +kernel
theorem dX18_holds_69 : decode cX18_holds 69 = .ok (.if_icmp .ne 7, 3) := by decide +kernel
theorem dX18_holds_72 : decode cX18_holds 72 = .ok (.iconst 1, 1) := by decide +kernel
theorem dX18_holds_73 : decode cX18_holds 73 = .ok (.goto 4, 3) := by decide +kernel
theorem dX18_holds_76 : decode cX18_holds 76 = .ok (.iconst 0, 1) := by decide +kernel
theorem dX18_holds_77 : decode cX18_holds 77 = .ok (.istore 4, 2) := by decide +kernel
theorem dX18_holds_79 : decode cX18_holds 79 = .ok (.aload_n 1, 1) := by decide +kernel
theorem dX18_holds_80 : decode cX18_holds 80 = .ok (.getfield 20, 3) := by decide +kernel
theorem dX18_holds_83 : decode cX18_holds 83 = .ok (.ifCond .eq 7, 3) := by decide +kernel
theorem dX18_holds_86 : decode cX18_holds 86 = .ok (.iconst 2, 1) := by decide +kernel
theorem dX18_holds_87 : decode cX18_holds 87 = .ok (.goto 13, 3) := by decide +kernel
theorem dX18_holds_90 : decode cX18_holds 90 = .ok (.iload 4, 2) := by decide +kernel
theorem dX18_holds_92 : decode cX18_holds 92 = .ok (.ifCond .eq 7, 3) := by decide +kernel
theorem dX18_holds_95 : decode cX18_holds 95 = .ok (.iconst 1, 1) := by decide +kernel
theorem dX18_holds_96 : decode cX18_holds 96 = .ok (.goto 4, 3) := by decide +kernel
theorem dX18_holds_99 : decode cX18_holds 99 = .ok (.iconst 0, 1) := by decide +kernel
theorem dX18_holds_100 : decode cX18_holds 100 = .ok (.ireturn, 1) := by decide +kernel
section
variable {v : Int32}
variable {dd : Nat}
noncomputable def x18_holds_77 (F : Nat) (x1 : Nat) (u0 : Int32) (τ : XS) : XR Int32 :=
  (gI τ x1 [19] 5).bind (fun v1 => if v1 = 0 then (if u0 = 0 then (some (0, τ, 0, 0)) else (some (1, τ, 0, 0))) else (some (2, τ, 0, 0)))
theorem kx18_holds_77 (M : XC γ cX18_holds 5 RX18 "holds" G o B (dd + 1) (some .int) (xQi G o B v τr) c0 s0) (hd : 22 ≤ dd) (x1 : Nat) (u0 : Int32) (τ : XS) {c s k n : Nat} (hf : x18_holds_77 F x1 u0 τ = some (v, τr, c, s)) (hkn : k + c ≤ c0 ∧ n + s ≤ s0) : J γ (XW G o B τ) k n 77 [(1, .ref x1)] [.int u0] := by
  unfold x18_holds_77 at hf
  refine j_istore (pc := 77) M.1 [(4, .int u0), (1, .ref x1)] dX18_holds_77 rfl rfl ?_
  refine j_aload_n (pc := 79) M.1 dX18_holds_79 1 rfl ?_
  obtain ⟨v1, g1, hf⟩ := o_bind hf
  refine jx_getI (pc := 80) M xfl_X18_20 g1 dX18_holds_80 ?_
  refine j_if_eq (pc := 83) M.1 90 dX18_holds_83 rfl (fun b1 => ?_) (fun b1 => ?_)
  · replace hf := o_pos b1 hf
    refine j_iload (pc := 90) M.1 dX18_holds_90 0 rfl ?_
    refine j_if_eq (pc := 92) M.1 99 dX18_holds_92 rfl (fun b2 => ?_) (fun b2 => ?_)
    · replace hf := o_pos b2 hf
      refine j_iconst (pc := 99) M.1 dX18_holds_99 kc_iconst_0 ?_
      exact jx_iretF (pc := 100) M dX18_holds_100 hf hkn
    · replace hf := o_neg b2 hf
      refine j_iconst (pc := 95) M.1 dX18_holds_95 kc_iconst_1 ?_
      refine j_goto (pc := 96) M.1 100 dX18_holds_96 rfl ?_
      exact jx_iretF (pc := 100) M dX18_holds_100 hf hkn
  · replace hf := o_neg b1 hf
    refine j_iconst (pc := 86) M.1 dX18_holds_86 kc_iconst_2 ?_
    refine j_goto (pc := 87) M.1 100 dX18_holds_87 rfl ?_
    exact jx_iretF (pc := 100) M dX18_holds_100 hf hkn
noncomputable def x18_holds (F : Nat) (x0 : Nat) (x1 : Nat) (τ : XS) : XR Int32 :=
  (pF τ x1 [19] 5 (.int 0)).bind (fun τ1 => (gQ τ1 x0 [18] 0).bind (fun p1 => (p1).bind (fun a1 => (xd_worth F 20 a1 x1 τ1).bind (fun r1 => tk r1.2.2.1 r1.2.2.2 ((gQ r1.2.1 x0 [18] 1).bind (fun p2 => (p2).bind (fun a2 => (xd_worth F 20 a2 x1 r1.2.1).bind (fun r2 => tk r2.2.2.1 r2.2.2.2 ((gI r2.2.1 x0 [18] 2).bind (fun v1 => if v1 = 60 then (if r2.1 ≤ r1.1 then (x18_holds_77 F x1 0 r2.2.1) else (x18_holds_77 F x1 1 r2.2.1)) else ((gI r2.2.1 x0 [18] 2).bind (fun v2 => if v2 = 62 then (if r1.1 ≤ r2.1 then (x18_holds_77 F x1 0 r2.2.1) else (x18_holds_77 F x1 1 r2.2.1)) else (if r1.1 = r2.1 then (x18_holds_77 F x1 1 r2.2.1) else (x18_holds_77 F x1 0 r2.2.1))))))))))))))
theorem met_x18_holds {l : Launch} {G : gG} {o B F : Nat} {dd : Nat} (hd : 22 ≤ dd) {x0 : Nat} {x1 : Nat} {τ : XS} {r : Int32 × XS × Nat × Nat} (hf : x18_holds F x0 x1 τ = some r) : MetX l G o B yX18_holds cX18_holds 5 (some .int) (dd + 1) [.ref x0, .ref x1] τ (xQi G o B r.1 r.2.1) r.2.2.1 r.2.2.2 := by
  obtain ⟨v, τr, c, s⟩ := r
  refine metX_of (own := RX18) (mn := "holds") (by decide) rfl rfl rfl (fun γ hγ M => ?_)
  subst hγ
  show J γ (XW G o B τ) 0 0 0 [(0, .ref x0), (1, .ref x1)] []
  have hkn : 0 + c ≤ c ∧ 0 + s ≤ s := ⟨by omega, by omega⟩
  unfold x18_holds at hf
  refine j_aload_n (pc := 0) M.1 dX18_holds_0 1 rfl ?_
  refine j_iconst (pc := 1) M.1 dX18_holds_1 kc_iconst_0 ?_
  obtain ⟨τ1, g1, hf⟩ := o_bind hf
  refine jx_putV (pc := 2) M xfl_X18_20 rfl rfl g1 dX18_holds_2 ?_
  refine j_aload_n (pc := 5) M.1 dX18_holds_5 0 rfl ?_
  obtain ⟨p1, g2, hf⟩ := o_bind hf
  refine jx_getQ (pc := 6) M xfl_X18_7 g2 dX18_holds_6 ?_
  refine j_aload_n (pc := 9) M.1 dX18_holds_9 1 rfl ?_
  obtain ⟨a1, hq1, hf⟩ := o_bind hf
  refine j_st (show _ = [.ref x1, .ref a1] by simp only [hq1, va_rf]) ?_
  obtain ⟨r1, g3, hf⟩ := o_bind hf
  obtain ⟨c1, s1, hf, hc1, hs1⟩ := o_tk hf
  replace hkn := kn_step hkn hc1 hs1
  refine jx_i M (x_runD (pc := 10) (As := [.ref x1]) (rest := []) M xcv_X18_26 (metd_worth g3) (by omega) rfl rfl rfl dX18_holds_10 (kn_le hkn)) ?_
  refine j_istore_n (pc := 13) M.1 [(2, .int r1.1), (0, .ref x0), (1, .ref x1)] dX18_holds_13 rfl rfl ?_
  refine j_aload_n (pc := 14) M.1 dX18_holds_14 1 rfl ?_
  obtain ⟨p2, g4, hf⟩ := o_bind hf
  refine jx_getQ (pc := 15) M xfl_X18_17 g4 dX18_holds_15 ?_
  refine j_aload_n (pc := 18) M.1 dX18_holds_18 2 rfl ?_
  obtain ⟨a2, hq2, hf⟩ := o_bind hf
  refine j_st (show _ = [.ref x1, .ref a2] by simp only [hq2, va_rf]) ?_
  obtain ⟨r2, g5, hf⟩ := o_bind hf
  obtain ⟨c2, s2, hf, hc2, hs2⟩ := o_tk hf
  replace hkn := kn_step hkn hc2 hs2
  refine jx_i M (x_runD (pc := 19) (As := [.ref x1]) (rest := []) M xcv_X18_26 (metd_worth g5) (by omega) rfl rfl rfl dX18_holds_19 (kn_le hkn)) ?_
  refine j_istore_n (pc := 22) M.1 [(3, .int r2.1), (2, .int r1.1), (0, .ref x0), (1, .ref x1)] dX18_holds_22 rfl rfl ?_
  refine j_aload_n (pc := 23) M.1 dX18_holds_23 2 rfl ?_
  obtain ⟨v1, g6, hf⟩ := o_bind hf
  refine jx_getI (pc := 24) M xfl_X18_13 g6 dX18_holds_24 ?_
  refine j_bipush (pc := 27) M.1 dX18_holds_27 kc_bipush_60 ?_
  refine j_icmp_ne (pc := 29) M.1 45 dX18_holds_29 rfl (fun b1 => ?_) (fun b1 => ?_)
  · replace hf := o_neg b1 hf
    refine j_aload_n (pc := 45) M.1 dX18_holds_45 2 rfl ?_
    obtain ⟨v2, g7, hf⟩ := o_bind hf
    refine jx_getI (pc := 46) M xfl_X18_13 g7 dX18_holds_46 ?_
    refine j_bipush (pc := 49) M.1 dX18_holds_49 kc_bipush_62 ?_
    refine j_icmp_ne (pc := 51) M.1 67 dX18_holds_51 rfl (fun b2 => ?_) (fun b2 => ?_)
    · replace hf := o_neg b2 hf
      refine j_iload_n (pc := 67) M.1 dX18_holds_67 1 rfl ?_
      refine j_iload_n (pc := 68) M.1 dX18_holds_68 0 rfl ?_
      refine j_icmp_ne (pc := 69) M.1 76 dX18_holds_69 rfl (fun b3 => ?_) (fun b3 => ?_)
      · replace hf := o_neg b3 hf
        refine j_iconst (pc := 76) M.1 dX18_holds_76 kc_iconst_0 ?_
        refine j_sub [3] (show lv_pick _ _ = [(1, .ref x1)] from rfl) ?_
        exact kx18_holds_77 M hd x1 0 r2.2.1 hf hkn
      · replace hf := o_pos b3 hf
        refine j_iconst (pc := 72) M.1 dX18_holds_72 kc_iconst_1 ?_
        refine j_goto (pc := 73) M.1 77 dX18_holds_73 rfl ?_
        refine j_sub [3] (show lv_pick _ _ = [(1, .ref x1)] from rfl) ?_
        exact kx18_holds_77 M hd x1 1 r2.2.1 hf hkn
    · replace hf := o_pos b2 hf
      refine j_iload_n (pc := 54) M.1 dX18_holds_54 1 rfl ?_
      refine j_iload_n (pc := 55) M.1 dX18_holds_55 0 rfl ?_
      refine j_icmp_le (pc := 56) M.1 63 dX18_holds_56 rfl (fun b4 => ?_) (fun b4 => ?_)
      · replace hf := o_pos b4 hf
        refine j_iconst (pc := 63) M.1 dX18_holds_63 kc_iconst_0 ?_
        refine j_goto (pc := 64) M.1 77 dX18_holds_64 rfl ?_
        refine j_sub [3] (show lv_pick _ _ = [(1, .ref x1)] from rfl) ?_
        exact kx18_holds_77 M hd x1 0 r2.2.1 hf hkn
      · replace hf := o_neg b4 hf
        refine j_iconst (pc := 59) M.1 dX18_holds_59 kc_iconst_1 ?_
        refine j_goto (pc := 60) M.1 77 dX18_holds_60 rfl ?_
        refine j_sub [3] (show lv_pick _ _ = [(1, .ref x1)] from rfl) ?_
        exact kx18_holds_77 M hd x1 1 r2.2.1 hf hkn
  · replace hf := o_pos b1 hf
    refine j_iload_n (pc := 32) M.1 dX18_holds_32 1 rfl ?_
    refine j_iload_n (pc := 33) M.1 dX18_holds_33 0 rfl ?_
    refine j_icmp_ge (pc := 34) M.1 41 dX18_holds_34 rfl (fun b5 => ?_) (fun b5 => ?_)
    · replace hf := o_pos b5 hf
      refine j_iconst (pc := 41) M.1 dX18_holds_41 kc_iconst_0 ?_
      refine j_goto (pc := 42) M.1 77 dX18_holds_42 rfl ?_
      refine j_sub [3] (show lv_pick _ _ = [(1, .ref x1)] from rfl) ?_
      exact kx18_holds_77 M hd x1 0 r2.2.1 hf hkn
    · replace hf := o_neg b5 hf
      refine j_iconst (pc := 37) M.1 dX18_holds_37 kc_iconst_1 ?_
      refine j_goto (pc := 38) M.1 77 dX18_holds_38 rfl ?_
      refine j_sub [3] (show lv_pick _ _ = [(1, .ref x1)] from rfl) ?_
      exact kx18_holds_77 M hd x1 1 r2.2.1 hf hkn
end
theorem dX13_holds_0 : decode cX13_holds 0 = .ok (.aload_n 0, 1) := by decide +kernel
theorem dX13_holds_1 : decode cX13_holds 1 = .ok (.getfield 7, 3) := by decide +kernel
theorem dX13_holds_4 : decode cX13_holds 4 = .ok (.aload_n 1, 1) := by decide +kernel
theorem dX13_holds_5 : decode cX13_holds 5 = .ok (.invokevirtual 13, 3) := by decide +kernel
theorem dX13_holds_8 : decode cX13_holds 8 = .ok (.istore_n 2, 1) := by decide +kernel
theorem dX13_holds_9 : decode cX13_holds 9 = .ok (.iload_n 2, 1) := by decide +kernel
theorem dX13_holds_10 : decode cX13_holds 10 = .ok (.iconst 2, 1) := by decide +kernel
theorem dX13_holds_11 : decode cX13_holds 11 = .ok (.if_icmp .ne 7, 3) := by decide +kernel
theorem dX13_holds_14 : decode cX13_holds 14 = .ok (.iconst 2, 1) := by decide +kernel
theorem dX13_holds_15 : decode cX13_holds 15 = .ok (.goto 6, 3) := by decide +kernel
theorem dX13_holds_18 : decode cX13_holds 18 = .ok (.iconst 1, 1) := by decide +kernel
theorem dX13_holds_19 : decode cX13_holds 19 = .ok (.iload_n 2, 1) := by decide +kernel
theorem dX13_holds_20 : decode cX13_holds 20 = .ok (.isub, 1) := by decide +kernel
theorem dX13_holds_21 : decode cX13_holds 21 = .ok (.ireturn, 1) := by decide +kernel
section
variable {v : Int32}
variable {dd : Nat}
noncomputable def x13_holds (F : Nat) (Wholds : Nat → Nat → XS → XR Int32) (x0 : Nat) (x1 : Nat) (τ : XS) : XR Int32 :=
  (gQ τ x0 [13] 0).bind (fun p1 => (p1).bind (fun a1 => (Wholds a1 x1 τ).bind (fun r1 => tk r1.2.2.1 r1.2.2.2 (if r1.1 = 2 then (some (2, r1.2.1, 0, 0)) else (some (1 - r1.1, r1.2.1, 0, 0))))))
theorem met_x13_holds {l : Launch} {G : gG} {o B F : Nat} {dd : Nat} (hd : 0 ≤ dd) {Wholds : Nat → Nat → XS → XR Int32} (hWholds : MetW_holds l G o B dd Wholds) {x0 : Nat} {x1 : Nat} {τ : XS} {r : Int32 × XS × Nat × Nat} (hf : x13_holds F Wholds x0 x1 τ = some r) : MetX l G o B yX13_holds cX13_holds 3 (some .int) (dd + 1) [.ref x0, .ref x1] τ (xQi G o B r.1 r.2.1) r.2.2.1 r.2.2.2 := by
  obtain ⟨v, τr, c, s⟩ := r
  refine metX_of (own := RX13) (mn := "holds") (by decide) rfl rfl rfl (fun γ hγ M => ?_)
  subst hγ
  show J γ (XW G o B τ) 0 0 0 [(0, .ref x0), (1, .ref x1)] []
  have hkn : 0 + c ≤ c ∧ 0 + s ≤ s := ⟨by omega, by omega⟩
  unfold x13_holds at hf
  refine j_aload_n (pc := 0) M.1 dX13_holds_0 0 rfl ?_
  obtain ⟨p1, g1, hf⟩ := o_bind hf
  refine jx_getQ (pc := 1) M xfl_X13_7 g1 dX13_holds_1 ?_
  refine j_aload_n (pc := 4) M.1 dX13_holds_4 1 rfl ?_
  obtain ⟨a1, hq1, hf⟩ := o_bind hf
  refine j_st (show _ = [.ref x1, .ref a1] by simp only [hq1, va_rf]) ?_
  obtain ⟨r1, g2, hf⟩ := o_bind hf
  obtain ⟨c1, s1, hf, hc1, hs1⟩ := o_tk hf
  replace hkn := kn_step hkn hc1 hs1
  refine jx_i M (x_runD (pc := 5) (As := [.ref x1]) (rest := []) M xcv_X13_13 (hWholds _ _ _ _ g2) (Nat.lt_succ_self _) rfl rfl rfl dX13_holds_5 (kn_le hkn)) ?_
  refine j_istore_n (pc := 8) M.1 [(2, .int r1.1), (0, .ref x0), (1, .ref x1)] dX13_holds_8 rfl rfl ?_
  refine j_iload_n (pc := 9) M.1 dX13_holds_9 0 rfl ?_
  refine j_iconst (pc := 10) M.1 dX13_holds_10 kc_iconst_2 ?_
  refine j_icmp_ne (pc := 11) M.1 18 dX13_holds_11 rfl (fun b1 => ?_) (fun b1 => ?_)
  · replace hf := o_neg b1 hf
    refine j_iconst (pc := 18) M.1 dX13_holds_18 kc_iconst_1 ?_
    refine j_iload_n (pc := 19) M.1 dX13_holds_19 0 rfl ?_
    refine j_isub (pc := 20) M.1 dX13_holds_20 ?_
    exact jx_iretF (pc := 21) M dX13_holds_21 hf hkn
  · replace hf := o_pos b1 hf
    refine j_iconst (pc := 14) M.1 dX13_holds_14 kc_iconst_2 ?_
    refine j_goto (pc := 15) M.1 21 dX13_holds_15 rfl ?_
    exact jx_iretF (pc := 21) M dX13_holds_21 hf hkn
end
