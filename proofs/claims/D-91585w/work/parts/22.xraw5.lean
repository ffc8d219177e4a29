set_option maxRecDepth 100000
variable {γ : jG} {G : gG} {o B F c0 s0 : Nat} {τr : XS}
theorem dX0_ash_0 : decode cX0_ash 0 = .ok (.iload_n 1, 1) := by decide +kernel
theorem dX0_ash_1 : decode cX0_ash 1 = .ok (.invokestatic 187, 3) := by decide +kernel
theorem dX0_ash_4 : decode cX0_ash 4 = .ok (.ifCond .eq 22, 3) := by decide +kernel
theorem dX0_ash_7 : decode cX0_ash 7 = .ok (.iload_n 2, 1) := by decide +kernel
theorem dX0_ash_8 : decode cX0_ash 8 = .ok (.bipush 100, 2) := by decide +kernel
theorem dX0_ash_10 : decode cX0_ash 10 = .ok (.invokestatic 137, 3) := by decide +kernel
theorem dX0_ash_13 : decode cX0_ash 13 = .ok (.ifCond .eq 13, 3) := by decide +kernel
theorem dX0_ash_16 : decode cX0_ash 16 = .ok (.iload_n 3, 1) := by decide +kernel
theorem dX0_ash_17 : decode cX0_ash 17 = .ok (.iload_n 2, 1) := by decide +kernel
theorem dX0_ash_18 : decode cX0_ash 18 = .ok (.bipush 99, 2) := by decide +kernel
theorem dX0_ash_20 : decode cX0_ash 20 = .ok (.invokestatic 144, 3) := by decide +kernel
theorem dX0_ash_23 : decode cX0_ash 23 = .ok (.ifCond .ne 5, 3) := by decide +kernel
theorem dX0_ash_26 : decode cX0_ash 26 = .ok (.iconst 0, 1) := by decide +kernel
theorem dX0_ash_27 : decode cX0_ash 27 = .ok (.ireturn, 1) := by decide +kernel
theorem dX0_ash_28 : decode cX0_ash 28 = .ok (.aload_n 0, 1) := by decide +kernel
theorem dX0_ash_29 : decode cX0_ash 29 = .ok (.getfield 95, 3) := by decide +kernel
theorem dX0_ash_32 : decode cX0_ash 32 = .ok (.iload_n 1, 1) := by decide +kernel
theorem dX0_ash_33 : decode cX0_ash 33 = .ok (.iload_n 2, 1) := by decide +kernel
theorem dX0_ash_34 : decode cX0_ash 34 = .ok (.iastore, 1) := by decide +kernel
theorem dX0_ash_35 : decode cX0_ash 35 = .ok (.aload_n 0, 1) := by decide +kernel
theorem dX0_ash_36 : decode cX0_ash 36 = .ok (.getfield 98, 3) := by decide +kernel
theorem dX0_ash_39 : decode cX0_ash 39 = .ok (.iload_n 1, 1) := by decide +kernel
theorem dX0_ash_40 : decode cX0_ash 40 = .ok (.iload_n 3, 1) := by decide +kernel
theorem dX0_ash_41 : decode cX0_ash 41 = .ok (.iastore, 1) := by decide +kernel
theorem dX0_ash_42 : decode cX0_ash 42 = .ok (.iconst 1, 1) := by decide +kernel
theorem dX0_ash_43 : decode cX0_ash 43 = .ok (.ireturn, 1) := by decide +kernel
section
variable {v : Int32}
noncomputable def x0_ash (F : Nat) (x1 : Int32) (x2 : Int32) (x3 : Int32) (τ : XS) : XR Int32 :=
  (x0_isLayer F x1).bind (fun r1 => if r1 = 0 then (some (0, τ, 0, 0)) else ((x0_in F x2 100).bind (fun r2 => if r2 = 0 then (some (0, τ, 0, 0)) else ((x0_within F x3 x2 99).bind (fun r3 => if r3 = 0 then (some (0, τ, 0, 0)) else (if okI x1 8 = true then nx (xA τ 23 x1.toNatClampNeg x2) (fun τ1 => if okI x1 8 = true then nx (xA τ1 24 x1.toNatClampNeg x3) (fun τ2 => some (1, τ2, 0, 0)) else none) else none))))))
theorem met_x0_ash {l : Launch} {G : gG} {o B F : Nat} {x1 : Int32} {x2 : Int32} {x3 : Int32} {τ : XS} {r : Int32 × XS × Nat × Nat} (hf : x0_ash F x1 x2 x3 τ = some r) : MetX l G o B yX0_ash cX0_ash 4 (some .boolean) 3 [.ref o, .int x1, .int x2, .int x3] τ (xQi G o B r.1 r.2.1) r.2.2.1 r.2.2.2 := by
  obtain ⟨v, τr, c, s⟩ := r
  refine metX_of (own := RX0) (mn := "ash") (by decide) rfl rfl rfl (fun γ hγ M => ?_)
  subst hγ
  show J γ (XW G o B τ) 0 0 0 [(0, .ref o), (1, .int x1), (2, .int x2), (3, .int x3)] []
  have hkn : 0 + c ≤ c ∧ 0 + s ≤ s := ⟨by omega, by omega⟩
  unfold x0_ash at hf
  refine j_iload_n (pc := 0) M.1 dX0_ash_0 1 rfl ?_
  obtain ⟨r1, g1, hf⟩ := o_bind hf
  refine jx_calls (pc := 1) (As := [.int x1]) (rest := []) M xcs_X0_187 (met_x0_isLayer g1) rfl rfl rfl rfl dX0_ash_1 (kn_le0 hkn) ?_
  refine j_if_eq (pc := 4) M.1 26 dX0_ash_4 rfl (fun b1 => ?_) (fun b1 => ?_)
  · replace hf := o_pos b1 hf
    refine j_iconst (pc := 26) M.1 dX0_ash_26 kc_iconst_0 ?_
    exact jx_zretF (pc := 27) M dX0_ash_27 rfl hf hkn
  · replace hf := o_neg b1 hf
    refine j_iload_n (pc := 7) M.1 dX0_ash_7 2 rfl ?_
    refine j_bipush (pc := 8) M.1 dX0_ash_8 kc_bipush_100 ?_
    obtain ⟨r2, g2, hf⟩ := o_bind hf
    refine jx_calls (pc := 10) (As := [.int x2, .int 100]) (rest := []) M xcs_X0_137 (met_x0_in g2) rfl rfl rfl rfl dX0_ash_10 (kn_le0 hkn) ?_
    refine j_if_eq (pc := 13) M.1 26 dX0_ash_13 rfl (fun b2 => ?_) (fun b2 => ?_)
    · replace hf := o_pos b2 hf
      refine j_iconst (pc := 26) M.1 dX0_ash_26 kc_iconst_0 ?_
      exact jx_zretF (pc := 27) M dX0_ash_27 rfl hf hkn
    · replace hf := o_neg b2 hf
      refine j_iload_n (pc := 16) M.1 dX0_ash_16 3 rfl ?_
      refine j_iload_n (pc := 17) M.1 dX0_ash_17 2 rfl ?_
      refine j_bipush (pc := 18) M.1 dX0_ash_18 kc_bipush_99 ?_
      obtain ⟨r3, g3, hf⟩ := o_bind hf
      refine jx_calls (pc := 20) (As := [.int x3, .int x2, .int 99]) (rest := []) M xcs_X0_144 (met_x0_within g3) rfl rfl rfl rfl dX0_ash_20 (kn_le0 hkn) ?_
      refine j_if_ne (pc := 23) M.1 28 dX0_ash_23 rfl (fun b3 => ?_) (fun b3 => ?_)
      · replace hf := o_neg b3 hf
        refine j_aload_n (pc := 28) M.1 dX0_ash_28 0 rfl ?_
        refine jx_getA (pc := 29) M xfa_95 dX0_ash_29 ?_
        refine j_iload_n (pc := 32) M.1 dX0_ash_32 1 rfl ?_
        refine j_iload_n (pc := 33) M.1 dX0_ash_33 2 rfl ?_
        obtain ⟨b4, hf⟩ := o_need hf
        obtain ⟨τ1, e1, hf⟩ := o_nx hf
        refine jx_iast (pc := 34) M xax_23 b4 dX0_ash_34 e1 ?_
        refine j_aload_n (pc := 35) M.1 dX0_ash_35 0 rfl ?_
        refine jx_getA (pc := 36) M xfa_98 dX0_ash_36 ?_
        refine j_iload_n (pc := 39) M.1 dX0_ash_39 1 rfl ?_
        refine j_iload_n (pc := 40) M.1 dX0_ash_40 3 rfl ?_
        obtain ⟨b5, hf⟩ := o_need hf
        obtain ⟨τ2, e2, hf⟩ := o_nx hf
        refine jx_iast (pc := 41) M xax_24 b5 dX0_ash_41 e2 ?_
        refine j_iconst (pc := 42) M.1 dX0_ash_42 kc_iconst_1 ?_
        exact jx_zretF (pc := 43) M dX0_ash_43 rfl hf hkn
      · replace hf := o_pos b3 hf
        refine j_iconst (pc := 26) M.1 dX0_ash_26 kc_iconst_0 ?_
        exact jx_zretF (pc := 27) M dX0_ash_27 rfl hf hkn
end
theorem dX0_above_0 : decode cX0_above 0 = .ok (.iload_n 1, 1) := by decide +kernel
theorem dX0_above_1 : decode cX0_above 1 = .ok (.invokestatic 187, 3) := by decide +kernel
theorem dX0_above_4 : decode cX0_above 4 = .ok (.ifCond .eq 24, 3) := by decide +kernel
theorem dX0_above_7 : decode cX0_above 7 = .ok (.iload_n 2, 1) := by decide +kernel
theorem dX0_above_8 : decode cX0_above 8 = .ok (.invokestatic 187, 3) := by decide +kernel
theorem dX0_above_11 : decode cX0_above 11 = .ok (.ifCond .eq 17, 3) := by decide +kernel
theorem dX0_above_14 : decode cX0_above 14 = .ok (.iload_n 1, 1) := by decide +kernel
theorem dX0_above_15 : decode cX0_above 15 = .ok (.iload_n 2, 1) := by decide +kernel
theorem dX0_above_16 : decode cX0_above 16 = .ok (.if_icmp .eq 12, 3) := by decide +kernel
theorem dX0_above_19 : decode cX0_above 19 = .ok (.aload_n 0, 1) := by decide +kernel
theorem dX0_above_20 : decode cX0_above 20 = .ok (.getfield 461, 3) := by decide +kernel
theorem dX0_above_23 : decode cX0_above 23 = .ok (.bipush 40, 2) := by decide +kernel
theorem dX0_above_25 : decode cX0_above 25 = .ok (.if_icmp .ne 5, 3) := by decide +kernel
theorem dX0_above_28 : decode cX0_above 28 = .ok (.iconst 0, 1) := by decide +kernel
theorem dX0_above_29 : decode cX0_above 29 = .ok (.ireturn, 1) := by decide +kernel
theorem dX0_above_30 : decode cX0_above 30 = .ok (.aload_n 0, 1) := by decide +kernel
theorem dX0_above_31 : decode cX0_above 31 = .ok (.getfield 107, 3) := by decide +kernel
theorem dX0_above_34 : decode cX0_above 34 = .ok (.aload_n 0, 1) := by decide +kernel
theorem dX0_above_35 : decode cX0_above 35 = .ok (.getfield 461, 3) := by decide +kernel
theorem dX0_above_38 : decode cX0_above 38 = .ok (.iload_n 1, 1) := by decide +kernel
theorem dX0_above_39 : decode cX0_above 39 = .ok (.iastore, 1) := by decide +kernel
theorem dX0_above_40 : decode cX0_above 40 = .ok (.aload_n 0, 1) := by decide +kernel
theorem dX0_above_41 : decode cX0_above 41 = .ok (.getfield 110, 3) := by decide +kernel
theorem dX0_above_44 : decode cX0_above 44 = .ok (.aload_n 0, 1) := by decide +kernel
theorem dX0_above_45 : decode cX0_above 45 = .ok (.getfield 461, 3) := by decide +kernel
theorem dX0_above_48 : decode cX0_above 48 = .ok (.iload_n 2, 1) := by decide +kernel
theorem dX0_above_49 : decode cX0_above 49 = .ok (.iastore, 1) := by decide +kernel
theorem dX0_above_50 : decode cX0_above 50 = .ok (.aload_n 0, 1) := by decide +kernel
theorem dX0_above_51 : decode cX0_above 51 = .ok (.dup, 1) := by decide +kernel
theorem dX0_above_52 : decode cX0_above 52 = .ok (.getfield 461, 3) := by decide +kernel
theorem dX0_above_55 : decode cX0_above 55 = .ok (.iconst 1, 1) := by decide +kernel
theorem dX0_above_56 : decode cX0_above 56 = .ok (.iadd, 1) := by decide +kernel
theorem dX0_above_57 : decode cX0_above 57 = .ok (.putfield 461, 3) := by decide +kernel
theorem dX0_above_60 : decode cX0_above 60 = .ok (.iconst 1, 1) := by decide +kernel
theorem dX0_above_61 : decode cX0_above 61 = .ok (.ireturn, 1) := by decide +kernel
section
variable {v : Int32}
noncomputable def x0_above (F : Nat) (x1 : Int32) (x2 : Int32) (τ : XS) : XR Int32 :=
  (x0_isLayer F x1).bind (fun r1 => if r1 = 0 then (some (0, τ, 0, 0)) else ((x0_isLayer F x2).bind (fun r2 => if r2 = 0 then (some (0, τ, 0, 0)) else (if x1 = x2 then (some (0, τ, 0, 0)) else (if (τ.1.1 34) = 40 then (some (0, τ, 0, 0)) else (if okI (τ.1.1 34) 40 = true then nx (xA τ 27 (τ.1.1 34).toNatClampNeg x1) (fun τ1 => if okI (τ1.1.1 34) 40 = true then nx (xA τ1 28 (τ1.1.1 34).toNatClampNeg x2) (fun τ2 => nx (xS τ2 34 ((τ2.1.1 34) + 1)) (fun τ3 => some (1, τ3, 0, 0))) else none) else none))))))
theorem met_x0_above {l : Launch} {G : gG} {o B F : Nat} {x1 : Int32} {x2 : Int32} {τ : XS} {r : Int32 × XS × Nat × Nat} (hf : x0_above F x1 x2 τ = some r) : MetX l G o B yX0_above cX0_above 3 (some .boolean) 3 [.ref o, .int x1, .int x2] τ (xQi G o B r.1 r.2.1) r.2.2.1 r.2.2.2 := by
  obtain ⟨v, τr, c, s⟩ := r
  refine metX_of (own := RX0) (mn := "above") (by decide) rfl rfl rfl (fun γ hγ M => ?_)
  subst hγ
  show J γ (XW G o B τ) 0 0 0 [(0, .ref o), (1, .int x1), (2, .int x2)] []
  have hkn : 0 + c ≤ c ∧ 0 + s ≤ s := ⟨by omega, by omega⟩
  unfold x0_above at hf
  refine j_iload_n (pc := 0) M.1 dX0_above_0 1 rfl ?_
  obtain ⟨r1, g1, hf⟩ := o_bind hf
  refine jx_calls (pc := 1) (As := [.int x1]) (rest := []) M xcs_X0_187 (met_x0_isLayer g1) rfl rfl rfl rfl dX0_above_1 (kn_le0 hkn) ?_
  refine j_if_eq (pc := 4) M.1 28 dX0_above_4 rfl (fun b1 => ?_) (fun b1 => ?_)
  · replace hf := o_pos b1 hf
    refine j_iconst (pc := 28) M.1 dX0_above_28 kc_iconst_0 ?_
    exact jx_zretF (pc := 29) M dX0_above_29 rfl hf hkn
  · replace hf := o_neg b1 hf
    refine j_iload_n (pc := 7) M.1 dX0_above_7 2 rfl ?_
    obtain ⟨r2, g2, hf⟩ := o_bind hf
    refine jx_calls (pc := 8) (As := [.int x2]) (rest := []) M xcs_X0_187 (met_x0_isLayer g2) rfl rfl rfl rfl dX0_above_8 (kn_le0 hkn) ?_
    refine j_if_eq (pc := 11) M.1 28 dX0_above_11 rfl (fun b2 => ?_) (fun b2 => ?_)
    · replace hf := o_pos b2 hf
      refine j_iconst (pc := 28) M.1 dX0_above_28 kc_iconst_0 ?_
      exact jx_zretF (pc := 29) M dX0_above_29 rfl hf hkn
    · replace hf := o_neg b2 hf
      refine j_iload_n (pc := 14) M.1 dX0_above_14 1 rfl ?_
      refine j_iload_n (pc := 15) M.1 dX0_above_15 2 rfl ?_
      refine j_icmp_eq (pc := 16) M.1 28 dX0_above_16 rfl (fun b3 => ?_) (fun b3 => ?_)
      · replace hf := o_pos b3 hf
        refine j_iconst (pc := 28) M.1 dX0_above_28 kc_iconst_0 ?_
        exact jx_zretF (pc := 29) M dX0_above_29 rfl hf hkn
      · replace hf := o_neg b3 hf
        refine j_aload_n (pc := 19) M.1 dX0_above_19 0 rfl ?_
        refine jx_getS (pc := 20) M xfs_461 dX0_above_20 ?_
        refine j_bipush (pc := 23) M.1 dX0_above_23 kc_bipush_40 ?_
        refine j_icmp_ne (pc := 25) M.1 30 dX0_above_25 rfl (fun b4 => ?_) (fun b4 => ?_)
        · replace hf := o_neg b4 hf
          refine j_aload_n (pc := 30) M.1 dX0_above_30 0 rfl ?_
          refine jx_getA (pc := 31) M xfa_107 dX0_above_31 ?_
          refine j_aload_n (pc := 34) M.1 dX0_above_34 0 rfl ?_
          refine jx_getS (pc := 35) M xfs_461 dX0_above_35 ?_
          refine j_iload_n (pc := 38) M.1 dX0_above_38 1 rfl ?_
          obtain ⟨b5, hf⟩ := o_need hf
          obtain ⟨τ1, e1, hf⟩ := o_nx hf
          refine jx_iast (pc := 39) M xax_27 b5 dX0_above_39 e1 ?_
          refine j_aload_n (pc := 40) M.1 dX0_above_40 0 rfl ?_
          refine jx_getA (pc := 41) M xfa_110 dX0_above_41 ?_
          refine j_aload_n (pc := 44) M.1 dX0_above_44 0 rfl ?_
          refine jx_getS (pc := 45) M xfs_461 dX0_above_45 ?_
          refine j_iload_n (pc := 48) M.1 dX0_above_48 2 rfl ?_
          obtain ⟨b6, hf⟩ := o_need hf
          obtain ⟨τ2, e2, hf⟩ := o_nx hf
          refine jx_iast (pc := 49) M xax_28 b6 dX0_above_49 e2 ?_
          refine j_aload_n (pc := 50) M.1 dX0_above_50 0 rfl ?_
          refine j_dup (pc := 51) M.1 dX0_above_51 rfl ?_
          refine jx_getS (pc := 52) M xfs_461 dX0_above_52 ?_
          refine j_iconst (pc := 55) M.1 dX0_above_55 kc_iconst_1 ?_
          refine j_iadd (pc := 56) M.1 dX0_above_56 ?_
          obtain ⟨τ3, e3, hf⟩ := o_nx hf
          refine jx_putS (pc := 57) M xfs_461 dX0_above_57 e3 ?_
          refine j_iconst (pc := 60) M.1 dX0_above_60 kc_iconst_1 ?_
          exact jx_zretF (pc := 61) M dX0_above_61 rfl hf hkn
        · replace hf := o_pos b4 hf
          refine j_iconst (pc := 28) M.1 dX0_above_28 kc_iconst_0 ?_
          exact jx_zretF (pc := 29) M dX0_above_29 rfl hf hkn
end
theorem dX0_settles_0 : decode cX0_settles 0 = .ok (.iconst 0, 1) := by decide +kernel
theorem dX0_settles_1 : decode cX0_settles 1 = .ok (.istore_n 1, 1) := by decide +kernel
theorem dX0_settles_2 : decode cX0_settles 2 = .ok (.iload_n 1, 1) := by decide +kernel
theorem dX0_settles_3 : decode cX0_settles 3 = .ok (.bipush 8, 2) := by decide +kernel
theorem dX0_settles_5 : decode cX0_settles 5 = .ok (.if_icmp .ge 33, 3) := by decide +kernel
theorem dX0_settles_8 : decode cX0_settles 8 = .ok (.aload_n 0, 1) := by decide +kernel
theorem dX0_settles_9 : decode cX0_settles 9 = .ok (.getfield 101, 3) := by decide +kernel
theorem dX0_settles_12 : decode cX0_settles 12 = .ok (.iload_n 1, 1) := by decide +kernel
theorem dX0_settles_13 : decode cX0_settles 13 = .ok (.aload_n 0, 1) := by decide +kernel
theorem dX0_settles_14 : decode cX0_settles 14 = .ok (.getfield 95, 3) := by decide +kernel
theorem dX0_settles_17 : decode cX0_settles 17 = .ok (.iload_n 1, 1) := by decide +kernel
theorem dX0_settles_18 : decode cX0_settles 18 = .ok (.iaload, 1) := by decide +kernel
theorem dX0_settles_19 : decode cX0_settles 19 = .ok (.iastore, 1) := by decide +kernel
theorem dX0_settles_20 : decode cX0_settles 20 = .ok (.aload_n 0, 1) := by decide +kernel
theorem dX0_settles_21 : decode cX0_settles 21 = .ok (.getfield 104, 3) := by decide +kernel
theorem dX0_settles_24 : decode cX0_settles 24 = .ok (.iload_n 1, 1) := by decide +kernel
theorem dX0_settles_25 : decode cX0_settles 25 = .ok (.aload_n 0, 1) := by decide +kernel
theorem dX0_settles_26 : decode cX0_settles 26 = .ok (.getfield 98, 3) := by decide +kernel
theorem dX0_settles_29 : decode cX0_settles 29 = .ok (.iload_n 1, 1) := by decide +kernel
theorem dX0_settles_30 : decode cX0_settles 30 = .ok (.iaload, 1) := by decide +kernel
theorem dX0_settles_31 : decode cX0_settles 31 = .ok (.iastore, 1) := by decide +kernel
theorem dX0_settles_32 : decode cX0_settles 32 = .ok (.iinc 1 1, 3) := by decide +kernel
theorem dX0_settles_35 : decode cX0_settles 35 = .ok (.goto (-33), 3) := by decide +kernel
theorem dX0_settles_38 : decode cX0_settles 38 = .ok (.iconst 1, 1) := by decide +kernel
theorem dX0_settles_39 : decode cX0_settles 39 = .ok (.istore_n 1, 1) := by decide +kernel
theorem dX0_settles_40 : decode cX0_settles 40 = .ok (.iload_n 1, 1) := by decide +kernel
theorem dX0_settles_41 : decode cX0_settles 41 = .ok (.ifCond .eq 139, 3) := by decide +kernel
theorem dX0_settles_44 : decode cX0_settles 44 = .ok (.iconst 0, 1) := by decide +kernel
theorem dX0_settles_45 : decode cX0_settles 45 = .ok (.istore_n 1, 1) := by decide +kernel
theorem dX0_settles_46 : decode cX0_settles 46 = .ok (.iconst 0, 1) := by decide +kernel
theorem dX0_settles_47 : decode cX0_settles 47 = .ok (.istore_n 2, 1) := by decide +kernel
theorem dX0_settles_48 : decode cX0_settles 48 = .ok (.iload_n 2, 1) := by decide +kernel
theorem dX0_settles_49 : decode cX0_settles 49 = .ok (.aload_n 0, 1) := by decide +kernel
theorem dX0_settles_50 : decode cX0_settles 50 = .ok (.getfield 461, 3) := by decide +kernel
theorem dX0_settles_53 : decode cX0_settles 53 = .ok (.if_icmp .ge 124, 3) := by decide +kernel
theorem dX0_settles_56 : decode cX0_settles 56 = .ok (.aload_n 0, 1) := by decide +kernel
theorem dX0_settles_57 : decode cX0_settles 57 = .ok (.getfield 107, 3) := by decide +kernel
theorem dX0_settles_60 : decode cX0_settles 60 = .ok (.iload_n 2, 1) := by decide +kernel
theorem dX0_settles_61 : decode cX0_settles 61 = .ok (.iaload, 1) := by decide +kernel
theorem dX0_settles_62 : decode cX0_settles 62 = .ok (.istore_n 3, 1) := by decide +kernel
theorem dX0_settles_63 : decode cX0_settles 63 = .ok (.aload_n 0, 1) := by decide +kernel
theorem dX0_settles_64 : decode cX0_settles 64 = .ok (.getfield 110, 3) := by decide +kernel
theorem dX0_settles_67 : decode cX0_settles 67 = .ok (.iload_n 2, 1) := by decide +kernel
theorem dX0_settles_68 : decode cX0_settles 68 = .ok (.iaload, 1) := by decide +kernel
theorem dX0_settles_69 : decode cX0_settles 69 = .ok (.istore 4, 2) := by decide +kernel
theorem dX0_settles_71 : decode cX0_settles 71 = .ok (.aload_n 0, 1) := by decide +kernel
theorem dX0_settles_72 : decode cX0_settles 72 = .ok (.getfield 101, 3) := by decide +kernel
theorem dX0_settles_75 : decode cX0_settles 75 = .ok (.iload_n 3, 1) := by decide +kernel
theorem dX0_settles_76 : decode cX0_settles 76 = .ok (.iaload, 1) := by decide +kernel
theorem dX0_settles_77 : decode cX0_settles 77 = .ok (.aload_n 0, 1) := by decide +kernel
theorem dX0_settles_78 : decode cX0_settles 78 = .ok (.getfield 101, 3) := by decide +kernel
theorem dX0_settles_81 : decode cX0_settles 81 = .ok (.iload 4, 2) := by decide +kernel
theorem dX0_settles_83 : decode cX0_settles 83 = .ok (.iaload, 1) := by decide +kernel
theorem dX0_settles_84 : decode cX0_settles 84 = .ok (.if_icmp .gt 20, 3) := by decide +kernel
theorem dX0_settles_87 : decode cX0_settles 87 = .ok (.aload_n 0, 1) := by decide +kernel
theorem dX0_settles_88 : decode cX0_settles 88 = .ok (.getfield 101, 3) := by decide +kernel
theorem dX0_settles_91 : decode cX0_settles 91 = .ok (.iload_n 3, 1) := by decide +kernel
theorem dX0_settles_92 : decode cX0_settles 92 = .ok (.aload_n 0, 1) := by decide +kernel
theorem dX0_settles_93 : decode cX0_settles 93 = .ok (.getfield 101, 3) := by decide +kernel
theorem dX0_settles_96 : decode cX0_settles 96 = .ok (.iload 4, 2) := by decide +kernel
theorem dX0_settles_98 : decode cX0_settles 98 = .ok (.iaload, 1) := by decide +kernel
theorem dX0_settles_99 : decode cX0_settles 99 = .ok (.iconst 1, 1) := by decide +kernel
theorem dX0_settles_100 : decode cX0_settles 100 = .ok (.iadd, 1) := by decide +kernel
theorem dX0_settles_101 : decode cX0_settles 101 = .ok (.iastore, 1) := by decide +kernel
theorem dX0_settles_102 : decode cX0_settles 102 = .ok (.iconst 1, 1) := by decide +kernel
theorem dX0_settles_103 : decode cX0_settles 103 = .ok (.istore_n 1, 1) := by decide +kernel
theorem dX0_settles_104 : decode cX0_settles 104 = .ok (.aload_n 0, 1) := by decide +kernel
theorem dX0_settles_105 : decode cX0_settles 105 = .ok (.getfield 104, 3) := by decide +kernel
theorem dX0_settles_108 : decode cX0_settles 108 = .ok (.iload 4, 2) := by decide +kernel
theorem dX0_settles_110 : decode cX0_settles 110 = .ok (.iaload, 1) := by decide +kernel
theorem dX0_settles_111 : decode cX0_settles 111 = .ok (.aload_n 0, 1) := by decide +kernel
theorem dX0_settles_112 : decode cX0_settles 112 = .ok (.getfield 104, 3) := by decide +kernel
theorem dX0_settles_115 : decode cX0_settles 115 = .ok (.iload_n 3, 1) := by decide +kernel
theorem dX0_settles_116 : decode cX0_settles 116 = .ok (.iaload, 1) := by decide +kernel
theorem dX0_settles_117 : decode cX0_settles 117 = .ok (.if_icmp .lt 20, 3) := by decide +kernel
theorem dX0_settles_120 : decode cX0_settles 120 = .ok (.aload_n 0, 1) := by decide +kernel
theorem dX0_settles_121 : decode cX0_settles 121 = .ok (.getfield 104, 3) := by decide +kernel
theorem dX0_settles_124 : decode cX0_settles 124 = .ok (.iload 4, 2) := by decide +kernel
theorem dX0_settles_126 : decode cX0_settles 126 = .ok (.aload_n 0, 1) := by decide +kernel
theorem dX0_settles_127 : decode cX0_settles 127 = .ok (.getfield 104, 3) := by decide +kernel
theorem dX0_settles_130 : decode cX0_settles 130 = .ok (.iload_n 3, 1) := by decide +kernel
theorem dX0_settles_131 : decode cX0_settles 131 = .ok (.iaload, 1) := by decide +kernel
theorem dX0_settles_132 : decode cX0_settles 132 = .ok (.iconst 1, 1) := by decide +kernel
theorem dX0_settles_133 : decode cX0_settles 133 = .ok (.isub, 1) := by decide +kernel
theorem dX0_settles_134 : decode cX0_settles 134 = .ok (.iastore, 1) := by decide +kernel
theorem dX0_settles_135 : decode cX0_settles 135 = .ok (.iconst 1, 1) := by decide +kernel
theorem dX0_settles_136 : decode cX0_settles 136 = .ok (.istore_n 1, 1) := by decide +kernel
theorem dX0_settles_137 : decode cX0_settles 137 = .ok (.aload_n 0, 1) := by decide +kernel
theorem dX0_settles_138 : decode cX0_settles 138 = .ok (.getfield 101, 3) := by decide +kernel
theorem dX0_settles_141 : decode cX0_settles 141 = .ok (.iload_n 3, 1) := by decide +kernel
theorem dX0_settles_142 : decode cX0_settles 142 = .ok (.iaload, 1) := by decide +kernel
theorem dX0_settles_143 : decode cX0_settles 143 = .ok (.aload_n 0, 1) := by decide +kernel
theorem dX0_settles_144 : decode cX0_settles 144 = .ok (.getfield 104, 3) := by decide +kernel
theorem dX0_settles_147 : decode cX0_settles 147 = .ok (.iload_n 3, 1) := by decide +kernel
theorem dX0_settles_148 : decode cX0_settles 148 = .ok (.iaload, 1) := by decide +kernel
theorem dX0_settles_149 : decode cX0_settles 149 = .ok (.if_icmp .gt 20, 3) := by decide +kernel
theorem dX0_settles_152 : decode cX0_settles 152 = .ok (.aload_n 0, 1) := by decide +kernel
theorem dX0_settles_153 : decode cX0_settles 153 = .ok (.getfield 101, 3) := by decide +kernel
theorem dX0_settles_156 : decode cX0_settles 156 = .ok (.iload 4, 2) := by decide +kernel
theorem dX0_settles_158 : decode cX0_settles 158 = .ok (.iaload, 1) := by decide +kernel
theorem dX0_settles_159 : decode cX0_settles 159 = .ok (.aload_n 0, 1) := by decide +kernel
theorem dX0_settles_160 : decode cX0_settles 160 = .ok (.getfield 104, 3) := by decide +kernel
theorem dX0_settles_163 : decode cX0_settles 163 = .ok (.iload 4, 2) := by decide +kernel
theorem dX0_settles_165 : decode cX0_settles 165 = .ok (.iaload, 1) := by decide +kernel
theorem dX0_settles_166 : decode cX0_settles 166 = .ok (.if_icmp .le 5, 3) := by decide +kernel
theorem dX0_settles_169 : decode cX0_settles 169 = .ok (.iconst 0, 1) := by decide +kernel
theorem dX0_settles_170 : decode cX0_settles 170 = .ok (.ireturn, 1) := by decide +kernel
theorem dX0_settles_171 : decode cX0_settles 171 = .ok (.iinc 2 1, 3) := by decide +kernel
theorem dX0_settles_174 : decode cX0_settles 174 = .ok (.goto (-126), 3) := by decide +kernel
theorem dX0_settles_177 : decode cX0_settles 177 = .ok (.goto (-137), 3) := by decide +kernel
theorem dX0_settles_180 : decode cX0_settles 180 = .ok (.iconst 1, 1) := by decide +kernel
theorem dX0_settles_181 : decode cX0_settles 181 = .ok (.ireturn, 1) := by decide +kernel
section
variable {v : Int32}
noncomputable def x0_settles_B2 (F : Nat) (K38 : Int32 × XS → XR Int32) (R : Int32 × XS → XR Int32) (a : Int32 × XS) : XR Int32 :=
  if 8 ≤ a.1 then (K38 (a.1, a.2)) else (if okI a.1 8 = true then if okI a.1 8 = true then nx (xA a.2 25 a.1.toNatClampNeg (a.2.1.2 23 a.1.toNatClampNeg)) (fun τ1 => if okI a.1 8 = true then if okI a.1 8 = true then nx (xA τ1 26 a.1.toNatClampNeg (τ1.1.2 24 a.1.toNatClampNeg)) (fun τ2 => R (a.1 + 1, τ2)) else none else none) else none else none)
theorem kx0_settles_B2 (M : XC γ cX0_settles 5 RX0 "settles" G o B 1 (some .boolean) (xQi G o B v τr) c0 s0) (K38 : Int32 × XS → XR Int32) (hK38 : ∀ a c s, K38 a = some (v, τr, c, s) → ∀ k n, k + c ≤ c0 ∧ n + s ≤ s0 → J γ (XW G o B a.2) k n 38 [(0, .ref o)] []) : ∀ R : Int32 × XS → XR Int32, (∀ a c s, R a = some (v, τr, c, s) → ∀ k n, k + c ≤ c0 ∧ n + s ≤ s0 → J γ (XW G o B a.2) k n 2 [(0, .ref o), (1, .int a.1)] []) → ∀ a c s, x0_settles_B2 F K38 R a = some (v, τr, c, s) → ∀ k n, k + c ≤ c0 ∧ n + s ≤ s0 → J γ (XW G o B a.2) k n 2 [(0, .ref o), (1, .int a.1)] [] := by
  intro R hR a c s hf k n hkn
  unfold x0_settles_B2 at hf
  refine j_iload_n (pc := 2) M.1 dX0_settles_2 1 rfl ?_
  refine j_bipush (pc := 3) M.1 dX0_settles_3 kc_bipush_8 ?_
  refine j_icmp_ge (pc := 5) M.1 38 dX0_settles_5 rfl (fun b1 => ?_) (fun b1 => ?_)
  · replace hf := o_pos b1 hf
    refine j_sub [0] (show lv_pick _ _ = [(0, .ref o)] from rfl) ?_
    have hy := hK38 _ _ _ hf _ _ hkn
    exact hy
  · replace hf := o_neg b1 hf
    refine j_aload_n (pc := 8) M.1 dX0_settles_8 0 rfl ?_
    refine jx_getA (pc := 9) M xfa_101 dX0_settles_9 ?_
    refine j_iload_n (pc := 12) M.1 dX0_settles_12 1 rfl ?_
    refine j_aload_n (pc := 13) M.1 dX0_settles_13 0 rfl ?_
    refine jx_getA (pc := 14) M xfa_95 dX0_settles_14 ?_
    refine j_iload_n (pc := 17) M.1 dX0_settles_17 1 rfl ?_
    obtain ⟨b2, hf⟩ := o_need hf
    refine jx_iald (pc := 18) M xax_23 b2 dX0_settles_18 ?_
    obtain ⟨b3, hf⟩ := o_need hf
    obtain ⟨τ1, e1, hf⟩ := o_nx hf
    refine jx_iast (pc := 19) M xax_25 b3 dX0_settles_19 e1 ?_
    refine j_aload_n (pc := 20) M.1 dX0_settles_20 0 rfl ?_
    refine jx_getA (pc := 21) M xfa_104 dX0_settles_21 ?_
    refine j_iload_n (pc := 24) M.1 dX0_settles_24 1 rfl ?_
    refine j_aload_n (pc := 25) M.1 dX0_settles_25 0 rfl ?_
    refine jx_getA (pc := 26) M xfa_98 dX0_settles_26 ?_
    refine j_iload_n (pc := 29) M.1 dX0_settles_29 1 rfl ?_
    obtain ⟨b4, hf⟩ := o_need hf
    refine jx_iald (pc := 30) M xax_24 b4 dX0_settles_30 ?_
    obtain ⟨b5, hf⟩ := o_need hf
    obtain ⟨τ2, e2, hf⟩ := o_nx hf
    refine jx_iast (pc := 31) M xax_26 b5 dX0_settles_31 e2 ?_
    refine j_iinc (pc := 32) M.1 [(1, .int (a.1 + 1)), (0, .ref o)] dX0_settles_32 1 rfl (congrArg _ kc_iconst_1) rfl rfl ?_
    refine j_goto (pc := 35) M.1 2 dX0_settles_35 rfl ?_
    refine j_sub [1, 0] (show lv_pick _ _ = [(0, .ref o), (1, .int (a.1 + 1))] from rfl) ?_
    have hy := hR _ _ _ hf _ _ hkn
    exact hy
noncomputable def x0_settles_137 (F : Nat) (K177 : Int32 × Int32 × XS → XR Int32) (R : Int32 × Int32 × XS → XR Int32) (x1 : Int32) (x2 : Int32) (x3 : Int32) (x4 : Int32) (τ : XS) : XR Int32 :=
  if okI x3 8 = true then if okI x3 8 = true then if (τ.1.2 26 x3.toNatClampNeg) < (τ.1.2 25 x3.toNatClampNeg) then (some (0, τ, 0, 0)) else (if okI x4 8 = true then if okI x4 8 = true then if (τ.1.2 25 x4.toNatClampNeg) ≤ (τ.1.2 26 x4.toNatClampNeg) then (R (x1, x2 + 1, τ)) else (some (0, τ, 0, 0)) else none else none) else none else none
theorem kx0_settles_137 (M : XC γ cX0_settles 5 RX0 "settles" G o B 1 (some .boolean) (xQi G o B v τr) c0 s0) (x1 : Int32) (x2 : Int32) (x3 : Int32) (x4 : Int32) (K177 : Int32 × Int32 × XS → XR Int32) (hK177 : ∀ a c s, K177 a = some (v, τr, c, s) → ∀ k n, k + c ≤ c0 ∧ n + s ≤ s0 → J γ (XW G o B a.2.2) k n 177 [(0, .ref o), (1, .int a.1)] []) (R : Int32 × Int32 × XS → XR Int32) (hR : ∀ a c s, R a = some (v, τr, c, s) → ∀ k n, k + c ≤ c0 ∧ n + s ≤ s0 → J γ (XW G o B a.2.2) k n 48 [(0, .ref o), (1, .int a.1), (2, .int a.2.1)] []) (τ : XS) {c s k n : Nat} (hf : x0_settles_137 F K177 R x1 x2 x3 x4 τ = some (v, τr, c, s)) (hkn : k + c ≤ c0 ∧ n + s ≤ s0) : J γ (XW G o B τ) k n 137 [(0, .ref o), (1, .int x1), (2, .int x2), (3, .int x3), (4, .int x4)] [] := by
  unfold x0_settles_137 at hf
  refine j_aload_n (pc := 137) M.1 dX0_settles_137 0 rfl ?_
  refine jx_getA (pc := 138) M xfa_101 dX0_settles_138 ?_
  refine j_iload_n (pc := 141) M.1 dX0_settles_141 3 rfl ?_
  obtain ⟨b1, hf⟩ := o_need hf
  refine jx_iald (pc := 142) M xax_25 b1 dX0_settles_142 ?_
  refine j_aload_n (pc := 143) M.1 dX0_settles_143 0 rfl ?_
  refine jx_getA (pc := 144) M xfa_104 dX0_settles_144 ?_
  refine j_iload_n (pc := 147) M.1 dX0_settles_147 3 rfl ?_
  obtain ⟨b2, hf⟩ := o_need hf
  refine jx_iald (pc := 148) M xax_26 b2 dX0_settles_148 ?_
  refine j_icmp_gt (pc := 149) M.1 169 dX0_settles_149 rfl (fun b3 => ?_) (fun b3 => ?_)
  · replace hf := o_pos b3 hf
    refine j_iconst (pc := 169) M.1 dX0_settles_169 kc_iconst_0 ?_
    exact jx_zretF (pc := 170) M dX0_settles_170 rfl hf hkn
  · replace hf := o_neg b3 hf
    refine j_aload_n (pc := 152) M.1 dX0_settles_152 0 rfl ?_
    refine jx_getA (pc := 153) M xfa_101 dX0_settles_153 ?_
    refine j_iload (pc := 156) M.1 dX0_settles_156 4 rfl ?_
    obtain ⟨b4, hf⟩ := o_need hf
    refine jx_iald (pc := 158) M xax_25 b4 dX0_settles_158 ?_
    refine j_aload_n (pc := 159) M.1 dX0_settles_159 0 rfl ?_
    refine jx_getA (pc := 160) M xfa_104 dX0_settles_160 ?_
    refine j_iload (pc := 163) M.1 dX0_settles_163 4 rfl ?_
    obtain ⟨b5, hf⟩ := o_need hf
    refine jx_iald (pc := 165) M xax_26 b5 dX0_settles_165 ?_
    refine j_icmp_le (pc := 166) M.1 171 dX0_settles_166 rfl (fun b6 => ?_) (fun b6 => ?_)
    · replace hf := o_pos b6 hf
      refine j_iinc (pc := 171) M.1 [(2, .int (x2 + 1)), (0, .ref o), (1, .int x1), (3, .int x3), (4, .int x4)] dX0_settles_171 2 rfl (congrArg _ kc_iconst_1) rfl rfl ?_
      refine j_goto (pc := 174) M.1 48 dX0_settles_174 rfl ?_
      refine j_sub [1, 2, 0] (show lv_pick _ _ = [(0, .ref o), (1, .int x1), (2, .int (x2 + 1))] from rfl) ?_
      have hy := hR _ _ _ hf _ _ hkn
      exact hy
    · replace hf := o_neg b6 hf
      refine j_iconst (pc := 169) M.1 dX0_settles_169 kc_iconst_0 ?_
      exact jx_zretF (pc := 170) M dX0_settles_170 rfl hf hkn
noncomputable def x0_settles_104 (F : Nat) (K177 : Int32 × Int32 × XS → XR Int32) (R : Int32 × Int32 × XS → XR Int32) (x1 : Int32) (x2 : Int32) (x3 : Int32) (x4 : Int32) (τ : XS) : XR Int32 :=
  if okI x4 8 = true then if okI x3 8 = true then if (τ.1.2 26 x4.toNatClampNeg) < (τ.1.2 26 x3.toNatClampNeg) then (x0_settles_137 F K177 R x1 x2 x3 x4 τ) else (if okI x3 8 = true then if okI x4 8 = true then nx (xA τ 26 x4.toNatClampNeg ((τ.1.2 26 x3.toNatClampNeg) - 1)) (fun τ1 => x0_settles_137 F K177 R 1 x2 x3 x4 τ1) else none else none) else none else none
theorem kx0_settles_104 (M : XC γ cX0_settles 5 RX0 "settles" G o B 1 (some .boolean) (xQi G o B v τr) c0 s0) (x1 : Int32) (x2 : Int32) (x3 : Int32) (x4 : Int32) (K177 : Int32 × Int32 × XS → XR Int32) (hK177 : ∀ a c s, K177 a = some (v, τr, c, s) → ∀ k n, k + c ≤ c0 ∧ n + s ≤ s0 → J γ (XW G o B a.2.2) k n 177 [(0, .ref o), (1, .int a.1)] []) (R : Int32 × Int32 × XS → XR Int32) (hR : ∀ a c s, R a = some (v, τr, c, s) → ∀ k n, k + c ≤ c0 ∧ n + s ≤ s0 → J γ (XW G o B a.2.2) k n 48 [(0, .ref o), (1, .int a.1), (2, .int a.2.1)] []) (τ : XS) {c s k n : Nat} (hf : x0_settles_104 F K177 R x1 x2 x3 x4 τ = some (v, τr, c, s)) (hkn : k + c ≤ c0 ∧ n + s ≤ s0) : J γ (XW G o B τ) k n 104 [(0, .ref o), (1, .int x1), (2, .int x2), (3, .int x3), (4, .int x4)] [] := by
  unfold x0_settles_104 at hf
  refine j_aload_n (pc := 104) M.1 dX0_settles_104 0 rfl ?_
  refine jx_getA (pc := 105) M xfa_104 dX0_settles_105 ?_
  refine j_iload (pc := 108) M.1 dX0_settles_108 4 rfl ?_
  obtain ⟨b1, hf⟩ := o_need hf
  refine jx_iald (pc := 110) M xax_26 b1 dX0_settles_110 ?_
  refine j_aload_n (pc := 111) M.1 dX0_settles_111 0 rfl ?_
  refine jx_getA (pc := 112) M xfa_104 dX0_settles_112 ?_
  refine j_iload_n (pc := 115) M.1 dX0_settles_115 3 rfl ?_
  obtain ⟨b2, hf⟩ := o_need hf
  refine jx_iald (pc := 116) M xax_26 b2 dX0_settles_116 ?_
  refine j_icmp_lt (pc := 117) M.1 137 dX0_settles_117 rfl (fun b3 => ?_) (fun b3 => ?_)
  · replace hf := o_pos b3 hf
    exact kx0_settles_137 M x1 x2 x3 x4 K177 hK177 R hR τ hf hkn
  · replace hf := o_neg b3 hf
    refine j_aload_n (pc := 120) M.1 dX0_settles_120 0 rfl ?_
    refine jx_getA (pc := 121) M xfa_104 dX0_settles_121 ?_
    refine j_iload (pc := 124) M.1 dX0_settles_124 4 rfl ?_
    refine j_aload_n (pc := 126) M.1 dX0_settles_126 0 rfl ?_
    refine jx_getA (pc := 127) M xfa_104 dX0_settles_127 ?_
    refine j_iload_n (pc := 130) M.1 dX0_settles_130 3 rfl ?_
    obtain ⟨b4, hf⟩ := o_need hf
    refine jx_iald (pc := 131) M xax_26 b4 dX0_settles_131 ?_
    refine j_iconst (pc := 132) M.1 dX0_settles_132 kc_iconst_1 ?_
    refine j_isub (pc := 133) M.1 dX0_settles_133 ?_
    obtain ⟨b5, hf⟩ := o_need hf
    obtain ⟨τ1, e1, hf⟩ := o_nx hf
    refine jx_iast (pc := 134) M xax_26 b5 dX0_settles_134 e1 ?_
    refine j_iconst (pc := 135) M.1 dX0_settles_135 kc_iconst_1 ?_
    refine j_istore_n (pc := 136) M.1 [(1, .int 1), (0, .ref o), (2, .int x2), (3, .int x3), (4, .int x4)] dX0_settles_136 rfl rfl ?_
    refine j_sub [1, 0, 2, 3, 4] (show lv_pick _ _ = [(0, .ref o), (1, .int 1), (2, .int x2), (3, .int x3), (4, .int x4)] from rfl) ?_
    exact kx0_settles_137 M 1 x2 x3 x4 K177 hK177 R hR τ1 hf hkn
noncomputable def x0_settles_B48 (F : Nat) (K177 : Int32 × Int32 × XS → XR Int32) (R : Int32 × Int32 × XS → XR Int32) (a : Int32 × Int32 × XS) : XR Int32 :=
  if (a.2.2.1.1 34) ≤ a.2.1 then (K177 (a.1, a.2.1, a.2.2)) else (if okI a.2.1 40 = true then nx (a.2.2.1.2 27 a.2.1.toNatClampNeg : Int32) (fun y1 => if okI a.2.1 40 = true then nx (a.2.2.1.2 28 a.2.1.toNatClampNeg : Int32) (fun y2 => if okI y1 8 = true then if okI y2 8 = true then if (a.2.2.1.2 25 y2.toNatClampNeg) < (a.2.2.1.2 25 y1.toNatClampNeg) then (x0_settles_104 F K177 R a.1 a.2.1 y1 y2 a.2.2) else (if okI y2 8 = true then if okI y1 8 = true then nx (xA a.2.2 25 y1.toNatClampNeg ((a.2.2.1.2 25 y2.toNatClampNeg) + 1)) (fun τ1 => x0_settles_104 F K177 R 1 a.2.1 y1 y2 τ1) else none else none) else none else none) else none) else none)
theorem kx0_settles_B48 (M : XC γ cX0_settles 5 RX0 "settles" G o B 1 (some .boolean) (xQi G o B v τr) c0 s0) (K177 : Int32 × Int32 × XS → XR Int32) (hK177 : ∀ a c s, K177 a = some (v, τr, c, s) → ∀ k n, k + c ≤ c0 ∧ n + s ≤ s0 → J γ (XW G o B a.2.2) k n 177 [(0, .ref o), (1, .int a.1)] []) : ∀ R : Int32 × Int32 × XS → XR Int32, (∀ a c s, R a = some (v, τr, c, s) → ∀ k n, k + c ≤ c0 ∧ n + s ≤ s0 → J γ (XW G o B a.2.2) k n 48 [(0, .ref o), (1, .int a.1), (2, .int a.2.1)] []) → ∀ a c s, x0_settles_B48 F K177 R a = some (v, τr, c, s) → ∀ k n, k + c ≤ c0 ∧ n + s ≤ s0 → J γ (XW G o B a.2.2) k n 48 [(0, .ref o), (1, .int a.1), (2, .int a.2.1)] [] := by
  intro R hR a c s hf k n hkn
  unfold x0_settles_B48 at hf
  refine j_iload_n (pc := 48) M.1 dX0_settles_48 2 rfl ?_
  refine j_aload_n (pc := 49) M.1 dX0_settles_49 0 rfl ?_
  refine jx_getS (pc := 50) M xfs_461 dX0_settles_50 ?_
  refine j_icmp_ge (pc := 53) M.1 177 dX0_settles_53 rfl (fun b1 => ?_) (fun b1 => ?_)
  · replace hf := o_pos b1 hf
    refine j_sub [0, 1] (show lv_pick _ _ = [(0, .ref o), (1, .int a.1)] from rfl) ?_
    have hy := hK177 _ _ _ hf _ _ hkn
    exact hy
  · replace hf := o_neg b1 hf
    refine j_aload_n (pc := 56) M.1 dX0_settles_56 0 rfl ?_
    refine jx_getA (pc := 57) M xfa_107 dX0_settles_57 ?_
    refine j_iload_n (pc := 60) M.1 dX0_settles_60 2 rfl ?_
    obtain ⟨b2, hf⟩ := o_need hf
    refine jx_iald (pc := 61) M xax_27 b2 dX0_settles_61 ?_
    obtain ⟨y1, e1, hf⟩ := o_nx hf
    refine j_top e1 ?_
    refine j_istore_n (pc := 62) M.1 [(3, .int y1), (0, .ref o), (1, .int a.1), (2, .int a.2.1)] dX0_settles_62 rfl rfl ?_
    refine j_aload_n (pc := 63) M.1 dX0_settles_63 1 rfl ?_
    refine jx_getA (pc := 64) M xfa_110 dX0_settles_64 ?_
    refine j_iload_n (pc := 67) M.1 dX0_settles_67 3 rfl ?_
    obtain ⟨b3, hf⟩ := o_need hf
    refine jx_iald (pc := 68) M xax_28 b3 dX0_settles_68 ?_
    obtain ⟨y2, e2, hf⟩ := o_nx hf
    refine j_top e2 ?_
    refine j_istore (pc := 69) M.1 [(4, .int y2), (3, .int y1), (0, .ref o), (1, .int a.1), (2, .int a.2.1)] dX0_settles_69 rfl rfl ?_
    refine j_aload_n (pc := 71) M.1 dX0_settles_71 2 rfl ?_
    refine jx_getA (pc := 72) M xfa_101 dX0_settles_72 ?_
    refine j_iload_n (pc := 75) M.1 dX0_settles_75 1 rfl ?_
    obtain ⟨b4, hf⟩ := o_need hf
    refine jx_iald (pc := 76) M xax_25 b4 dX0_settles_76 ?_
    refine j_aload_n (pc := 77) M.1 dX0_settles_77 2 rfl ?_
    refine jx_getA (pc := 78) M xfa_101 dX0_settles_78 ?_
    refine j_iload (pc := 81) M.1 dX0_settles_81 0 rfl ?_
    obtain ⟨b5, hf⟩ := o_need hf
    refine jx_iald (pc := 83) M xax_25 b5 dX0_settles_83 ?_
    refine j_icmp_gt (pc := 84) M.1 104 dX0_settles_84 rfl (fun b6 => ?_) (fun b6 => ?_)
    · replace hf := o_pos b6 hf
      refine j_sub [2, 3, 4, 1, 0] (show lv_pick _ _ = [(0, .ref o), (1, .int a.1), (2, .int a.2.1), (3, .int y1), (4, .int y2)] from rfl) ?_
      exact kx0_settles_104 M a.1 a.2.1 y1 y2 K177 hK177 R hR a.2.2 hf hkn
    · replace hf := o_neg b6 hf
      refine j_aload_n (pc := 87) M.1 dX0_settles_87 2 rfl ?_
      refine jx_getA (pc := 88) M xfa_101 dX0_settles_88 ?_
      refine j_iload_n (pc := 91) M.1 dX0_settles_91 1 rfl ?_
      refine j_aload_n (pc := 92) M.1 dX0_settles_92 2 rfl ?_
      refine jx_getA (pc := 93) M xfa_101 dX0_settles_93 ?_
      refine j_iload (pc := 96) M.1 dX0_settles_96 0 rfl ?_
      obtain ⟨b7, hf⟩ := o_need hf
      refine jx_iald (pc := 98) M xax_25 b7 dX0_settles_98 ?_
      refine j_iconst (pc := 99) M.1 dX0_settles_99 kc_iconst_1 ?_
      refine j_iadd (pc := 100) M.1 dX0_settles_100 ?_
      obtain ⟨b8, hf⟩ := o_need hf
      obtain ⟨τ1, e3, hf⟩ := o_nx hf
      refine jx_iast (pc := 101) M xax_25 b8 dX0_settles_101 e3 ?_
      refine j_iconst (pc := 102) M.1 dX0_settles_102 kc_iconst_1 ?_
      refine j_istore_n (pc := 103) M.1 [(1, .int 1), (4, .int y2), (3, .int y1), (0, .ref o), (2, .int a.2.1)] dX0_settles_103 rfl rfl ?_
      refine j_sub [3, 0, 4, 2, 1] (show lv_pick _ _ = [(0, .ref o), (1, .int 1), (2, .int a.2.1), (3, .int y1), (4, .int y2)] from rfl) ?_
      exact kx0_settles_104 M 1 a.2.1 y1 y2 K177 hK177 R hR τ1 hf hkn
noncomputable def x0_settles_B40 (F : Nat) (R : Int32 × XS → XR Int32) (a : Int32 × XS) : XR Int32 :=
  if a.1 = 0 then (some (1, a.2, 0, 0)) else (lp (x0_settles_B48 F (fun a1 => R (a1.1, a1.2.2))) F (0, 0, a.2))
theorem kx0_settles_B40 (M : XC γ cX0_settles 5 RX0 "settles" G o B 1 (some .boolean) (xQi G o B v τr) c0 s0) : ∀ R : Int32 × XS → XR Int32, (∀ a c s, R a = some (v, τr, c, s) → ∀ k n, k + c ≤ c0 ∧ n + s ≤ s0 → J γ (XW G o B a.2) k n 40 [(0, .ref o), (1, .int a.1)] []) → ∀ a c s, x0_settles_B40 F R a = some (v, τr, c, s) → ∀ k n, k + c ≤ c0 ∧ n + s ≤ s0 → J γ (XW G o B a.2) k n 40 [(0, .ref o), (1, .int a.1)] [] := by
  intro R hR a c s hf k n hkn
  unfold x0_settles_B40 at hf
  refine j_iload_n (pc := 40) M.1 dX0_settles_40 1 rfl ?_
  refine j_if_eq (pc := 41) M.1 180 dX0_settles_41 rfl (fun b1 => ?_) (fun b1 => ?_)
  · replace hf := o_pos b1 hf
    refine j_iconst (pc := 180) M.1 dX0_settles_180 kc_iconst_1 ?_
    exact jx_zretF (pc := 181) M dX0_settles_181 rfl hf hkn
  · replace hf := o_neg b1 hf
    refine j_iconst (pc := 44) M.1 dX0_settles_44 kc_iconst_0 ?_
    refine j_istore_n (pc := 45) M.1 [(1, .int 0), (0, .ref o)] dX0_settles_45 rfl rfl ?_
    refine j_iconst (pc := 46) M.1 dX0_settles_46 kc_iconst_0 ?_
    refine j_istore_n (pc := 47) M.1 [(2, .int 0), (1, .int 0), (0, .ref o)] dX0_settles_47 rfl rfl ?_
    refine j_sub [2, 1, 0] (show lv_pick _ _ = [(0, .ref o), (1, .int 0), (2, .int 0)] from rfl) ?_
    refine lp_Wc (kx0_settles_B48 M _ ?_) F (0, 0, a.2) _ _ hf _ _ hkn
    · intro a1 c s hf k n hkn
      refine j_goto (pc := 177) M.1 40 dX0_settles_177 rfl ?_
      have hy := hR _ _ _ hf _ _ hkn
      exact hy
noncomputable def x0_settles (F : Nat) (τ : XS) : XR Int32 :=
  lp (x0_settles_B2 F (fun a1 => lp (x0_settles_B40 F) F (1, a1.2))) F (0, τ)
theorem met_x0_settles {l : Launch} {G : gG} {o B F : Nat} {τ : XS} {r : Int32 × XS × Nat × Nat} (hf : x0_settles F τ = some r) : MetX l G o B yX0_settles cX0_settles 5 (some .boolean) 1 [.ref o] τ (xQi G o B r.1 r.2.1) r.2.2.1 r.2.2.2 := by
  obtain ⟨v, τr, c, s⟩ := r
  refine metX_of (own := RX0) (mn := "settles") (by decide) rfl rfl rfl (fun γ hγ M => ?_)
  subst hγ
  show J γ (XW G o B τ) 0 0 0 [(0, .ref o)] []
  have hkn : 0 + c ≤ c ∧ 0 + s ≤ s := ⟨by omega, by omega⟩
  unfold x0_settles at hf
  refine j_iconst (pc := 0) M.1 dX0_settles_0 kc_iconst_0 ?_
  refine j_istore_n (pc := 1) M.1 [(1, .int 0), (0, .ref o)] dX0_settles_1 rfl rfl ?_
  refine j_sub [1, 0] (show lv_pick _ _ = [(0, .ref o), (1, .int 0)] from rfl) ?_
  refine lp_Wc (kx0_settles_B2 M _ ?_) F (0, τ) _ _ hf _ _ hkn
  · intro a1 c s hf k n hkn
    refine j_iconst (pc := 38) M.1 dX0_settles_38 kc_iconst_1 ?_
    refine j_istore_n (pc := 39) M.1 [(1, .int 1), (0, .ref o)] dX0_settles_39 rfl rfl ?_
    refine j_sub [1, 0] (show lv_pick _ _ = [(0, .ref o), (1, .int 1)] from rfl) ?_
    refine lp_Wc (kx0_settles_B40 M) F (1, a1.2) _ _ hf _ _ hkn
end
theorem dX0_hour_0 : decode cX0_hour 0 = .ok (.iload_n 1, 1) := by decide +kernel
theorem dX0_hour_1 : decode cX0_hour 1 = .ok (.invokestatic 187, 3) := by decide +kernel
theorem dX0_hour_4 : decode cX0_hour 4 = .ok (.ifCond .eq 40, 3) := by decide +kernel
theorem dX0_hour_7 : decode cX0_hour 7 = .ok (.iload_n 2, 1) := by decide +kernel
theorem dX0_hour_8 : decode cX0_hour 8 = .ok (.iconst 2, 1) := by decide +kernel
theorem dX0_hour_9 : decode cX0_hour 9 = .ok (.invokestatic 137, 3) := by decide +kernel
theorem dX0_hour_12 : decode cX0_hour 12 = .ok (.ifCond .eq 32, 3) := by decide +kernel
theorem dX0_hour_15 : decode cX0_hour 15 = .ok (.aload_n 0, 1) := by decide +kernel
theorem dX0_hour_16 : decode cX0_hour 16 = .ok (.invokevirtual 464, 3) := by decide +kernel
theorem dX0_hour_19 : decode cX0_hour 19 = .ok (.ifCond .eq 25, 3) := by decide +kernel
theorem dX0_hour_22 : decode cX0_hour 22 = .ok (.iload_n 2, 1) := by decide +kernel
theorem dX0_hour_23 : decode cX0_hour 23 = .ok (.ifCond .ne 12, 3) := by decide +kernel
theorem dX0_hour_26 : decode cX0_hour 26 = .ok (.aload_n 0, 1) := by decide +kernel
theorem dX0_hour_27 : decode cX0_hour 27 = .ok (.getfield 101, 3) := by decide +kernel
theorem dX0_hour_30 : decode cX0_hour 30 = .ok (.iload_n 1, 1) := by decide +kernel
theorem dX0_hour_31 : decode cX0_hour 31 = .ok (.iaload, 1) := by decide +kernel
theorem dX0_hour_32 : decode cX0_hour 32 = .ok (.goto 13, 3) := by decide +kernel
theorem dX0_hour_35 : decode cX0_hour 35 = .ok (.aload_n 0, 1) := by decide +kernel
theorem dX0_hour_36 : decode cX0_hour 36 = .ok (.getfield 104, 3) := by decide +kernel
theorem dX0_hour_39 : decode cX0_hour 39 = .ok (.iload_n 1, 1) := by decide +kernel
theorem dX0_hour_40 : decode cX0_hour 40 = .ok (.iaload, 1) := by decide +kernel
theorem dX0_hour_41 : decode cX0_hour 41 = .ok (.goto 4, 3) := by decide +kernel
theorem dX0_hour_44 : decode cX0_hour 44 = .ok (.iconst (-1), 1) := by decide +kernel
theorem dX0_hour_45 : decode cX0_hour 45 = .ok (.ireturn, 1) := by decide +kernel
section
variable {v : Int32}
noncomputable def x0_hour (F : Nat) (x1 : Int32) (x2 : Int32) (τ : XS) : XR Int32 :=
  (x0_isLayer F x1).bind (fun r1 => if r1 = 0 then (some ((-1), τ, 0, 0)) else ((x0_in F x2 2).bind (fun r2 => if r2 = 0 then (some ((-1), τ, 0, 0)) else ((x0_settles F τ).bind (fun r3 => tk r3.2.2.1 r3.2.2.2 (if r3.1 = 0 then (some ((-1), r3.2.1, 0, 0)) else (if x2 = 0 then (if okI x1 8 = true then some (r3.2.1.1.2 25 x1.toNatClampNeg, r3.2.1, 0, 0) else none) else (if okI x1 8 = true then some (r3.2.1.1.2 26 x1.toNatClampNeg, r3.2.1, 0, 0) else none))))))))
theorem met_x0_hour {l : Launch} {G : gG} {o B F : Nat} {x1 : Int32} {x2 : Int32} {τ : XS} {r : Int32 × XS × Nat × Nat} (hf : x0_hour F x1 x2 τ = some r) : MetX l G o B yX0_hour cX0_hour 3 (some .int) 3 [.ref o, .int x1, .int x2] τ (xQi G o B r.1 r.2.1) r.2.2.1 r.2.2.2 := by
  obtain ⟨v, τr, c, s⟩ := r
  refine metX_of (own := RX0) (mn := "hour") (by decide) rfl rfl rfl (fun γ hγ M => ?_)
  subst hγ
  show J γ (XW G o B τ) 0 0 0 [(0, .ref o), (1, .int x1), (2, .int x2)] []
  have hkn : 0 + c ≤ c ∧ 0 + s ≤ s := ⟨by omega, by omega⟩
  unfold x0_hour at hf
  refine j_iload_n (pc := 0) M.1 dX0_hour_0 1 rfl ?_
  obtain ⟨r1, g1, hf⟩ := o_bind hf
  refine jx_calls (pc := 1) (As := [.int x1]) (rest := []) M xcs_X0_187 (met_x0_isLayer g1) rfl rfl rfl rfl dX0_hour_1 (kn_le0 hkn) ?_
  refine j_if_eq (pc := 4) M.1 44 dX0_hour_4 rfl (fun b1 => ?_) (fun b1 => ?_)
  · replace hf := o_pos b1 hf
    refine j_iconst (pc := 44) M.1 dX0_hour_44 kc_iconst_m1 ?_
    exact jx_iretF (pc := 45) M dX0_hour_45 hf hkn
  · replace hf := o_neg b1 hf
    refine j_iload_n (pc := 7) M.1 dX0_hour_7 2 rfl ?_
    refine j_iconst (pc := 8) M.1 dX0_hour_8 kc_iconst_2 ?_
    obtain ⟨r2, g2, hf⟩ := o_bind hf
    refine jx_calls (pc := 9) (As := [.int x2, .int 2]) (rest := []) M xcs_X0_137 (met_x0_in g2) rfl rfl rfl rfl dX0_hour_9 (kn_le0 hkn) ?_
    refine j_if_eq (pc := 12) M.1 44 dX0_hour_12 rfl (fun b2 => ?_) (fun b2 => ?_)
    · replace hf := o_pos b2 hf
      refine j_iconst (pc := 44) M.1 dX0_hour_44 kc_iconst_m1 ?_
      exact jx_iretF (pc := 45) M dX0_hour_45 hf hkn
    · replace hf := o_neg b2 hf
      refine j_aload_n (pc := 15) M.1 dX0_hour_15 0 rfl ?_
      obtain ⟨r3, g3, hf⟩ := o_bind hf
      obtain ⟨c1, s1, hf, hc1, hs1⟩ := o_tk hf
      replace hkn := kn_step hkn hc1 hs1
      refine jx_i M (x_runV (pc := 16) (As := []) (rest := []) (V := xV o τ) M xcw_X0_464 (met_x0_settles g3) (fun H h => h.1 o _ xH_o) (by decide) rfl rfl rfl dX0_hour_16 (kn_le hkn)) ?_
      refine j_if_eq (pc := 19) M.1 44 dX0_hour_19 rfl (fun b3 => ?_) (fun b3 => ?_)
      · replace hf := o_pos b3 hf
        refine j_iconst (pc := 44) M.1 dX0_hour_44 kc_iconst_m1 ?_
        exact jx_iretF (pc := 45) M dX0_hour_45 hf hkn
      · replace hf := o_neg b3 hf
        refine j_iload_n (pc := 22) M.1 dX0_hour_22 2 rfl ?_
        refine j_if_ne (pc := 23) M.1 35 dX0_hour_23 rfl (fun b4 => ?_) (fun b4 => ?_)
        · replace hf := o_neg b4 hf
          refine j_aload_n (pc := 35) M.1 dX0_hour_35 0 rfl ?_
          refine jx_getA (pc := 36) M xfa_104 dX0_hour_36 ?_
          refine j_iload_n (pc := 39) M.1 dX0_hour_39 1 rfl ?_
          obtain ⟨b5, hf⟩ := o_need hf
          refine jx_iald (pc := 40) M xax_26 b5 dX0_hour_40 ?_
          refine j_goto (pc := 41) M.1 45 dX0_hour_41 rfl ?_
          exact jx_iretF (pc := 45) M dX0_hour_45 hf hkn
        · replace hf := o_pos b4 hf
          refine j_aload_n (pc := 26) M.1 dX0_hour_26 0 rfl ?_
          refine jx_getA (pc := 27) M xfa_101 dX0_hour_27 ?_
          refine j_iload_n (pc := 30) M.1 dX0_hour_30 1 rfl ?_
          obtain ⟨b6, hf⟩ := o_need hf
          refine jx_iald (pc := 31) M xax_25 b6 dX0_hour_31 ?_
          refine j_goto (pc := 32) M.1 45 dX0_hour_32 rfl ?_
          exact jx_iretF (pc := 45) M dX0_hour_45 hf hkn
end
theorem dX0_height_0 : decode cX0_height 0 = .ok (.aload_n 0, 1) := by decide +kernel
theorem dX0_height_1 : decode cX0_height 1 = .ok (.iload_n 1, 1) := by decide +kernel
theorem dX0_height_2 : decode cX0_height 2 = .ok (.invokevirtual 161, 3) := by decide +kernel
theorem dX0_height_5 : decode cX0_height 5 = .ok (.ifCond .eq 13, 3) := by decide +kernel
theorem dX0_height_8 : decode cX0_height 8 = .ok (.iload_n 2, 1) := by decide +kernel
theorem dX0_height_9 : decode cX0_height 9 = .ok (.iconst 0, 1) := by decide +kernel
theorem dX0_height_10 : decode cX0_height 10 = .ok (.bipush 8, 2) := by decide +kernel
theorem dX0_height_12 : decode cX0_height 12 = .ok (.invokestatic 144, 3) := by decide +kernel
theorem dX0_height_15 : decode cX0_height 15 = .ok (.ifCond .ne 5, 3) := by decide +kernel
theorem dX0_height_18 : decode cX0_height 18 = .ok (.iconst 0, 1) := by decide +kernel
theorem dX0_height_19 : decode cX0_height 19 = .ok (.ireturn, 1) := by decide +kernel
theorem dX0_height_20 : decode cX0_height 20 = .ok (.aload_n 0, 1) := by decide +kernel
theorem dX0_height_21 : decode cX0_height 21 = .ok (.getfield 37, 3) := by decide +kernel
theorem dX0_height_24 : decode cX0_height 24 = .ok (.iload_n 1, 1) := by decide +kernel
theorem dX0_height_25 : decode cX0_height 25 = .ok (.iload_n 2, 1) := by decide +kernel
theorem dX0_height_26 : decode cX0_height 26 = .ok (.iastore, 1) := by decide +kernel
theorem dX0_height_27 : decode cX0_height 27 = .ok (.iconst 1, 1) := by decide +kernel
theorem dX0_height_28 : decode cX0_height 28 = .ok (.ireturn, 1) := by decide +kernel
section
variable {v : Int32}
noncomputable def x0_height (F : Nat) (x1 : Int32) (x2 : Int32) (τ : XS) : XR Int32 :=
  (x0_isCell F x1 τ).bind (fun r1 => tk r1.2.2.1 r1.2.2.2 (if r1.1 = 0 then (some (0, r1.2.1, 0, 0)) else ((x0_within F x2 0 8).bind (fun r2 => if r2 = 0 then (some (0, r1.2.1, 0, 0)) else (if okI x1 100 = true then nx (xA r1.2.1 3 x1.toNatClampNeg x2) (fun τ1 => some (1, τ1, 0, 0)) else none)))))
theorem met_x0_height {l : Launch} {G : gG} {o B F : Nat} {x1 : Int32} {x2 : Int32} {τ : XS} {r : Int32 × XS × Nat × Nat} (hf : x0_height F x1 x2 τ = some r) : MetX l G o B yX0_height cX0_height 3 (some .boolean) 3 [.ref o, .int x1, .int x2] τ (xQi G o B r.1 r.2.1) r.2.2.1 r.2.2.2 := by
  obtain ⟨v, τr, c, s⟩ := r
  refine metX_of (own := RX0) (mn := "height") (by decide) rfl rfl rfl (fun γ hγ M => ?_)
  subst hγ
  show J γ (XW G o B τ) 0 0 0 [(0, .ref o), (1, .int x1), (2, .int x2)] []
  have hkn : 0 + c ≤ c ∧ 0 + s ≤ s := ⟨by omega, by omega⟩
  unfold x0_height at hf
  refine j_aload_n (pc := 0) M.1 dX0_height_0 0 rfl ?_
  refine j_iload_n (pc := 1) M.1 dX0_height_1 1 rfl ?_
  obtain ⟨r1, g1, hf⟩ := o_bind hf
  obtain ⟨c1, s1, hf, hc1, hs1⟩ := o_tk hf
  replace hkn := kn_step hkn hc1 hs1
  refine jx_i M (x_runV (pc := 2) (As := [.int x1]) (rest := []) (V := xV o τ) M xcw_X0_161 (met_x0_isCell g1) (fun H h => h.1 o _ xH_o) (by decide) rfl rfl rfl dX0_height_2 (kn_le hkn)) ?_
  refine j_if_eq (pc := 5) M.1 18 dX0_height_5 rfl (fun b1 => ?_) (fun b1 => ?_)
  · replace hf := o_pos b1 hf
    refine j_iconst (pc := 18) M.1 dX0_height_18 kc_iconst_0 ?_
    exact jx_zretF (pc := 19) M dX0_height_19 rfl hf hkn
  · replace hf := o_neg b1 hf
    refine j_iload_n (pc := 8) M.1 dX0_height_8 2 rfl ?_
    refine j_iconst (pc := 9) M.1 dX0_height_9 kc_iconst_0 ?_
    refine j_bipush (pc := 10) M.1 dX0_height_10 kc_bipush_8 ?_
    obtain ⟨r2, g2, hf⟩ := o_bind hf
    refine jx_calls (pc := 12) (As := [.int x2, .int 0, .int 8]) (rest := []) M xcs_X0_144 (met_x0_within g2) rfl rfl rfl rfl dX0_height_12 (kn_le0 hkn) ?_
    refine j_if_ne (pc := 15) M.1 20 dX0_height_15 rfl (fun b2 => ?_) (fun b2 => ?_)
    · replace hf := o_neg b2 hf
      refine j_aload_n (pc := 20) M.1 dX0_height_20 0 rfl ?_
      refine jx_getA (pc := 21) M xfa_37 dX0_height_21 ?_
      refine j_iload_n (pc := 24) M.1 dX0_height_24 1 rfl ?_
      refine j_iload_n (pc := 25) M.1 dX0_height_25 2 rfl ?_
      obtain ⟨b3, hf⟩ := o_need hf
      obtain ⟨τ1, e1, hf⟩ := o_nx hf
      refine jx_iast (pc := 26) M xax_3 b3 dX0_height_26 e1 ?_
      refine j_iconst (pc := 27) M.1 dX0_height_27 kc_iconst_1 ?_
      exact jx_zretF (pc := 28) M dX0_height_28 rfl hf hkn
    · replace hf := o_pos b2 hf
      refine j_iconst (pc := 18) M.1 dX0_height_18 kc_iconst_0 ?_
      exact jx_zretF (pc := 19) M dX0_height_19 rfl hf hkn
end
theorem dX0_hollow_0 : decode cX0_hollow 0 = .ok (.aload_n 0, 1) := by decide +kernel
theorem dX0_hollow_1 : decode cX0_hollow 1 = .ok (.iload_n 1, 1) := by decide +kernel
theorem dX0_hollow_2 : decode cX0_hollow 2 = .ok (.invokevirtual 161, 3) := by decide +kernel
theorem dX0_hollow_5 : decode cX0_hollow 5 = .ok (.ifCond .eq 19, 3) := by decide +kernel
theorem dX0_hollow_8 : decode cX0_hollow 8 = .ok (.iload_n 2, 1) := by decide +kernel
theorem dX0_hollow_9 : decode cX0_hollow 9 = .ok (.invokestatic 187, 3) := by decide +kernel
theorem dX0_hollow_12 : decode cX0_hollow 12 = .ok (.ifCond .eq 12, 3) := by decide +kernel
theorem dX0_hollow_15 : decode cX0_hollow 15 = .ok (.aload_n 0, 1) := by decide +kernel
theorem dX0_hollow_16 : decode cX0_hollow 16 = .ok (.getfield 151, 3) := by decide +kernel
theorem dX0_hollow_19 : decode cX0_hollow 19 = .ok (.bipush 40, 2) := by decide +kernel
theorem dX0_hollow_21 : decode cX0_hollow 21 = .ok (.if_icmp .ne 5, 3) := by decide +kernel
theorem dX0_hollow_24 : decode cX0_hollow 24 = .ok (.iconst (-1), 1) := by decide +kernel
theorem dX0_hollow_25 : decode cX0_hollow 25 = .ok (.ireturn, 1) := by decide +kernel
theorem dX0_hollow_26 : decode cX0_hollow 26 = .ok (.aload_n 0, 1) := by decide +kernel
theorem dX0_hollow_27 : decode cX0_hollow 27 = .ok (.getfield 113, 3) := by decide +kernel
theorem dX0_hollow_30 : decode cX0_hollow 30 = .ok (.aload_n 0, 1) := by decide +kernel
theorem dX0_hollow_31 : decode cX0_hollow 31 = .ok (.getfield 151, 3) := by decide +kernel
theorem dX0_hollow_34 : decode cX0_hollow 34 = .ok (.iload_n 1, 1) := by decide +kernel
theorem dX0_hollow_35 : decode cX0_hollow 35 = .ok (.iastore, 1) := by decide +kernel
theorem dX0_hollow_36 : decode cX0_hollow 36 = .ok (.aload_n 0, 1) := by decide +kernel
theorem dX0_hollow_37 : decode cX0_hollow 37 = .ok (.getfield 116, 3) := by decide +kernel
theorem dX0_hollow_40 : decode cX0_hollow 40 = .ok (.aload_n 0, 1) := by decide +kernel
theorem dX0_hollow_41 : decode cX0_hollow 41 = .ok (.getfield 151, 3) := by decide +kernel
theorem dX0_hollow_44 : decode cX0_hollow 44 = .ok (.iload_n 2, 1) := by decide +kernel
theorem dX0_hollow_45 : decode cX0_hollow 45 = .ok (.iastore, 1) := by decide +kernel
theorem dX0_hollow_46 : decode cX0_hollow 46 = .ok (.aload_n 0, 1) := by decide +kernel
theorem dX0_hollow_47 : decode cX0_hollow 47 = .ok (.dup, 1) := by decide +kernel
theorem dX0_hollow_48 : decode cX0_hollow 48 = .ok (.getfield 151, 3) := by decide +kernel
theorem dX0_hollow_51 : decode cX0_hollow 51 = .ok (.iconst 1, 1) := by decide +kernel
theorem dX0_hollow_52 : decode cX0_hollow 52 = .ok (.iadd, 1) := by decide +kernel
theorem dX0_hollow_53 : decode cX0_hollow 53 = .ok (.putfield 151, 3) := by decide +kernel
theorem dX0_hollow_56 : decode cX0_hollow 56 = .ok (.aload_n 0, 1) := by decide +kernel
theorem dX0_hollow_57 : decode cX0_hollow 57 = .ok (.getfield 151, 3) := by decide +kernel
theorem dX0_hollow_60 : decode cX0_hollow 60 = .ok (.iconst 1, 1) := by decide +kernel
theorem dX0_hollow_61 : decode cX0_hollow 61 = .ok (.isub, 1) := by decide +kernel
theorem dX0_hollow_62 : decode cX0_hollow 62 = .ok (.ireturn, 1) := by decide +kernel
section
variable {v : Int32}
noncomputable def x0_hollow (F : Nat) (x1 : Int32) (x2 : Int32) (τ : XS) : XR Int32 :=
  (x0_isCell F x1 τ).bind (fun r1 => tk r1.2.2.1 r1.2.2.2 (if r1.1 = 0 then (some ((-1), r1.2.1, 0, 0)) else ((x0_isLayer F x2).bind (fun r2 => if r2 = 0 then (some ((-1), r1.2.1, 0, 0)) else (if (r1.2.1.1.1 35) = 40 then (some ((-1), r1.2.1, 0, 0)) else (if okI (r1.2.1.1.1 35) 40 = true then nx (xA r1.2.1 29 (r1.2.1.1.1 35).toNatClampNeg x1) (fun τ1 => if okI (τ1.1.1 35) 40 = true then nx (xA τ1 30 (τ1.1.1 35).toNatClampNeg x2) (fun τ2 => nx (xS τ2 35 ((τ2.1.1 35) + 1)) (fun τ3 => some ((τ3.1.1 35) - 1, τ3, 0, 0))) else none) else none))))))
theorem met_x0_hollow {l : Launch} {G : gG} {o B F : Nat} {x1 : Int32} {x2 : Int32} {τ : XS} {r : Int32 × XS × Nat × Nat} (hf : x0_hollow F x1 x2 τ = some r) : MetX l G o B yX0_hollow cX0_hollow 3 (some .int) 3 [.ref o, .int x1, .int x2] τ (xQi G o B r.1 r.2.1) r.2.2.1 r.2.2.2 := by
  obtain ⟨v, τr, c, s⟩ := r
  refine metX_of (own := RX0) (mn := "hollow") (by decide) rfl rfl rfl (fun γ hγ M => ?_)
  subst hγ
  show J γ (XW G o B τ) 0 0 0 [(0, .ref o), (1, .int x1), (2, .int x2)] []
  have hkn : 0 + c ≤ c ∧ 0 + s ≤ s := ⟨by omega, by omega⟩
  unfold x0_hollow at hf
  refine j_aload_n (pc := 0) M.1 dX0_hollow_0 0 rfl ?_
  refine j_iload_n (pc := 1) M.1 dX0_hollow_1 1 rfl ?_
  obtain ⟨r1, g1, hf⟩ := o_bind hf
  obtain ⟨c1, s1, hf, hc1, hs1⟩ := o_tk hf
  replace hkn := kn_step hkn hc1 hs1
  refine jx_i M (x_runV (pc := 2) (As := [.int x1]) (rest := []) (V := xV o τ) M xcw_X0_161 (met_x0_isCell g1) (fun H h => h.1 o _ xH_o) (by decide) rfl rfl rfl dX0_hollow_2 (kn_le hkn)) ?_
  refine j_if_eq (pc := 5) M.1 24 dX0_hollow_5 rfl (fun b1 => ?_) (fun b1 => ?_)
  · replace hf := o_pos b1 hf
    refine j_iconst (pc := 24) M.1 dX0_hollow_24 kc_iconst_m1 ?_
    exact jx_iretF (pc := 25) M dX0_hollow_25 hf hkn
  · replace hf := o_neg b1 hf
    refine j_iload_n (pc := 8) M.1 dX0_hollow_8 2 rfl ?_
    obtain ⟨r2, g2, hf⟩ := o_bind hf
    refine jx_calls (pc := 9) (As := [.int x2]) (rest := []) M xcs_X0_187 (met_x0_isLayer g2) rfl rfl rfl rfl dX0_hollow_9 (kn_le0 hkn) ?_
    refine j_if_eq (pc := 12) M.1 24 dX0_hollow_12 rfl (fun b2 => ?_) (fun b2 => ?_)
    · replace hf := o_pos b2 hf
      refine j_iconst (pc := 24) M.1 dX0_hollow_24 kc_iconst_m1 ?_
      exact jx_iretF (pc := 25) M dX0_hollow_25 hf hkn
    · replace hf := o_neg b2 hf
      refine j_aload_n (pc := 15) M.1 dX0_hollow_15 0 rfl ?_
      refine jx_getS (pc := 16) M xfs_151 dX0_hollow_16 ?_
      refine j_bipush (pc := 19) M.1 dX0_hollow_19 kc_bipush_40 ?_
      refine j_icmp_ne (pc := 21) M.1 26 dX0_hollow_21 rfl (fun b3 => ?_) (fun b3 => ?_)
      · replace hf := o_neg b3 hf
        refine j_aload_n (pc := 26) M.1 dX0_hollow_26 0 rfl ?_
        refine jx_getA (pc := 27) M xfa_113 dX0_hollow_27 ?_
        refine j_aload_n (pc := 30) M.1 dX0_hollow_30 0 rfl ?_
        refine jx_getS (pc := 31) M xfs_151 dX0_hollow_31 ?_
        refine j_iload_n (pc := 34) M.1 dX0_hollow_34 1 rfl ?_
        obtain ⟨b4, hf⟩ := o_need hf
        obtain ⟨τ1, e1, hf⟩ := o_nx hf
        refine jx_iast (pc := 35) M xax_29 b4 dX0_hollow_35 e1 ?_
        refine j_aload_n (pc := 36) M.1 dX0_hollow_36 0 rfl ?_
        refine jx_getA (pc := 37) M xfa_116 dX0_hollow_37 ?_
        refine j_aload_n (pc := 40) M.1 dX0_hollow_40 0 rfl ?_
        refine jx_getS (pc := 41) M xfs_151 dX0_hollow_41 ?_
        refine j_iload_n (pc := 44) M.1 dX0_hollow_44 2 rfl ?_
        obtain ⟨b5, hf⟩ := o_need hf
        obtain ⟨τ2, e2, hf⟩ := o_nx hf
        refine jx_iast (pc := 45) M xax_30 b5 dX0_hollow_45 e2 ?_
        refine j_aload_n (pc := 46) M.1 dX0_hollow_46 0 rfl ?_
        refine j_dup (pc := 47) M.1 dX0_hollow_47 rfl ?_
        refine jx_getS (pc := 48) M xfs_151 dX0_hollow_48 ?_
        refine j_iconst (pc := 51) M.1 dX0_hollow_51 kc_iconst_1 ?_
        refine j_iadd (pc := 52) M.1 dX0_hollow_52 ?_
        obtain ⟨τ3, e3, hf⟩ := o_nx hf
        refine jx_putS (pc := 53) M xfs_151 dX0_hollow_53 e3 ?_
        refine j_aload_n (pc := 56) M.1 dX0_hollow_56 0 rfl ?_
        refine jx_getS (pc := 57) M xfs_151 dX0_hollow_57 ?_
        refine j_iconst (pc := 60) M.1 dX0_hollow_60 kc_iconst_1 ?_
        refine j_isub (pc := 61) M.1 dX0_hollow_61 ?_
        exact jx_iretF (pc := 62) M dX0_hollow_62 hf hkn
      · replace hf := o_pos b3 hf
        refine j_iconst (pc := 24) M.1 dX0_hollow_24 kc_iconst_m1 ?_
        exact jx_iretF (pc := 25) M dX0_hollow_25 hf hkn
end
theorem dX0_isBorder_0 : decode cX0_isBorder 0 = .ok (.iload_n 1, 1) := by decide +kernel
theorem dX0_isBorder_1 : decode cX0_isBorder 1 = .ok (.aload_n 0, 1) := by decide +kernel
theorem dX0_isBorder_2 : decode cX0_isBorder 2 = .ok (.getfield 13, 3) := by decide +kernel
theorem dX0_isBorder_5 : decode cX0_isBorder 5 = .ok (.irem, 1) := by decide +kernel
theorem dX0_isBorder_6 : decode cX0_isBorder 6 = .ok (.ifCond .eq 42, 3) := by decide +kernel
theorem dX0_isBorder_9 : decode cX0_isBorder 9 = .ok (.iload_n 1, 1) := by decide +kernel
theorem dX0_isBorder_10 : decode cX0_isBorder 10 = .ok (.aload_n 0, 1) := by decide +kernel
theorem dX0_isBorder_11 : decode cX0_isBorder 11 = .ok (.getfield 13, 3) := by decide +kernel
theorem dX0_isBorder_14 : decode cX0_isBorder 14 = .ok (.irem, 1) := by decide +kernel
theorem dX0_isBorder_15 : decode cX0_isBorder 15 = .ok (.aload_n 0, 1) := by decide +kernel
theorem dX0_isBorder_16 : decode cX0_isBorder 16 = .ok (.getfield 13, 3) := by decide +kernel
theorem dX0_isBorder_19 : decode cX0_isBorder 19 = .ok (.iconst 1, 1) := by decide +kernel
theorem dX0_isBorder_20 : decode cX0_isBorder 20 = .ok (.isub, 1) := by decide +kernel
theorem dX0_isBorder_21 : decode cX0_isBorder 21 = .ok (.if_icmp .eq 27, 3) := by decide +kernel
theorem dX0_isBorder_24 : decode cX0_isBorder 24 = .ok (.iload_n 1, 1) := by decide +kernel
theorem dX0_isBorder_25 : decode cX0_isBorder 25 = .ok (.aload_n 0, 1) := by decide +kernel
theorem dX0_isBorder_26 : decode cX0_isBorder 26 = .ok (.getfield 13, 3) := by decide +kernel
theorem dX0_isBorder_29 : decode cX0_isBorder 29 = .ok (.idiv, 1) := by decide +kernel
theorem dX0_isBorder_30 : decode cX0_isBorder 30 = .ok (.ifCond .eq 18, 3) := by decide +kernel
theorem dX0_isBorder_33 : decode cX0_isBorder 33 = .ok (.iload_n 1, 1) := by decide +kernel
theorem dX0_isBorder_34 : decode cX0_isBorder 34 = .ok (.aload_n 0, 1) := by decide +kernel
theorem dX0_isBorder_35 : decode cX0_isBorder 35 = .ok (.getfield 13, 3) := by decide +kernel
theorem dX0_isBorder_38 : decode cX0_isBorder 38 = .ok (.idiv, 1) := by decide +kernel
theorem dX0_isBorder_39 : decode cX0_isBorder 39 = .ok (.aload_n 0, 1) := by decide +kernel
theorem dX0_isBorder_40 : decode cX0_isBorder 40 = .ok (.getfield 19, 3) := by decide +kernel
theorem dX0_isBorder_43 : decode cX0_isBorder 43 = .ok (.iconst 1, 1) := by decide +kernel
theorem dX0_isBorder_44 : decode cX0_isBorder 44 = .ok (.isub, 1) := by decide +kernel
theorem dX0_isBorder_45 : decode cX0_isBorder 45 = .ok (.if_icmp .ne 7, 3) := by decide +kernel
theorem dX0_isBorder_48 : decode cX0_isBorder 48 = .ok (.iconst 1, 1) := by decide +kernel
theorem dX0_isBorder_49 : decode cX0_isBorder 49 = .ok (.goto 4, 3) := by decide +kernel
theorem dX0_isBorder_52 : decode cX0_isBorder 52 = .ok (.iconst 0, 1) := by decide +kernel
theorem dX0_isBorder_53 : decode cX0_isBorder 53 = .ok (.ireturn, 1) := by decide +kernel
section
variable {v : Int32}
noncomputable def x0_isBorder (F : Nat) (x1 : Int32) (τ : XS) : XR Int32 :=
  if ¬ (τ.1.1 0) = 0 then if (jrem x1 (τ.1.1 0)) = 0 then (some (1, τ, 0, 0)) else (if ¬ (τ.1.1 0) = 0 then if (jrem x1 (τ.1.1 0)) = ((τ.1.1 0) - 1) then (some (1, τ, 0, 0)) else (if ¬ (τ.1.1 0) = 0 then if (x1 / (τ.1.1 0)) = 0 then (some (1, τ, 0, 0)) else (if ¬ (τ.1.1 0) = 0 then if (x1 / (τ.1.1 0)) = ((τ.1.1 1) - 1) then (some (1, τ, 0, 0)) else (some (0, τ, 0, 0)) else none) else none) else none) else none
theorem met_x0_isBorder {l : Launch} {G : gG} {o B F : Nat} {x1 : Int32} {τ : XS} {r : Int32 × XS × Nat × Nat} (hf : x0_isBorder F x1 τ = some r) : MetX l G o B yX0_isBorder cX0_isBorder 2 (some .boolean) 1 [.ref o, .int x1] τ (xQi G o B r.1 r.2.1) r.2.2.1 r.2.2.2 := by
  obtain ⟨v, τr, c, s⟩ := r
  refine metX_of (own := RX0) (mn := "isBorder") (by decide) rfl rfl rfl (fun γ hγ M => ?_)
  subst hγ
  show J γ (XW G o B τ) 0 0 0 [(0, .ref o), (1, .int x1)] []
  have hkn : 0 + c ≤ c ∧ 0 + s ≤ s := ⟨by omega, by omega⟩
  unfold x0_isBorder at hf
  refine j_iload_n (pc := 0) M.1 dX0_isBorder_0 1 rfl ?_
  refine j_aload_n (pc := 1) M.1 dX0_isBorder_1 0 rfl ?_
  refine jx_getS (pc := 2) M xfs_13 dX0_isBorder_2 ?_
  obtain ⟨b1, hf⟩ := o_need hf
  refine j_irem (pc := 5) M.1 dX0_isBorder_5 b1 ?_
  refine j_if_eq (pc := 6) M.1 48 dX0_isBorder_6 rfl (fun b2 => ?_) (fun b2 => ?_)
  · replace hf := o_pos b2 hf
    refine j_iconst (pc := 48) M.1 dX0_isBorder_48 kc_iconst_1 ?_
    refine j_goto (pc := 49) M.1 53 dX0_isBorder_49 rfl ?_
    exact jx_zretF (pc := 53) M dX0_isBorder_53 rfl hf hkn
  · replace hf := o_neg b2 hf
    refine j_iload_n (pc := 9) M.1 dX0_isBorder_9 1 rfl ?_
    refine j_aload_n (pc := 10) M.1 dX0_isBorder_10 0 rfl ?_
    refine jx_getS (pc := 11) M xfs_13 dX0_isBorder_11 ?_
    obtain ⟨b3, hf⟩ := o_need hf
    refine j_irem (pc := 14) M.1 dX0_isBorder_14 b3 ?_
    refine j_aload_n (pc := 15) M.1 dX0_isBorder_15 0 rfl ?_
    refine jx_getS (pc := 16) M xfs_13 dX0_isBorder_16 ?_
    refine j_iconst (pc := 19) M.1 dX0_isBorder_19 kc_iconst_1 ?_
    refine j_isub (pc := 20) M.1 dX0_isBorder_20 ?_
    refine j_icmp_eq (pc := 21) M.1 48 dX0_isBorder_21 rfl (fun b4 => ?_) (fun b4 => ?_)
    · replace hf := o_pos b4 hf
      refine j_iconst (pc := 48) M.1 dX0_isBorder_48 kc_iconst_1 ?_
      refine j_goto (pc := 49) M.1 53 dX0_isBorder_49 rfl ?_
      exact jx_zretF (pc := 53) M dX0_isBorder_53 rfl hf hkn
    · replace hf := o_neg b4 hf
      refine j_iload_n (pc := 24) M.1 dX0_isBorder_24 1 rfl ?_
      refine j_aload_n (pc := 25) M.1 dX0_isBorder_25 0 rfl ?_
      refine jx_getS (pc := 26) M xfs_13 dX0_isBorder_26 ?_
      obtain ⟨b5, hf⟩ := o_need hf
      refine j_idiv (pc := 29) M.1 dX0_isBorder_29 b5 ?_
      refine j_if_eq (pc := 30) M.1 48 dX0_isBorder_30 rfl (fun b6 => ?_) (fun b6 => ?_)
      · replace hf := o_pos b6 hf
        refine j_iconst (pc := 48) M.1 dX0_isBorder_48 kc_iconst_1 ?_
        refine j_goto (pc := 49) M.1 53 dX0_isBorder_49 rfl ?_
        exact jx_zretF (pc := 53) M dX0_isBorder_53 rfl hf hkn
      · replace hf := o_neg b6 hf
        refine j_iload_n (pc := 33) M.1 dX0_isBorder_33 1 rfl ?_
        refine j_aload_n (pc := 34) M.1 dX0_isBorder_34 0 rfl ?_
        refine jx_getS (pc := 35) M xfs_13 dX0_isBorder_35 ?_
        obtain ⟨b7, hf⟩ := o_need hf
        refine j_idiv (pc := 38) M.1 dX0_isBorder_38 b7 ?_
        refine j_aload_n (pc := 39) M.1 dX0_isBorder_39 0 rfl ?_
        refine jx_getS (pc := 40) M xfs_19 dX0_isBorder_40 ?_
        refine j_iconst (pc := 43) M.1 dX0_isBorder_43 kc_iconst_1 ?_
        refine j_isub (pc := 44) M.1 dX0_isBorder_44 ?_
        refine j_icmp_ne (pc := 45) M.1 52 dX0_isBorder_45 rfl (fun b8 => ?_) (fun b8 => ?_)
        · replace hf := o_neg b8 hf
          refine j_iconst (pc := 52) M.1 dX0_isBorder_52 kc_iconst_0 ?_
          exact jx_zretF (pc := 53) M dX0_isBorder_53 rfl hf hkn
        · replace hf := o_pos b8 hf
          refine j_iconst (pc := 48) M.1 dX0_isBorder_48 kc_iconst_1 ?_
          refine j_goto (pc := 49) M.1 53 dX0_isBorder_49 rfl ?_
          exact jx_zretF (pc := 53) M dX0_isBorder_53 rfl hf hkn
end
theorem dX0_laidBy_0 : decode cX0_laidBy 0 = .ok (.iconst 0, 1) := by decide +kernel
theorem dX0_laidBy_1 : decode cX0_laidBy 1 = .ok (.istore_n 2, 1) := by decide +kernel
theorem dX0_laidBy_2 : decode cX0_laidBy 2 = .ok (.iconst 0, 1) := by decide +kernel
theorem dX0_laidBy_3 : decode cX0_laidBy 3 = .ok (.istore_n 3, 1) := by decide +kernel
theorem dX0_laidBy_4 : decode cX0_laidBy 4 = .ok (.iload_n 3, 1) := by decide +kernel
theorem dX0_laidBy_5 : decode cX0_laidBy 5 = .ok (.bipush 8, 2) := by decide +kernel
theorem dX0_laidBy_7 : decode cX0_laidBy 7 = .ok (.if_icmp .ge 27, 3) := by decide +kernel
theorem dX0_laidBy_10 : decode cX0_laidBy 10 = .ok (.iload_n 2, 1) := by decide +kernel
theorem dX0_laidBy_11 : decode cX0_laidBy 11 = .ok (.aload_n 0, 1) := by decide +kernel
theorem dX0_laidBy_12 : decode cX0_laidBy 12 = .ok (.getfield 104, 3) := by decide +kernel
theorem dX0_laidBy_15 : decode cX0_laidBy 15 = .ok (.iload_n 3, 1) := by decide +kernel
theorem dX0_laidBy_16 : decode cX0_laidBy 16 = .ok (.iaload, 1) := by decide +kernel
theorem dX0_laidBy_17 : decode cX0_laidBy 17 = .ok (.iload_n 1, 1) := by decide +kernel
theorem dX0_laidBy_18 : decode cX0_laidBy 18 = .ok (.if_icmp .gt 7, 3) := by decide +kernel
theorem dX0_laidBy_21 : decode cX0_laidBy 21 = .ok (.iconst 1, 1) := by decide +kernel
theorem dX0_laidBy_22 : decode cX0_laidBy 22 = .ok (.goto 4, 3) := by decide +kernel
theorem dX0_laidBy_25 : decode cX0_laidBy 25 = .ok (.iconst 0, 1) := by decide +kernel
theorem dX0_laidBy_26 : decode cX0_laidBy 26 = .ok (.iadd, 1) := by decide +kernel
theorem dX0_laidBy_27 : decode cX0_laidBy 27 = .ok (.istore_n 2, 1) := by decide +kernel
theorem dX0_laidBy_28 : decode cX0_laidBy 28 = .ok (.iinc 3 1, 3) := by decide +kernel
theorem dX0_laidBy_31 : decode cX0_laidBy 31 = .ok (.goto (-27), 3) := by decide +kernel
theorem dX0_laidBy_34 : decode cX0_laidBy 34 = .ok (.iload_n 2, 1) := by decide +kernel
theorem dX0_laidBy_35 : decode cX0_laidBy 35 = .ok (.ireturn, 1) := by decide +kernel
section
variable {v : Int32}
noncomputable def x0_laidBy_B4 (F : Nat) (x1 : Int32) (R : Int32 × Int32 × XS → XR Int32) (a : Int32 × Int32 × XS) : XR Int32 :=
  if 8 ≤ a.2.1 then (some (a.1, a.2.2, 0, 0)) else (if okI a.2.1 8 = true then if x1 < (a.2.2.1.2 26 a.2.1.toNatClampNeg) then (R (a.1 + 0, a.2.1 + 1, a.2.2)) else (R (a.1 + 1, a.2.1 + 1, a.2.2)) else none)
theorem kx0_laidBy_B4 (M : XC γ cX0_laidBy 4 RX0 "laidBy" G o B 1 (some .int) (xQi G o B v τr) c0 s0) (x1 : Int32) : ∀ R : Int32 × Int32 × XS → XR Int32, (∀ a c s, R a = some (v, τr, c, s) → ∀ k n, k + c ≤ c0 ∧ n + s ≤ s0 → J γ (XW G o B a.2.2) k n 4 [(0, .ref o), (1, .int x1), (2, .int a.1), (3, .int a.2.1)] []) → ∀ a c s, x0_laidBy_B4 F x1 R a = some (v, τr, c, s) → ∀ k n, k + c ≤ c0 ∧ n + s ≤ s0 → J γ (XW G o B a.2.2) k n 4 [(0, .ref o), (1, .int x1), (2, .int a.1), (3, .int a.2.1)] [] := by
  intro R hR a c s hf k n hkn
  unfold x0_laidBy_B4 at hf
  refine j_iload_n (pc := 4) M.1 dX0_laidBy_4 3 rfl ?_
  refine j_bipush (pc := 5) M.1 dX0_laidBy_5 kc_bipush_8 ?_
  refine j_icmp_ge (pc := 7) M.1 34 dX0_laidBy_7 rfl (fun b1 => ?_) (fun b1 => ?_)
  · replace hf := o_pos b1 hf
    refine j_iload_n (pc := 34) M.1 dX0_laidBy_34 2 rfl ?_
    exact jx_iretF (pc := 35) M dX0_laidBy_35 hf hkn
  · replace hf := o_neg b1 hf
    refine j_iload_n (pc := 10) M.1 dX0_laidBy_10 2 rfl ?_
    refine j_aload_n (pc := 11) M.1 dX0_laidBy_11 0 rfl ?_
    refine jx_getA (pc := 12) M xfa_104 dX0_laidBy_12 ?_
    refine j_iload_n (pc := 15) M.1 dX0_laidBy_15 3 rfl ?_
    obtain ⟨b2, hf⟩ := o_need hf
    refine jx_iald (pc := 16) M xax_26 b2 dX0_laidBy_16 ?_
    refine j_iload_n (pc := 17) M.1 dX0_laidBy_17 1 rfl ?_
    refine j_icmp_gt (pc := 18) M.1 25 dX0_laidBy_18 rfl (fun b3 => ?_) (fun b3 => ?_)
    · replace hf := o_pos b3 hf
      refine j_iconst (pc := 25) M.1 dX0_laidBy_25 kc_iconst_0 ?_
      refine j_iadd (pc := 26) M.1 dX0_laidBy_26 ?_
      refine j_istore_n (pc := 27) M.1 [(2, .int (a.1 + 0)), (0, .ref o), (1, .int x1), (3, .int a.2.1)] dX0_laidBy_27 rfl rfl ?_
      refine j_iinc (pc := 28) M.1 [(3, .int (a.2.1 + 1)), (2, .int (a.1 + 0)), (0, .ref o), (1, .int x1)] dX0_laidBy_28 3 rfl (congrArg _ kc_iconst_1) rfl rfl ?_
      refine j_goto (pc := 31) M.1 4 dX0_laidBy_31 rfl ?_
      refine j_sub [2, 3, 1, 0] (show lv_pick _ _ = [(0, .ref o), (1, .int x1), (2, .int (a.1 + 0)), (3, .int (a.2.1 + 1))] from rfl) ?_
      have hy := hR _ _ _ hf _ _ hkn
      exact hy
    · replace hf := o_neg b3 hf
      refine j_iconst (pc := 21) M.1 dX0_laidBy_21 kc_iconst_1 ?_
      refine j_goto (pc := 22) M.1 26 dX0_laidBy_22 rfl ?_
      refine j_iadd (pc := 26) M.1 dX0_laidBy_26 ?_
      refine j_istore_n (pc := 27) M.1 [(2, .int (a.1 + 1)), (0, .ref o), (1, .int x1), (3, .int a.2.1)] dX0_laidBy_27 rfl rfl ?_
      refine j_iinc (pc := 28) M.1 [(3, .int (a.2.1 + 1)), (2, .int (a.1 + 1)), (0, .ref o), (1, .int x1)] dX0_laidBy_28 3 rfl (congrArg _ kc_iconst_1) rfl rfl ?_
      refine j_goto (pc := 31) M.1 4 dX0_laidBy_31 rfl ?_
      refine j_sub [2, 3, 1, 0] (show lv_pick _ _ = [(0, .ref o), (1, .int x1), (2, .int (a.1 + 1)), (3, .int (a.2.1 + 1))] from rfl) ?_
      have hy := hR _ _ _ hf _ _ hkn
      exact hy
noncomputable def x0_laidBy (F : Nat) (x1 : Int32) (τ : XS) : XR Int32 :=
  lp (x0_laidBy_B4 F x1) F (0, 0, τ)
theorem met_x0_laidBy {l : Launch} {G : gG} {o B F : Nat} {x1 : Int32} {τ : XS} {r : Int32 × XS × Nat × Nat} (hf : x0_laidBy F x1 τ = some r) : MetX l G o B yX0_laidBy cX0_laidBy 4 (some .int) 1 [.ref o, .int x1] τ (xQi G o B r.1 r.2.1) r.2.2.1 r.2.2.2 := by
  obtain ⟨v, τr, c, s⟩ := r
  refine metX_of (own := RX0) (mn := "laidBy") (by decide) rfl rfl rfl (fun γ hγ M => ?_)
  subst hγ
  show J γ (XW G o B τ) 0 0 0 [(0, .ref o), (1, .int x1)] []
  have hkn : 0 + c ≤ c ∧ 0 + s ≤ s := ⟨by omega, by omega⟩
  unfold x0_laidBy at hf
  refine j_iconst (pc := 0) M.1 dX0_laidBy_0 kc_iconst_0 ?_
  refine j_istore_n (pc := 1) M.1 [(2, .int 0), (0, .ref o), (1, .int x1)] dX0_laidBy_1 rfl rfl ?_
  refine j_iconst (pc := 2) M.1 dX0_laidBy_2 kc_iconst_0 ?_
  refine j_istore_n (pc := 3) M.1 [(3, .int 0), (2, .int 0), (0, .ref o), (1, .int x1)] dX0_laidBy_3 rfl rfl ?_
  refine j_sub [2, 3, 1, 0] (show lv_pick _ _ = [(0, .ref o), (1, .int x1), (2, .int 0), (3, .int 0)] from rfl) ?_
  refine lp_Wc (kx0_laidBy_B4 M x1) F (0, 0, τ) _ _ hf _ _ hkn
end
theorem dX0_way_0 : decode cX0_way 0 = .ok (.iload_n 1, 1) := by decide +kernel
theorem dX0_way_1 : decode cX0_way 1 = .ok (.aload_n 0, 1) := by decide +kernel
theorem dX0_way_2 : decode cX0_way 2 = .ok (.getfield 151, 3) := by decide +kernel
theorem dX0_way_5 : decode cX0_way 5 = .ok (.invokestatic 137, 3) := by decide +kernel
theorem dX0_way_8 : decode cX0_way 8 = .ok (.ifCond .eq 10, 3) := by decide +kernel
theorem dX0_way_11 : decode cX0_way 11 = .ok (.aload_n 0, 1) := by decide +kernel
theorem dX0_way_12 : decode cX0_way 12 = .ok (.invokevirtual 464, 3) := by decide +kernel
theorem dX0_way_15 : decode cX0_way 15 = .ok (.ifCond .ne 5, 3) := by decide +kernel
theorem dX0_way_18 : decode cX0_way 18 = .ok (.iconst (-1), 1) := by decide +kernel
theorem dX0_way_19 : decode cX0_way 19 = .ok (.ireturn, 1) := by decide +kernel
theorem dX0_way_20 : decode cX0_way 20 = .ok (.aload_n 0, 1) := by decide +kernel
theorem dX0_way_21 : decode cX0_way 21 = .ok (.aload_n 0, 1) := by decide +kernel
theorem dX0_way_22 : decode cX0_way 22 = .ok (.getfield 101, 3) := by decide +kernel
theorem dX0_way_25 : decode cX0_way 25 = .ok (.aload_n 0, 1) := by decide +kernel
theorem dX0_way_26 : decode cX0_way 26 = .ok (.getfield 116, 3) := by decide +kernel
theorem dX0_way_29 : decode cX0_way 29 = .ok (.iload_n 1, 1) := by decide +kernel
theorem dX0_way_30 : decode cX0_way 30 = .ok (.iaload, 1) := by decide +kernel
theorem dX0_way_31 : decode cX0_way 31 = .ok (.iaload, 1) := by decide +kernel
theorem dX0_way_32 : decode cX0_way 32 = .ok (.invokevirtual 467, 3) := by decide +kernel
theorem dX0_way_35 : decode cX0_way 35 = .ok (.istore_n 2, 1) := by decide +kernel
theorem dX0_way_36 : decode cX0_way 36 = .ok (.iconst 0, 1) := by decide +kernel
theorem dX0_way_37 : decode cX0_way 37 = .ok (.istore_n 3, 1) := by decide +kernel
theorem dX0_way_38 : decode cX0_way 38 = .ok (.iload_n 3, 1) := by decide +kernel
theorem dX0_way_39 : decode cX0_way 39 = .ok (.aload_n 0, 1) := by decide +kernel
theorem dX0_way_40 : decode cX0_way 40 = .ok (.getfield 13, 3) := by decide +kernel
theorem dX0_way_43 : decode cX0_way 43 = .ok (.aload_n 0, 1) := by decide +kernel
theorem dX0_way_44 : decode cX0_way 44 = .ok (.getfield 19, 3) := by decide +kernel
theorem dX0_way_47 : decode cX0_way 47 = .ok (.imul, 1) := by decide +kernel
theorem dX0_way_48 : decode cX0_way 48 = .ok (.if_icmp .ge 16, 3) := by decide +kernel
theorem dX0_way_51 : decode cX0_way 51 = .ok (.aload_n 0, 1) := by decide +kernel
theorem dX0_way_52 : decode cX0_way 52 = .ok (.getfield 119, 3) := by decide +kernel
theorem dX0_way_55 : decode cX0_way 55 = .ok (.iload_n 3, 1) := by decide +kernel
theorem dX0_way_56 : decode cX0_way 56 = .ok (.iconst (-1), 1) := by decide +kernel
theorem dX0_way_57 : decode cX0_way 57 = .ok (.iastore, 1) := by decide +kernel
theorem dX0_way_58 : decode cX0_way 58 = .ok (.iinc 3 1, 3) := by decide +kernel
theorem dX0_way_61 : decode cX0_way 61 = .ok (.goto (-23), 3) := by decide +kernel
theorem dX0_way_64 : decode cX0_way 64 = .ok (.iconst 1, 1) := by decide +kernel
theorem dX0_way_65 : decode cX0_way 65 = .ok (.istore_n 3, 1) := by decide +kernel
theorem dX0_way_66 : decode cX0_way 66 = .ok (.aload_n 0, 1) := by decide +kernel
theorem dX0_way_67 : decode cX0_way 67 = .ok (.getfield 122, 3) := by decide +kernel
theorem dX0_way_70 : decode cX0_way 70 = .ok (.iconst 0, 1) := by decide +kernel
theorem dX0_way_71 : decode cX0_way 71 = .ok (.aload_n 0, 1) := by decide +kernel
theorem dX0_way_72 : decode cX0_way 72 = .ok (.getfield 113, 3) := by decide +kernel
theorem dX0_way_75 : decode cX0_way 75 = .ok (.iload_n 1, 1) := by decide +kernel
theorem dX0_way_76 : decode cX0_way 76 = .ok (.iaload, 1) := by decide +kernel
theorem dX0_way_77 : decode cX0_way 77 = .ok (.iastore, 1) := by decide +kernel
theorem dX0_way_78 : decode cX0_way 78 = .ok (.aload_n 0, 1) := by decide +kernel
theorem dX0_way_79 : decode cX0_way 79 = .ok (.getfield 119, 3) := by decide +kernel
theorem dX0_way_82 : decode cX0_way 82 = .ok (.aload_n 0, 1) := by decide +kernel
theorem dX0_way_83 : decode cX0_way 83 = .ok (.getfield 122, 3) := by decide +kernel
theorem dX0_way_86 : decode cX0_way 86 = .ok (.iconst 0, 1) := by decide +kernel
theorem dX0_way_87 : decode cX0_way 87 = .ok (.iaload, 1) := by decide +kernel
theorem dX0_way_88 : decode cX0_way 88 = .ok (.iconst 0, 1) := by decide +kernel
theorem dX0_way_89 : decode cX0_way 89 = .ok (.iastore, 1) := by decide +kernel
theorem dX0_way_90 : decode cX0_way 90 = .ok (.iconst 0, 1) := by decide +kernel
theorem dX0_way_91 : decode cX0_way 91 = .ok (.istore 4, 2) := by decide +kernel
theorem dX0_way_93 : decode cX0_way 93 = .ok (.iload 4, 2) := by decide +kernel
theorem dX0_way_95 : decode cX0_way 95 = .ok (.iload_n 3, 1) := by decide +kernel
theorem dX0_way_96 : decode cX0_way 96 = .ok (.if_icmp .ge 191, 3) := by decide +kernel
theorem dX0_way_99 : decode cX0_way 99 = .ok (.aload_n 0, 1) := by decide +kernel
theorem dX0_way_100 : decode cX0_way 100 = .ok (.getfield 122, 3) := by decide +kernel
theorem dX0_way_103 : decode cX0_way 103 = .ok (.iload 4, 2) := by decide +kernel
theorem dX0_way_105 : decode cX0_way 105 = .ok (.iaload, 1) := by decide +kernel
theorem dX0_way_106 : decode cX0_way 106 = .ok (.istore 5, 2) := by decide +kernel
theorem dX0_way_108 : decode cX0_way 108 = .ok (.aload_n 0, 1) := by decide +kernel
theorem dX0_way_109 : decode cX0_way 109 = .ok (.iload 5, 2) := by decide +kernel
theorem dX0_way_111 : decode cX0_way 111 = .ok (.invokevirtual 470, 3) := by decide +kernel
theorem dX0_way_114 : decode cX0_way 114 = .ok (.ifCond .eq 11, 3) := by decide +kernel
theorem dX0_way_117 : decode cX0_way 117 = .ok (.aload_n 0, 1) := by decide +kernel
theorem dX0_way_118 : decode cX0_way 118 = .ok (.getfield 119, 3) := by decide +kernel
theorem dX0_way_121 : decode cX0_way 121 = .ok (.iload 5, 2) := by decide +kernel
theorem dX0_way_123 : decode cX0_way 123 = .ok (.iaload, 1) := by decide +kernel
theorem dX0_way_124 : decode cX0_way 124 = .ok (.ireturn, 1) := by decide +kernel
theorem dX0_way_125 : decode cX0_way 125 = .ok (.iconst 0, 1) := by decide +kernel
theorem dX0_way_126 : decode cX0_way 126 = .ok (.istore 6, 2) := by decide +kernel
theorem dX0_way_128 : decode cX0_way 128 = .ok (.iload 6, 2) := by decide +kernel
theorem dX0_way_130 : decode cX0_way 130 = .ok (.bipush 9, 2) := by decide +kernel
theorem dX0_way_132 : decode cX0_way 132 = .ok (.if_icmp .ge 149, 3) := by decide +kernel
theorem dX0_way_135 : decode cX0_way 135 = .ok (.iload 5, 2) := by decide +kernel
theorem dX0_way_137 : decode cX0_way 137 = .ok (.aload_n 0, 1) := by decide +kernel
theorem dX0_way_138 : decode cX0_way 138 = .ok (.getfield 13, 3) := by decide +kernel
theorem dX0_way_141 : decode cX0_way 141 = .ok (.irem, 1) := by decide +kernel
theorem dX0_way_142 : decode cX0_way 142 = .ok (.iload 6, 2) := by decide +kernel
theorem dX0_way_144 : decode cX0_way 144 = .ok (.iconst 3, 1) := by decide +kernel
theorem dX0_way_145 : decode cX0_way 145 = .ok (.irem, 1) := by decide +kernel
theorem dX0_way_146 : decode cX0_way 146 = .ok (.iadd, 1) := by decide +kernel
theorem dX0_way_147 : decode cX0_way 147 = .ok (.iconst 1, 1) := by decide +kernel
theorem dX0_way_148 : decode cX0_way 148 = .ok (.isub, 1) := by decide +kernel
theorem dX0_way_149 : decode cX0_way 149 = .ok (.istore 7, 2) := by decide +kernel
theorem dX0_way_151 : decode cX0_way 151 = .ok (.iload 5, 2) := by decide +kernel
theorem dX0_way_153 : decode cX0_way 153 = .ok (.aload_n 0, 1) := by decide +kernel
theorem dX0_way_154 : decode cX0_way 154 = .ok (.getfield 13, 3) := by decide +kernel
theorem dX0_way_157 : decode cX0_way 157 = .ok (.idiv, 1) := by decide +kernel
theorem dX0_way_158 : decode cX0_way 158 = .ok (.iload 6, 2) := by decide +kernel
theorem dX0_way_160 : decode cX0_way 160 = .ok (.iconst 3, 1) := by decide +kernel
theorem dX0_way_161 : decode cX0_way 161 = .ok (.idiv, 1) := by decide +kernel
theorem dX0_way_162 : decode cX0_way 162 = .ok (.iadd, 1) := by decide +kernel
theorem dX0_way_163 : decode cX0_way 163 = .ok (.iconst 1, 1) := by decide +kernel
theorem dX0_way_164 : decode cX0_way 164 = .ok (.isub, 1) := by decide +kernel
theorem dX0_way_165 : decode cX0_way 165 = .ok (.istore 8, 2) := by decide +kernel
theorem dX0_way_167 : decode cX0_way 167 = .ok (.iload 7, 2) := by decide +kernel
theorem dX0_way_169 : decode cX0_way 169 = .ok (.aload_n 0, 1) := by decide +kernel
theorem dX0_way_170 : decode cX0_way 170 = .ok (.getfield 13, 3) := by decide +kernel
theorem dX0_way_173 : decode cX0_way 173 = .ok (.invokestatic 137, 3) := by decide +kernel
theorem dX0_way_176 : decode cX0_way 176 = .ok (.ifCond .eq 99, 3) := by decide +kernel
theorem dX0_way_179 : decode cX0_way 179 = .ok (.iload 8, 2) := by decide +kernel
theorem dX0_way_181 : decode cX0_way 181 = .ok (.aload_n 0, 1) := by decide +kernel
theorem dX0_way_182 : decode cX0_way 182 = .ok (.getfield 19, 3) := by decide +kernel
theorem dX0_way_185 : decode cX0_way 185 = .ok (.invokestatic 137, 3) := by decide +kernel
theorem dX0_way_188 : decode cX0_way 188 = .ok (.ifCond .eq 87, 3) := by decide +kernel
theorem dX0_way_191 : decode cX0_way 191 = .ok (.aload_n 0, 1) := by decide +kernel
theorem dX0_way_192 : decode cX0_way 192 = .ok (.getfield 119, 3) := by decide +kernel
theorem dX0_way_195 : decode cX0_way 195 = .ok (.iload 8, 2) := by decide +kernel
theorem dX0_way_197 : decode cX0_way 197 = .ok (.aload_n 0, 1) := by decide +kernel
theorem dX0_way_198 : decode cX0_way 198 = .ok (.getfield 13, 3) := by decide +kernel
theorem dX0_way_201 : decode cX0_way 201 = .ok (.imul, 1) := by decide +kernel
theorem dX0_way_202 : decode cX0_way 202 = .ok (.iload 7, 2) := by decide +kernel
theorem dX0_way_204 : decode cX0_way 204 = .ok (.iadd, 1) := by decide +kernel
theorem dX0_way_205 : decode cX0_way 205 = .ok (.iaload, 1) := by decide +kernel
theorem dX0_way_206 : decode cX0_way 206 = .ok (.iconst (-1), 1) := by decide +kernel
theorem dX0_way_207 : decode cX0_way 207 = .ok (.if_icmp .ne 68, 3) := by decide +kernel
theorem dX0_way_210 : decode cX0_way 210 = .ok (.aload_n 0, 1) := by decide +kernel
theorem dX0_way_211 : decode cX0_way 211 = .ok (.getfield 37, 3) := by decide +kernel
theorem dX0_way_214 : decode cX0_way 214 = .ok (.iload 8, 2) := by decide +kernel
theorem dX0_way_216 : decode cX0_way 216 = .ok (.aload_n 0, 1) := by decide +kernel
theorem dX0_way_217 : decode cX0_way 217 = .ok (.getfield 13, 3) := by decide +kernel
theorem dX0_way_220 : decode cX0_way 220 = .ok (.imul, 1) := by decide +kernel
theorem dX0_way_221 : decode cX0_way 221 = .ok (.iload 7, 2) := by decide +kernel
theorem dX0_way_223 : decode cX0_way 223 = .ok (.iadd, 1) := by decide +kernel
theorem dX0_way_224 : decode cX0_way 224 = .ok (.iaload, 1) := by decide +kernel
theorem dX0_way_225 : decode cX0_way 225 = .ok (.iload_n 2, 1) := by decide +kernel
theorem dX0_way_226 : decode cX0_way 226 = .ok (.if_icmp .gt 6, 3) := by decide +kernel
theorem dX0_way_229 : decode cX0_way 229 = .ok (.goto 46, 3) := by decide +kernel
theorem dX0_way_232 : decode cX0_way 232 = .ok (.aload_n 0, 1) := by decide +kernel
theorem dX0_way_233 : decode cX0_way 233 = .ok (.getfield 119, 3) := by decide +kernel
theorem dX0_way_236 : decode cX0_way 236 = .ok (.iload 8, 2) := by decide +kernel
theorem dX0_way_238 : decode cX0_way 238 = .ok (.aload_n 0, 1) := by decide +kernel
theorem dX0_way_239 : decode cX0_way 239 = .ok (.getfield 13, 3) := by decide +kernel
theorem dX0_way_242 : decode cX0_way 242 = .ok (.imul, 1) := by decide +kernel
theorem dX0_way_243 : decode cX0_way 243 = .ok (.iload 7, 2) := by decide +kernel
theorem dX0_way_245 : decode cX0_way 245 = .ok (.iadd, 1) := by decide +kernel
theorem dX0_way_246 : decode cX0_way 246 = .ok (.aload_n 0, 1) := by decide +kernel
theorem dX0_way_247 : decode cX0_way 247 = .ok (.getfield 119, 3) := by decide +kernel
theorem dX0_way_250 : decode cX0_way 250 = .ok (.iload 5, 2) := by decide +kernel
theorem dX0_way_252 : decode cX0_way 252 = .ok (.iaload, 1) := by decide +kernel
theorem dX0_way_253 : decode cX0_way 253 = .ok (.iconst 1, 1) := by decide +kernel
theorem dX0_way_254 : decode cX0_way 254 = .ok (.iadd, 1) := by decide +kernel
theorem dX0_way_255 : decode cX0_way 255 = .ok (.iastore, 1) := by decide +kernel
theorem dX0_way_256 : decode cX0_way 256 = .ok (.aload_n 0, 1) := by decide +kernel
theorem dX0_way_257 : decode cX0_way 257 = .ok (.getfield 122, 3) := by decide +kernel
theorem dX0_way_260 : decode cX0_way 260 = .ok (.iload_n 3, 1) := by decide +kernel
theorem dX0_way_261 : decode cX0_way 261 = .ok (.iload 8, 2) := by decide +kernel
theorem dX0_way_263 : decode cX0_way 263 = .ok (.aload_n 0, 1) := by decide +kernel
theorem dX0_way_264 : decode cX0_way 264 = .ok (.getfield 13, 3) := by decide +kernel
theorem dX0_way_267 : decode cX0_way 267 = .ok (.imul, 1) := by decide +kernel
theorem dX0_way_268 : decode cX0_way 268 = .ok (.iload 7, 2) := by decide +kernel
theorem dX0_way_270 : decode cX0_way 270 = .ok (.iadd, 1) := by decide +kernel
theorem dX0_way_271 : decode cX0_way 271 = .ok (.iastore, 1) := by decide +kernel
theorem dX0_way_272 : decode cX0_way 272 = .ok (.iinc 3 1, 3) := by decide +kernel
theorem dX0_way_275 : decode cX0_way 275 = .ok (.iinc 6 1, 3) := by decide +kernel
theorem dX0_way_278 : decode cX0_way 278 = .ok (.goto (-150), 3) := by decide +kernel
theorem dX0_way_281 : decode cX0_way 281 = .ok (.iinc 4 1, 3) := by decide +kernel
theorem dX0_way_284 : decode cX0_way 284 = .ok (.goto (-191), 3) := by decide +kernel
theorem dX0_way_287 : decode cX0_way 287 = .ok (.bipush (-2), 2) := by decide +kernel
theorem dX0_way_289 : decode cX0_way 289 = .ok (.ireturn, 1) := by decide +kernel
section
variable {v : Int32}
noncomputable def x0_way_B38 (F : Nat) (K64 : Int32 × XS → XR Int32) (x1 : Int32) (x2 : Int32) (R : Int32 × XS → XR Int32) (a : Int32 × XS) : XR Int32 :=
  if ((a.2.1.1 0) * (a.2.1.1 1)) ≤ a.1 then (K64 (a.1, a.2)) else (if okI a.1 100 = true then nx (xA a.2 31 a.1.toNatClampNeg ((-1))) (fun τ1 => R (a.1 + 1, τ1)) else none)
theorem kx0_way_B38 (M : XC γ cX0_way 9 RX0 "way" G o B 2 (some .int) (xQi G o B v τr) c0 s0) (x1 : Int32) (x2 : Int32) (K64 : Int32 × XS → XR Int32) (hK64 : ∀ a c s, K64 a = some (v, τr, c, s) → ∀ k n, k + c ≤ c0 ∧ n + s ≤ s0 → J γ (XW G o B a.2) k n 64 [(0, .ref o), (1, .int x1), (2, .int x2)] []) : ∀ R : Int32 × XS → XR Int32, (∀ a c s, R a = some (v, τr, c, s) → ∀ k n, k + c ≤ c0 ∧ n + s ≤ s0 → J γ (XW G o B a.2) k n 38 [(0, .ref o), (1, .int x1), (2, .int x2), (3, .int a.1)] []) → ∀ a c s, x0_way_B38 F K64 x1 x2 R a = some (v, τr, c, s) → ∀ k n, k + c ≤ c0 ∧ n + s ≤ s0 → J γ (XW G o B a.2) k n 38 [(0, .ref o), (1, .int x1), (2, .int x2), (3, .int a.1)] [] := by
  intro R hR a c s hf k n hkn
  unfold x0_way_B38 at hf
  refine j_iload_n (pc := 38) M.1 dX0_way_38 3 rfl ?_
  refine j_aload_n (pc := 39) M.1 dX0_way_39 0 rfl ?_
  refine jx_getS (pc := 40) M xfs_13 dX0_way_40 ?_
  refine j_aload_n (pc := 43) M.1 dX0_way_43 0 rfl ?_
  refine jx_getS (pc := 44) M xfs_19 dX0_way_44 ?_
  refine j_imul (pc := 47) M.1 dX0_way_47 ?_
  refine j_icmp_ge (pc := 48) M.1 64 dX0_way_48 rfl (fun b1 => ?_) (fun b1 => ?_)
  · replace hf := o_pos b1 hf
    refine j_sub [0, 1, 2] (show lv_pick _ _ = [(0, .ref o), (1, .int x1), (2, .int x2)] from rfl) ?_
    have hy := hK64 _ _ _ hf _ _ hkn
    exact hy
  · replace hf := o_neg b1 hf
    refine j_aload_n (pc := 51) M.1 dX0_way_51 0 rfl ?_
    refine jx_getA (pc := 52) M xfa_119 dX0_way_52 ?_
    refine j_iload_n (pc := 55) M.1 dX0_way_55 3 rfl ?_
    refine j_iconst (pc := 56) M.1 dX0_way_56 kc_iconst_m1 ?_
    obtain ⟨b2, hf⟩ := o_need hf
    obtain ⟨τ1, e1, hf⟩ := o_nx hf
    refine jx_iast (pc := 57) M xax_31 b2 dX0_way_57 e1 ?_
    refine j_iinc (pc := 58) M.1 [(3, .int (a.1 + 1)), (0, .ref o), (1, .int x1), (2, .int x2)] dX0_way_58 3 rfl (congrArg _ kc_iconst_1) rfl rfl ?_
    refine j_goto (pc := 61) M.1 38 dX0_way_61 rfl ?_
    refine j_sub [1, 2, 3, 0] (show lv_pick _ _ = [(0, .ref o), (1, .int x1), (2, .int x2), (3, .int (a.1 + 1))] from rfl) ?_
    have hy := hR _ _ _ hf _ _ hkn
    exact hy
noncomputable def x0_way_B128 (F : Nat) (K281 : Int32 × Int32 × XS → XR Int32) (x2 : Int32) (x4 : Int32) (x5 : Int32) (R : Int32 × Int32 × XS → XR Int32) (a : Int32 × Int32 × XS) : XR Int32 :=
  if 9 ≤ a.2.1 then (K281 (a.1, a.2.1, a.2.2)) else (if ¬ (a.2.2.1.1 0) = 0 then nx (((jrem x5 (a.2.2.1.1 0)) + (jrem a.2.1 3)) - 1 : Int32) (fun y1 => if ¬ (a.2.2.1.1 0) = 0 then nx (((x5 / (a.2.2.1.1 0)) + (a.2.1 / 3)) - 1 : Int32) (fun y2 => (x0_in F y1 (a.2.2.1.1 0)).bind (fun r1 => if r1 = 0 then (R (a.1, a.2.1 + 1, a.2.2)) else ((x0_in F y2 (a.2.2.1.1 1)).bind (fun r2 => if r2 = 0 then (R (a.1, a.2.1 + 1, a.2.2)) else (if okI ((y2 * (a.2.2.1.1 0)) + y1) 100 = true then if (a.2.2.1.2 31 ((y2 * (a.2.2.1.1 0)) + y1).toNatClampNeg) = ((-1)) then (if okI ((y2 * (a.2.2.1.1 0)) + y1) 100 = true then if x2 < (a.2.2.1.2 3 ((y2 * (a.2.2.1.1 0)) + y1).toNatClampNeg) then (if okI x5 100 = true then if okI ((y2 * (a.2.2.1.1 0)) + y1) 100 = true then nx (xA a.2.2 31 ((y2 * (a.2.2.1.1 0)) + y1).toNatClampNeg ((a.2.2.1.2 31 x5.toNatClampNeg) + 1)) (fun τ1 => if okI a.1 100 = true then nx (xA τ1 32 a.1.toNatClampNeg ((y2 * (τ1.1.1 0)) + y1)) (fun τ2 => R (a.1 + 1, a.2.1 + 1, τ2)) else none) else none else none) else (R (a.1, a.2.1 + 1, a.2.2)) else none) else (R (a.1, a.2.1 + 1, a.2.2)) else none))))) else none) else none)
theorem kx0_way_B128 (M : XC γ cX0_way 9 RX0 "way" G o B 2 (some .int) (xQi G o B v τr) c0 s0) (x2 : Int32) (x4 : Int32) (x5 : Int32) (K281 : Int32 × Int32 × XS → XR Int32) (hK281 : ∀ a c s, K281 a = some (v, τr, c, s) → ∀ k n, k + c ≤ c0 ∧ n + s ≤ s0 → J γ (XW G o B a.2.2) k n 281 [(0, .ref o), (2, .int x2), (3, .int a.1), (4, .int x4)] []) : ∀ R : Int32 × Int32 × XS → XR Int32, (∀ a c s, R a = some (v, τr, c, s) → ∀ k n, k + c ≤ c0 ∧ n + s ≤ s0 → J γ (XW G o B a.2.2) k n 128 [(0, .ref o), (2, .int x2), (3, .int a.1), (4, .int x4), (5, .int x5), (6, .int a.2.1)] []) → ∀ a c s, x0_way_B128 F K281 x2 x4 x5 R a = some (v, τr, c, s) → ∀ k n, k + c ≤ c0 ∧ n + s ≤ s0 → J γ (XW G o B a.2.2) k n 128 [(0, .ref o), (2, .int x2), (3, .int a.1), (4, .int x4), (5, .int x5), (6, .int a.2.1)] [] := by
  intro R hR a c s hf k n hkn
  unfold x0_way_B128 at hf
  refine j_iload (pc := 128) M.1 dX0_way_128 5 rfl ?_
  refine j_bipush (pc := 130) M.1 dX0_way_130 kc_bipush_9 ?_
  refine j_icmp_ge (pc := 132) M.1 281 dX0_way_132 rfl (fun b1 => ?_) (fun b1 => ?_)
  · replace hf := o_pos b1 hf
    refine j_sub [0, 1, 2, 3] (show lv_pick _ _ = [(0, .ref o), (2, .int x2), (3, .int a.1), (4, .int x4)] from rfl) ?_
    have hy := hK281 _ _ _ hf _ _ hkn
    exact hy
  · replace hf := o_neg b1 hf
    refine j_iload (pc := 135) M.1 dX0_way_135 4 rfl ?_
    refine j_aload_n (pc := 137) M.1 dX0_way_137 0 rfl ?_
    refine jx_getS (pc := 138) M xfs_13 dX0_way_138 ?_
    obtain ⟨b2, hf⟩ := o_need hf
    refine j_irem (pc := 141) M.1 dX0_way_141 b2 ?_
    refine j_iload (pc := 142) M.1 dX0_way_142 5 rfl ?_
    refine j_iconst (pc := 144) M.1 dX0_way_144 kc_iconst_3 ?_
    refine j_irem (pc := 145) M.1 dX0_way_145 (by decide) ?_
    refine j_iadd (pc := 146) M.1 dX0_way_146 ?_
    refine j_iconst (pc := 147) M.1 dX0_way_147 kc_iconst_1 ?_
    refine j_isub (pc := 148) M.1 dX0_way_148 ?_
    obtain ⟨y1, e1, hf⟩ := o_nx hf
    refine j_top e1 ?_
    refine j_istore (pc := 149) M.1 [(7, .int y1), (0, .ref o), (2, .int x2), (3, .int a.1), (4, .int x4), (5, .int x5), (6, .int a.2.1)] dX0_way_149 rfl rfl ?_
    refine j_iload (pc := 151) M.1 dX0_way_151 5 rfl ?_
    refine j_aload_n (pc := 153) M.1 dX0_way_153 1 rfl ?_
    refine jx_getS (pc := 154) M xfs_13 dX0_way_154 ?_
    obtain ⟨b3, hf⟩ := o_need hf
    refine j_idiv (pc := 157) M.1 dX0_way_157 b3 ?_
    refine j_iload (pc := 158) M.1 dX0_way_158 6 rfl ?_
    refine j_iconst (pc := 160) M.1 dX0_way_160 kc_iconst_3 ?_
    refine j_idiv (pc := 161) M.1 dX0_way_161 (by decide) ?_
    refine j_iadd (pc := 162) M.1 dX0_way_162 ?_
    refine j_iconst (pc := 163) M.1 dX0_way_163 kc_iconst_1 ?_
    refine j_isub (pc := 164) M.1 dX0_way_164 ?_
    obtain ⟨y2, e2, hf⟩ := o_nx hf
    refine j_top e2 ?_
    refine j_istore (pc := 165) M.1 [(8, .int y2), (7, .int y1), (0, .ref o), (2, .int x2), (3, .int a.1), (4, .int x4), (5, .int x5), (6, .int a.2.1)] dX0_way_165 rfl rfl ?_
    refine j_iload (pc := 167) M.1 dX0_way_167 1 rfl ?_
    refine j_aload_n (pc := 169) M.1 dX0_way_169 2 rfl ?_
    refine jx_getS (pc := 170) M xfs_13 dX0_way_170 ?_
    obtain ⟨r1, g1, hf⟩ := o_bind hf
    refine jx_calls (pc := 173) (As := [.int y1, .int (a.2.2.1.1 0)]) (rest := []) M xcs_X0_137 (met_x0_in g1) rfl rfl rfl rfl dX0_way_173 (kn_le0 hkn) ?_
    refine j_if_eq (pc := 176) M.1 275 dX0_way_176 rfl (fun b4 => ?_) (fun b4 => ?_)
    · replace hf := o_pos b4 hf
      refine j_iinc (pc := 275) M.1 [(6, .int (a.2.1 + 1)), (8, .int y2), (7, .int y1), (0, .ref o), (2, .int x2), (3, .int a.1), (4, .int x4), (5, .int x5)] dX0_way_275 7 rfl (congrArg _ kc_iconst_1) rfl rfl ?_
      refine j_goto (pc := 278) M.1 128 dX0_way_278 rfl ?_
      refine j_sub [3, 4, 5, 6, 7, 0] (show lv_pick _ _ = [(0, .ref o), (2, .int x2), (3, .int a.1), (4, .int x4), (5, .int x5), (6, .int (a.2.1 + 1))] from rfl) ?_
      have hy := hR _ _ _ hf _ _ hkn
      exact hy
    · replace hf := o_neg b4 hf
      refine j_iload (pc := 179) M.1 dX0_way_179 0 rfl ?_
      refine j_aload_n (pc := 181) M.1 dX0_way_181 2 rfl ?_
      refine jx_getS (pc := 182) M xfs_19 dX0_way_182 ?_
      obtain ⟨r2, g2, hf⟩ := o_bind hf
      refine jx_calls (pc := 185) (As := [.int y2, .int (a.2.2.1.1 1)]) (rest := []) M xcs_X0_137 (met_x0_in g2) rfl rfl rfl rfl dX0_way_185 (kn_le0 hkn) ?_
      refine j_if_eq (pc := 188) M.1 275 dX0_way_188 rfl (fun b5 => ?_) (fun b5 => ?_)
      · replace hf := o_pos b5 hf
        refine j_iinc (pc := 275) M.1 [(6, .int (a.2.1 + 1)), (8, .int y2), (7, .int y1), (0, .ref o), (2, .int x2), (3, .int a.1), (4, .int x4), (5, .int x5)] dX0_way_275 7 rfl (congrArg _ kc_iconst_1) rfl rfl ?_
        refine j_goto (pc := 278) M.1 128 dX0_way_278 rfl ?_
        refine j_sub [3, 4, 5, 6, 7, 0] (show lv_pick _ _ = [(0, .ref o), (2, .int x2), (3, .int a.1), (4, .int x4), (5, .int x5), (6, .int (a.2.1 + 1))] from rfl) ?_
        have hy := hR _ _ _ hf _ _ hkn
        exact hy
      · replace hf := o_neg b5 hf
        refine j_aload_n (pc := 191) M.1 dX0_way_191 2 rfl ?_
        refine jx_getA (pc := 192) M xfa_119 dX0_way_192 ?_
        refine j_iload (pc := 195) M.1 dX0_way_195 0 rfl ?_
        refine j_aload_n (pc := 197) M.1 dX0_way_197 2 rfl ?_
        refine jx_getS (pc := 198) M xfs_13 dX0_way_198 ?_
        refine j_imul (pc := 201) M.1 dX0_way_201 ?_
        refine j_iload (pc := 202) M.1 dX0_way_202 1 rfl ?_
        refine j_iadd (pc := 204) M.1 dX0_way_204 ?_
        obtain ⟨b6, hf⟩ := o_need hf
        refine jx_iald (pc := 205) M xax_31 b6 dX0_way_205 ?_
        refine j_iconst (pc := 206) M.1 dX0_way_206 kc_iconst_m1 ?_
        refine j_icmp_ne (pc := 207) M.1 275 dX0_way_207 rfl (fun b7 => ?_) (fun b7 => ?_)
        · replace hf := o_neg b7 hf
          refine j_iinc (pc := 275) M.1 [(6, .int (a.2.1 + 1)), (8, .int y2), (7, .int y1), (0, .ref o), (2, .int x2), (3, .int a.1), (4, .int x4), (5, .int x5)] dX0_way_275 7 rfl (congrArg _ kc_iconst_1) rfl rfl ?_
          refine j_goto (pc := 278) M.1 128 dX0_way_278 rfl ?_
          refine j_sub [3, 4, 5, 6, 7, 0] (show lv_pick _ _ = [(0, .ref o), (2, .int x2), (3, .int a.1), (4, .int x4), (5, .int x5), (6, .int (a.2.1 + 1))] from rfl) ?_
          have hy := hR _ _ _ hf _ _ hkn
          exact hy
        · replace hf := o_pos b7 hf
          refine j_aload_n (pc := 210) M.1 dX0_way_210 2 rfl ?_
          refine jx_getA (pc := 211) M xfa_37 dX0_way_211 ?_
          refine j_iload (pc := 214) M.1 dX0_way_214 0 rfl ?_
          refine j_aload_n (pc := 216) M.1 dX0_way_216 2 rfl ?_
          refine jx_getS (pc := 217) M xfs_13 dX0_way_217 ?_
          refine j_imul (pc := 220) M.1 dX0_way_220 ?_
          refine j_iload (pc := 221) M.1 dX0_way_221 1 rfl ?_
          refine j_iadd (pc := 223) M.1 dX0_way_223 ?_
          obtain ⟨b8, hf⟩ := o_need hf
          refine jx_iald (pc := 224) M xax_3 b8 dX0_way_224 ?_
          refine j_iload_n (pc := 225) M.1 dX0_way_225 3 rfl ?_
          refine j_icmp_gt (pc := 226) M.1 232 dX0_way_226 rfl (fun b9 => ?_) (fun b9 => ?_)
          · replace hf := o_pos b9 hf
            refine j_aload_n (pc := 232) M.1 dX0_way_232 2 rfl ?_
            refine jx_getA (pc := 233) M xfa_119 dX0_way_233 ?_
            refine j_iload (pc := 236) M.1 dX0_way_236 0 rfl ?_
            refine j_aload_n (pc := 238) M.1 dX0_way_238 2 rfl ?_
            refine jx_getS (pc := 239) M xfs_13 dX0_way_239 ?_
            refine j_imul (pc := 242) M.1 dX0_way_242 ?_
            refine j_iload (pc := 243) M.1 dX0_way_243 1 rfl ?_
            refine j_iadd (pc := 245) M.1 dX0_way_245 ?_
            refine j_aload_n (pc := 246) M.1 dX0_way_246 2 rfl ?_
            refine jx_getA (pc := 247) M xfa_119 dX0_way_247 ?_
            refine j_iload (pc := 250) M.1 dX0_way_250 6 rfl ?_
            obtain ⟨b10, hf⟩ := o_need hf
            refine jx_iald (pc := 252) M xax_31 b10 dX0_way_252 ?_
            refine j_iconst (pc := 253) M.1 dX0_way_253 kc_iconst_1 ?_
            refine j_iadd (pc := 254) M.1 dX0_way_254 ?_
            obtain ⟨b11, hf⟩ := o_need hf
            obtain ⟨τ1, e3, hf⟩ := o_nx hf
            refine jx_iast (pc := 255) M xax_31 b11 dX0_way_255 e3 ?_
            refine j_aload_n (pc := 256) M.1 dX0_way_256 2 rfl ?_
            refine jx_getA (pc := 257) M xfa_122 dX0_way_257 ?_
            refine j_iload_n (pc := 260) M.1 dX0_way_260 4 rfl ?_
            refine j_iload (pc := 261) M.1 dX0_way_261 0 rfl ?_
            refine j_aload_n (pc := 263) M.1 dX0_way_263 2 rfl ?_
            refine jx_getS (pc := 264) M xfs_13 dX0_way_264 ?_
            refine j_imul (pc := 267) M.1 dX0_way_267 ?_
            refine j_iload (pc := 268) M.1 dX0_way_268 1 rfl ?_
            refine j_iadd (pc := 270) M.1 dX0_way_270 ?_
            obtain ⟨b12, hf⟩ := o_need hf
            obtain ⟨τ2, e4, hf⟩ := o_nx hf
            refine jx_iast (pc := 271) M xax_32 b12 dX0_way_271 e4 ?_
            refine j_iinc (pc := 272) M.1 [(3, .int (a.1 + 1)), (8, .int y2), (7, .int y1), (0, .ref o), (2, .int x2), (4, .int x4), (5, .int x5), (6, .int a.2.1)] dX0_way_272 4 rfl (congrArg _ kc_iconst_1) rfl rfl ?_
            refine j_iinc (pc := 275) M.1 [(6, .int (a.2.1 + 1)), (3, .int (a.1 + 1)), (8, .int y2), (7, .int y1), (0, .ref o), (2, .int x2), (4, .int x4), (5, .int x5)] dX0_way_275 7 rfl (congrArg _ kc_iconst_1) rfl rfl ?_
            refine j_goto (pc := 278) M.1 128 dX0_way_278 rfl ?_
            refine j_sub [4, 5, 1, 6, 7, 0] (show lv_pick _ _ = [(0, .ref o), (2, .int x2), (3, .int (a.1 + 1)), (4, .int x4), (5, .int x5), (6, .int (a.2.1 + 1))] from rfl) ?_
            have hy := hR _ _ _ hf _ _ hkn
            exact hy
          · replace hf := o_neg b9 hf
            refine j_goto (pc := 229) M.1 275 dX0_way_229 rfl ?_
            refine j_iinc (pc := 275) M.1 [(6, .int (a.2.1 + 1)), (8, .int y2), (7, .int y1), (0, .ref o), (2, .int x2), (3, .int a.1), (4, .int x4), (5, .int x5)] dX0_way_275 7 rfl (congrArg _ kc_iconst_1) rfl rfl ?_
            refine j_goto (pc := 278) M.1 128 dX0_way_278 rfl ?_
            refine j_sub [3, 4, 5, 6, 7, 0] (show lv_pick _ _ = [(0, .ref o), (2, .int x2), (3, .int a.1), (4, .int x4), (5, .int x5), (6, .int (a.2.1 + 1))] from rfl) ?_
            have hy := hR _ _ _ hf _ _ hkn
            exact hy
noncomputable def x0_way_B93 (F : Nat) (x2 : Int32) (R : Int32 × Int32 × XS → XR Int32) (a : Int32 × Int32 × XS) : XR Int32 :=
  if a.1 ≤ a.2.1 then (some ((-2), a.2.2, 0, 0)) else (if okI a.2.1 100 = true then nx (a.2.2.1.2 32 a.2.1.toNatClampNeg : Int32) (fun y1 => (x0_isBorder F y1 a.2.2).bind (fun r1 => tk r1.2.2.1 r1.2.2.2 (if r1.1 = 0 then (lp (x0_way_B128 F (fun a1 => R (a1.1, a.2.1 + 1, a1.2.2)) x2 a.2.1 y1) F (a.1, 0, r1.2.1)) else (if okI y1 100 = true then some (r1.2.1.1.2 31 y1.toNatClampNeg, r1.2.1, 0, 0) else none)))) else none)
theorem kx0_way_B93 (M : XC γ cX0_way 9 RX0 "way" G o B 2 (some .int) (xQi G o B v τr) c0 s0) (x2 : Int32) : ∀ R : Int32 × Int32 × XS → XR Int32, (∀ a c s, R a = some (v, τr, c, s) → ∀ k n, k + c ≤ c0 ∧ n + s ≤ s0 → J γ (XW G o B a.2.2) k n 93 [(0, .ref o), (2, .int x2), (3, .int a.1), (4, .int a.2.1)] []) → ∀ a c s, x0_way_B93 F x2 R a = some (v, τr, c, s) → ∀ k n, k + c ≤ c0 ∧ n + s ≤ s0 → J γ (XW G o B a.2.2) k n 93 [(0, .ref o), (2, .int x2), (3, .int a.1), (4, .int a.2.1)] [] := by
  intro R hR a c s hf k n hkn
  unfold x0_way_B93 at hf
  refine j_iload (pc := 93) M.1 dX0_way_93 3 rfl ?_
  refine j_iload_n (pc := 95) M.1 dX0_way_95 2 rfl ?_
  refine j_icmp_ge (pc := 96) M.1 287 dX0_way_96 rfl (fun b1 => ?_) (fun b1 => ?_)
  · replace hf := o_pos b1 hf
    refine j_bipush (pc := 287) M.1 dX0_way_287 kc_bipush_m2 ?_
    exact jx_iretF (pc := 289) M dX0_way_289 hf hkn
  · replace hf := o_neg b1 hf
    refine j_aload_n (pc := 99) M.1 dX0_way_99 0 rfl ?_
    refine jx_getA (pc := 100) M xfa_122 dX0_way_100 ?_
    refine j_iload (pc := 103) M.1 dX0_way_103 3 rfl ?_
    obtain ⟨b2, hf⟩ := o_need hf
    refine jx_iald (pc := 105) M xax_32 b2 dX0_way_105 ?_
    obtain ⟨y1, e1, hf⟩ := o_nx hf
    refine j_top e1 ?_
    refine j_istore (pc := 106) M.1 [(5, .int y1), (0, .ref o), (2, .int x2), (3, .int a.1), (4, .int a.2.1)] dX0_way_106 rfl rfl ?_
    refine j_aload_n (pc := 108) M.1 dX0_way_108 1 rfl ?_
    refine j_iload (pc := 109) M.1 dX0_way_109 0 rfl ?_
    obtain ⟨r1, g1, hf⟩ := o_bind hf
    obtain ⟨c1, s1, hf, hc1, hs1⟩ := o_tk hf
    replace hkn := kn_step hkn hc1 hs1
    refine jx_i M (x_runV (pc := 111) (As := [.int y1]) (rest := []) (V := xV o a.2.2) M xcw_X0_470 (met_x0_isBorder g1) (fun H h => h.1 o _ xH_o) (by decide) rfl rfl rfl dX0_way_111 (kn_le hkn)) ?_
    refine j_if_eq (pc := 114) M.1 125 dX0_way_114 rfl (fun b3 => ?_) (fun b3 => ?_)
    · replace hf := o_pos b3 hf
      refine j_iconst (pc := 125) M.1 dX0_way_125 kc_iconst_0 ?_
      refine j_istore (pc := 126) M.1 [(6, .int 0), (5, .int y1), (0, .ref o), (2, .int x2), (3, .int a.1), (4, .int a.2.1)] dX0_way_126 rfl rfl ?_
      refine j_sub [2, 3, 4, 5, 1, 0] (show lv_pick _ _ = [(0, .ref o), (2, .int x2), (3, .int a.1), (4, .int a.2.1), (5, .int y1), (6, .int 0)] from rfl) ?_
      refine lp_Wc (kx0_way_B128 M x2 a.2.1 y1 _ ?_) F (a.1, 0, r1.2.1) _ _ hf _ _ hkn
      · intro a1 c s hf k n hkn
        refine j_iinc (pc := 281) M.1 [(4, .int (a.2.1 + 1)), (0, .ref o), (2, .int x2), (3, .int a1.1)] dX0_way_281 3 rfl (congrArg _ kc_iconst_1) rfl rfl ?_
        refine j_goto (pc := 284) M.1 93 dX0_way_284 rfl ?_
        refine j_sub [1, 2, 3, 0] (show lv_pick _ _ = [(0, .ref o), (2, .int x2), (3, .int a1.1), (4, .int (a.2.1 + 1))] from rfl) ?_
        have hy := hR _ _ _ hf _ _ hkn
        exact hy
    · replace hf := o_neg b3 hf
      refine j_aload_n (pc := 117) M.1 dX0_way_117 1 rfl ?_
      refine jx_getA (pc := 118) M xfa_119 dX0_way_118 ?_
      refine j_iload (pc := 121) M.1 dX0_way_121 0 rfl ?_
      obtain ⟨b4, hf⟩ := o_need hf
      refine jx_iald (pc := 123) M xax_31 b4 dX0_way_123 ?_
      exact jx_iretF (pc := 124) M dX0_way_124 hf hkn
noncomputable def x0_way (F : Nat) (x1 : Int32) (τ : XS) : XR Int32 :=
  (x0_in F x1 (τ.1.1 35)).bind (fun r1 => if r1 = 0 then (some ((-1), τ, 0, 0)) else ((x0_settles F τ).bind (fun r2 => tk r2.2.2.1 r2.2.2.2 (if r2.1 = 0 then (some ((-1), r2.2.1, 0, 0)) else (if okI x1 40 = true then if okI (r2.2.1.1.2 30 x1.toNatClampNeg) 8 = true then (x0_laidBy F (r2.2.1.1.2 25 (r2.2.1.1.2 30 x1.toNatClampNeg).toNatClampNeg) r2.2.1).bind (fun r3 => tk r3.2.2.1 r3.2.2.2 (lp (x0_way_B38 F (fun a1 => if okI x1 40 = true then if okI 0 100 = true then nx (xA a1.2 32 (0 : Int32).toNatClampNeg (a1.2.1.2 29 x1.toNatClampNeg)) (fun τ1 => if okI 0 100 = true then if okI (τ1.1.2 32 (0 : Int32).toNatClampNeg) 100 = true then nx (xA τ1 31 (τ1.1.2 32 (0 : Int32).toNatClampNeg).toNatClampNeg 0) (fun τ2 => lp (x0_way_B93 F r3.1) F (1, 0, τ2)) else none else none) else none else none) x1 r3.1) F (0, r3.2.1))) else none else none)))))
theorem met_x0_way {l : Launch} {G : gG} {o B F : Nat} {x1 : Int32} {τ : XS} {r : Int32 × XS × Nat × Nat} (hf : x0_way F x1 τ = some r) : MetX l G o B yX0_way cX0_way 9 (some .int) 2 [.ref o, .int x1] τ (xQi G o B r.1 r.2.1) r.2.2.1 r.2.2.2 := by
  obtain ⟨v, τr, c, s⟩ := r
  refine metX_of (own := RX0) (mn := "way") (by decide) rfl rfl rfl (fun γ hγ M => ?_)
  subst hγ
  show J γ (XW G o B τ) 0 0 0 [(0, .ref o), (1, .int x1)] []
  have hkn : 0 + c ≤ c ∧ 0 + s ≤ s := ⟨by omega, by omega⟩
  unfold x0_way at hf
  refine j_iload_n (pc := 0) M.1 dX0_way_0 1 rfl ?_
  refine j_aload_n (pc := 1) M.1 dX0_way_1 0 rfl ?_
  refine jx_getS (pc := 2) M xfs_151 dX0_way_2 ?_
  obtain ⟨r1, g1, hf⟩ := o_bind hf
  refine jx_calls (pc := 5) (As := [.int x1, .int (τ.1.1 35)]) (rest := []) M xcs_X0_137 (met_x0_in g1) rfl rfl rfl rfl dX0_way_5 (kn_le0 hkn) ?_
  refine j_if_eq (pc := 8) M.1 18 dX0_way_8 rfl (fun b1 => ?_) (fun b1 => ?_)
  · replace hf := o_pos b1 hf
    refine j_iconst (pc := 18) M.1 dX0_way_18 kc_iconst_m1 ?_
    exact jx_iretF (pc := 19) M dX0_way_19 hf hkn
  · replace hf := o_neg b1 hf
    refine j_aload_n (pc := 11) M.1 dX0_way_11 0 rfl ?_
    obtain ⟨r2, g2, hf⟩ := o_bind hf
    obtain ⟨c1, s1, hf, hc1, hs1⟩ := o_tk hf
    replace hkn := kn_step hkn hc1 hs1
    refine jx_i M (x_runV (pc := 12) (As := []) (rest := []) (V := xV o τ) M xcw_X0_464 (met_x0_settles g2) (fun H h => h.1 o _ xH_o) (by decide) rfl rfl rfl dX0_way_12 (kn_le hkn)) ?_
    refine j_if_ne (pc := 15) M.1 20 dX0_way_15 rfl (fun b2 => ?_) (fun b2 => ?_)
    · replace hf := o_neg b2 hf
      refine j_aload_n (pc := 20) M.1 dX0_way_20 0 rfl ?_
      refine j_aload_n (pc := 21) M.1 dX0_way_21 0 rfl ?_
      refine jx_getA (pc := 22) M xfa_101 dX0_way_22 ?_
      refine j_aload_n (pc := 25) M.1 dX0_way_25 0 rfl ?_
      refine jx_getA (pc := 26) M xfa_116 dX0_way_26 ?_
      refine j_iload_n (pc := 29) M.1 dX0_way_29 1 rfl ?_
      obtain ⟨b3, hf⟩ := o_need hf
      refine jx_iald (pc := 30) M xax_30 b3 dX0_way_30 ?_
      obtain ⟨b4, hf⟩ := o_need hf
      refine jx_iald (pc := 31) M xax_25 b4 dX0_way_31 ?_
      obtain ⟨r3, g3, hf⟩ := o_bind hf
      obtain ⟨c2, s2, hf, hc2, hs2⟩ := o_tk hf
      replace hkn := kn_step hkn hc2 hs2
      refine jx_i M (x_runV (pc := 32) (As := [.int (r2.2.1.1.2 25 (r2.2.1.1.2 30 x1.toNatClampNeg).toNatClampNeg)]) (rest := []) (V := xV o r2.2.1) M xcw_X0_467 (met_x0_laidBy g3) (fun H h => h.1 o _ xH_o) (by decide) rfl rfl rfl dX0_way_32 (kn_le hkn)) ?_
      refine j_istore_n (pc := 35) M.1 [(2, .int r3.1), (0, .ref o), (1, .int x1)] dX0_way_35 rfl rfl ?_
      refine j_iconst (pc := 36) M.1 dX0_way_36 kc_iconst_0 ?_
      refine j_istore_n (pc := 37) M.1 [(3, .int 0), (2, .int r3.1), (0, .ref o), (1, .int x1)] dX0_way_37 rfl rfl ?_
      refine j_sub [2, 3, 1, 0] (show lv_pick _ _ = [(0, .ref o), (1, .int x1), (2, .int r3.1), (3, .int 0)] from rfl) ?_
      refine lp_Wc (kx0_way_B38 M x1 r3.1 _ ?_) F (0, r3.2.1) _ _ hf _ _ hkn
      · intro a1 c s hf k n hkn
        refine j_iconst (pc := 64) M.1 dX0_way_64 kc_iconst_1 ?_
        refine j_istore_n (pc := 65) M.1 [(3, .int 1), (0, .ref o), (1, .int x1), (2, .int r3.1)] dX0_way_65 rfl rfl ?_
        refine j_aload_n (pc := 66) M.1 dX0_way_66 1 rfl ?_
        refine jx_getA (pc := 67) M xfa_122 dX0_way_67 ?_
        refine j_iconst (pc := 70) M.1 dX0_way_70 kc_iconst_0 ?_
        refine j_aload_n (pc := 71) M.1 dX0_way_71 1 rfl ?_
        refine jx_getA (pc := 72) M xfa_113 dX0_way_72 ?_
        refine j_iload_n (pc := 75) M.1 dX0_way_75 2 rfl ?_
        obtain ⟨b5, hf⟩ := o_need hf
        refine jx_iald (pc := 76) M xax_29 b5 dX0_way_76 ?_
        obtain ⟨b6, hf⟩ := o_need hf
        obtain ⟨τ1, e1, hf⟩ := o_nx hf
        refine jx_iast (pc := 77) M xax_32 b6 dX0_way_77 e1 ?_
        refine j_aload_n (pc := 78) M.1 dX0_way_78 1 rfl ?_
        refine jx_getA (pc := 79) M xfa_119 dX0_way_79 ?_
        refine j_aload_n (pc := 82) M.1 dX0_way_82 1 rfl ?_
        refine jx_getA (pc := 83) M xfa_122 dX0_way_83 ?_
        refine j_iconst (pc := 86) M.1 dX0_way_86 kc_iconst_0 ?_
        obtain ⟨b7, hf⟩ := o_need hf
        refine jx_iald (pc := 87) M xax_32 b7 dX0_way_87 ?_
        refine j_iconst (pc := 88) M.1 dX0_way_88 kc_iconst_0 ?_
        obtain ⟨b8, hf⟩ := o_need hf
        obtain ⟨τ2, e2, hf⟩ := o_nx hf
        refine jx_iast (pc := 89) M xax_31 b8 dX0_way_89 e2 ?_
        refine j_iconst (pc := 90) M.1 dX0_way_90 kc_iconst_0 ?_
        refine j_istore (pc := 91) M.1 [(4, .int 0), (3, .int 1), (0, .ref o), (1, .int x1), (2, .int r3.1)] dX0_way_91 rfl rfl ?_
        refine j_sub [2, 4, 1, 0] (show lv_pick _ _ = [(0, .ref o), (2, .int r3.1), (3, .int 1), (4, .int 0)] from rfl) ?_
        refine lp_Wc (kx0_way_B93 M r3.1) F (1, 0, τ2) _ _ hf _ _ hkn
    · replace hf := o_pos b2 hf
      refine j_iconst (pc := 18) M.1 dX0_way_18 kc_iconst_m1 ?_
      exact jx_iretF (pc := 19) M dX0_way_19 hf hkn
end
theorem dX24_init_0 : decode cX24_init 0 = .ok (.aload_n 0, 1) := by decide +kernel
theorem dX24_init_1 : decode cX24_init 1 = .ok (.invokespecial 1, 3) := by decide +kernel
theorem dX24_init_4 : decode cX24_init 4 = .ok (.aload_n 0, 1) := by decide +kernel
theorem dX24_init_5 : decode cX24_init 5 = .ok (.iload_n 1, 1) := by decide +kernel
theorem dX24_init_6 : decode cX24_init 6 = .ok (.putfield 7, 3) := by decide +kernel
theorem dX24_init_9 : decode cX24_init 9 = .ok (.aload_n 0, 1) := by decide +kernel
theorem dX24_init_10 : decode cX24_init 10 = .ok (.iload_n 2, 1) := by decide +kernel
theorem dX24_init_11 : decode cX24_init 11 = .ok (.putfield 13, 3) := by decide +kernel
theorem dX24_init_14 : decode cX24_init 14 = .ok (.aload_n 0, 1) := by decide +kernel
theorem dX24_init_15 : decode cX24_init 15 = .ok (.iload_n 3, 1) := by decide +kernel
theorem dX24_init_16 : decode cX24_init 16 = .ok (.putfield 16, 3) := by decide +kernel
theorem dX24_init_19 : decode cX24_init 19 = .ok (.aload_n 0, 1) := by decide +kernel
theorem dX24_init_20 : decode cX24_init 20 = .ok (.iload 4, 2) := by decide +kernel
theorem dX24_init_22 : decode cX24_init 22 = .ok (.putfield 19, 3) := by decide +kernel
theorem dX24_init_25 : decode cX24_init 25 = .ok (.return_, 1) := by decide +kernel
section
variable {v : Int32}
noncomputable def x24_init (F : Nat) (x0 : Nat) (x1 : Int32) (x2 : Int32) (x3 : Int32) (x4 : Int32) (τ : XS) : XR Int32 :=
  (pF τ x0 [24] 0 (.int x1)).bind (fun τ1 => (pF τ1 x0 [24] 1 (.int x2)).bind (fun τ2 => (pF τ2 x0 [24] 2 (.int x3)).bind (fun τ3 => (pF τ3 x0 [24] 3 (.int x4)).bind (fun τ4 => some (0, τ4, 0, 0)))))
theorem met_x24_init {l : Launch} {G : gG} {o B F : Nat} {x0 : Nat} {x1 : Int32} {x2 : Int32} {x3 : Int32} {x4 : Int32} {τ : XS} {r : Int32 × XS × Nat × Nat} (hf : x24_init F x0 x1 x2 x3 x4 τ = some r) : MetX l G o B yX24_init cX24_init 5 none 2 [.ref x0, .int x1, .int x2, .int x3, .int x4] τ (xQv G o B r.1 r.2.1) r.2.2.1 r.2.2.2 := by
  obtain ⟨v, τr, c, s⟩ := r
  refine metX_of (own := RX24) (mn := "<init>") (by decide) rfl rfl rfl (fun γ hγ M => ?_)
  subst hγ
  show J γ (XW G o B τ) 0 0 0 [(0, .ref x0), (1, .int x1), (2, .int x2), (3, .int x3), (4, .int x4)] []
  have hkn : 0 + c ≤ c ∧ 0 + s ≤ s := ⟨by omega, by omega⟩
  unfold x24_init at hf
  refine j_aload_n (pc := 0) M.1 dX24_init_0 0 rfl ?_
  refine j_objInit (pc := 1) M.1 q1263 dX24_init_1 (M.room (by decide)) rfl ?_
  refine j_aload_n (pc := 4) M.1 dX24_init_4 0 rfl ?_
  refine j_iload_n (pc := 5) M.1 dX24_init_5 1 rfl ?_
  obtain ⟨τ1, g1, hf⟩ := o_bind hf
  refine jx_putW (pc := 6) M q1264 xfw_X24_7 rfl rfl g1 dX24_init_6 ?_
  refine j_aload_n (pc := 9) M.1 dX24_init_9 0 rfl ?_
  refine j_iload_n (pc := 10) M.1 dX24_init_10 2 rfl ?_
  obtain ⟨τ2, g2, hf⟩ := o_bind hf
  refine jx_putW (pc := 11) M q1266 xfw_X24_13 rfl rfl g2 dX24_init_11 ?_
  refine j_aload_n (pc := 14) M.1 dX24_init_14 0 rfl ?_
  refine j_iload_n (pc := 15) M.1 dX24_init_15 3 rfl ?_
  obtain ⟨τ3, g3, hf⟩ := o_bind hf
  refine jx_putW (pc := 16) M q1268 xfw_X24_16 rfl rfl g3 dX24_init_16 ?_
  refine j_aload_n (pc := 19) M.1 dX24_init_19 0 rfl ?_
  refine j_iload (pc := 20) M.1 dX24_init_20 4 rfl ?_
  obtain ⟨τ4, g4, hf⟩ := o_bind hf
  refine jx_putW (pc := 22) M q1270 xfw_X24_19 rfl rfl g4 dX24_init_22 ?_
  exact jx_vretF (pc := 25) M dX24_init_25 hf hkn
end
theorem dX0_sign_0 : decode cX0_sign 0 = .ok (.iload_n 1, 1) := by decide +kernel
theorem dX0_sign_1 : decode cX0_sign 1 = .ok (.bipush 30, 2) := by decide +kernel
theorem dX0_sign_3 : decode cX0_sign 3 = .ok (.invokestatic 137, 3) := by decide +kernel
theorem dX0_sign_6 : decode cX0_sign 6 = .ok (.ifCond .eq 42, 3) := by decide +kernel
theorem dX0_sign_9 : decode cX0_sign 9 = .ok (.iload_n 2, 1) := by decide +kernel
theorem dX0_sign_10 : decode cX0_sign 10 = .ok (.bipush 8, 2) := by decide +kernel
theorem dX0_sign_12 : decode cX0_sign 12 = .ok (.invokestatic 137, 3) := by decide +kernel
theorem dX0_sign_15 : decode cX0_sign 15 = .ok (.ifCond .eq 33, 3) := by decide +kernel
theorem dX0_sign_18 : decode cX0_sign 18 = .ok (.aload_n 0, 1) := by decide +kernel
theorem dX0_sign_19 : decode cX0_sign 19 = .ok (.iload_n 3, 1) := by decide +kernel
theorem dX0_sign_20 : decode cX0_sign 20 = .ok (.invokevirtual 240, 3) := by decide +kernel
theorem dX0_sign_23 : decode cX0_sign 23 = .ok (.ifCond .eq 25, 3) := by decide +kernel
theorem dX0_sign_26 : decode cX0_sign 26 = .ok (.iload 4, 2) := by decide +kernel
theorem dX0_sign_28 : decode cX0_sign 28 = .ok (.iconst 0, 1) := by decide +kernel
theorem dX0_sign_29 : decode cX0_sign 29 = .ok (.aload_n 0, 1) := by decide +kernel
theorem dX0_sign_30 : decode cX0_sign 30 = .ok (.getfield 158, 3) := by decide +kernel
theorem dX0_sign_33 : decode cX0_sign 33 = .ok (.invokestatic 144, 3) := by decide +kernel
theorem dX0_sign_36 : decode cX0_sign 36 = .ok (.ifCond .eq 12, 3) := by decide +kernel
theorem dX0_sign_39 : decode cX0_sign 39 = .ok (.aload_n 0, 1) := by decide +kernel
theorem dX0_sign_40 : decode cX0_sign 40 = .ok (.getfield 473, 3) := by decide +kernel
theorem dX0_sign_43 : decode cX0_sign 43 = .ok (.bipush 100, 2) := by decide +kernel
theorem dX0_sign_45 : decode cX0_sign 45 = .ok (.if_icmp .ne 5, 3) := by decide +kernel
theorem dX0_sign_48 : decode cX0_sign 48 = .ok (.iconst 0, 1) := by decide +kernel
theorem dX0_sign_49 : decode cX0_sign 49 = .ok (.ireturn, 1) := by decide +kernel
theorem dX0_sign_50 : decode cX0_sign 50 = .ok (.aload_n 0, 1) := by decide +kernel
theorem dX0_sign_51 : decode cX0_sign 51 = .ok (.getfield 127, 3) := by decide +kernel
theorem dX0_sign_54 : decode cX0_sign 54 = .ok (.aload_n 0, 1) := by decide +kernel
theorem dX0_sign_55 : decode cX0_sign 55 = .ok (.getfield 473, 3) := by decide +kernel
theorem dX0_sign_58 : decode cX0_sign 58 = .ok (.new 125, 3) := by decide +kernel
theorem dX0_sign_61 : decode cX0_sign 61 = .ok (.dup, 1) := by decide +kernel
theorem dX0_sign_62 : decode cX0_sign 62 = .ok (.iload_n 1, 1) := by decide +kernel
theorem dX0_sign_63 : decode cX0_sign 63 = .ok (.iload_n 2, 1) := by decide +kernel
theorem dX0_sign_64 : decode cX0_sign 64 = .ok (.iload_n 3, 1) := by decide +kernel
theorem dX0_sign_65 : decode cX0_sign 65 = .ok (.iload 4, 2) := by decide +kernel
theorem dX0_sign_67 : decode cX0_sign 67 = .ok (.invokespecial 476, 3) := by decide +kernel
theorem dX0_sign_70 : decode cX0_sign 70 = .ok (.aastore, 1) := by decide +kernel
theorem dX0_sign_71 : decode cX0_sign 71 = .ok (.aload_n 0, 1) := by decide +kernel
theorem dX0_sign_72 : decode cX0_sign 72 = .ok (.dup, 1) := by decide +kernel
theorem dX0_sign_73 : decode cX0_sign 73 = .ok (.getfield 473, 3) := by decide +kernel
theorem dX0_sign_76 : decode cX0_sign 76 = .ok (.iconst 1, 1) := by decide +kernel
theorem dX0_sign_77 : decode cX0_sign 77 = .ok (.iadd, 1) := by decide +kernel
theorem dX0_sign_78 : decode cX0_sign 78 = .ok (.putfield 473, 3) := by decide +kernel
theorem dX0_sign_81 : decode cX0_sign 81 = .ok (.iconst 1, 1) := by decide +kernel
theorem dX0_sign_82 : decode cX0_sign 82 = .ok (.ireturn, 1) := by decide +kernel
section
variable {v : Int32}
noncomputable def x0_sign (F : Nat) (x1 : Int32) (x2 : Int32) (x3 : Int32) (x4 : Int32) (τ : XS) : XR Int32 :=
  (x0_in F x1 30).bind (fun r1 => if r1 = 0 then (some (0, τ, 0, 0)) else ((x0_in F x2 8).bind (fun r2 => if r2 = 0 then (some (0, τ, 0, 0)) else ((x0_isPlace F x3 τ).bind (fun r3 => tk r3.2.2.1 r3.2.2.2 (if r3.1 = 0 then (some (0, r3.2.1, 0, 0)) else ((x0_within F x4 0 (r3.2.1.1.1 2)).bind (fun r4 => if r4 = 0 then (some (0, r3.2.1, 0, 0)) else (if (r3.2.1.1.1 42) = 100 then (some (0, r3.2.1, 0, 0)) else (nx (xN r3.2.1 (.inr (24, fun q => defaultValue (tyX24 q)))) (fun τ1 => tk 1 4 ((x24_init F r3.2.1.2.2.2.2 x1 x2 x3 x4 τ1).bind (fun r5 => tk r5.2.2.1 r5.2.2.2 (if isC r5.2.1 r3.2.1.2.2.2.2 [24] = true then if okI (r3.2.1.1.1 42) 100 = true then nx (xR r5.2.1 33 (r3.2.1.1.1 42).toNatClampNeg (some r3.2.1.2.2.2.2)) (fun τ2 => nx (xS τ2 42 ((τ2.1.1 42) + 1)) (fun τ3 => some (1, τ3, 0, 0))) else none else none))))))))))))))
theorem met_x0_sign {l : Launch} {G : gG} {o B F : Nat} {x1 : Int32} {x2 : Int32} {x3 : Int32} {x4 : Int32} {τ : XS} {r : Int32 × XS × Nat × Nat} (hf : x0_sign F x1 x2 x3 x4 τ = some r) : MetX l G o B yX0_sign cX0_sign 5 (some .boolean) 3 [.ref o, .int x1, .int x2, .int x3, .int x4] τ (xQi G o B r.1 r.2.1) r.2.2.1 r.2.2.2 := by
  obtain ⟨v, τr, c, s⟩ := r
  refine metX_of (own := RX0) (mn := "sign") (by decide) rfl rfl rfl (fun γ hγ M => ?_)
  subst hγ
  show J γ (XW G o B τ) 0 0 0 [(0, .ref o), (1, .int x1), (2, .int x2), (3, .int x3), (4, .int x4)] []
  have hkn : 0 + c ≤ c ∧ 0 + s ≤ s := ⟨by omega, by omega⟩
  unfold x0_sign at hf
  refine j_iload_n (pc := 0) M.1 dX0_sign_0 1 rfl ?_
  refine j_bipush (pc := 1) M.1 dX0_sign_1 kc_bipush_30 ?_
  obtain ⟨r1, g1, hf⟩ := o_bind hf
  refine jx_calls (pc := 3) (As := [.int x1, .int 30]) (rest := []) M xcs_X0_137 (met_x0_in g1) rfl rfl rfl rfl dX0_sign_3 (kn_le0 hkn) ?_
  refine j_if_eq (pc := 6) M.1 48 dX0_sign_6 rfl (fun b1 => ?_) (fun b1 => ?_)
  · replace hf := o_pos b1 hf
    refine j_iconst (pc := 48) M.1 dX0_sign_48 kc_iconst_0 ?_
    exact jx_zretF (pc := 49) M dX0_sign_49 rfl hf hkn
  · replace hf := o_neg b1 hf
    refine j_iload_n (pc := 9) M.1 dX0_sign_9 2 rfl ?_
    refine j_bipush (pc := 10) M.1 dX0_sign_10 kc_bipush_8 ?_
    obtain ⟨r2, g2, hf⟩ := o_bind hf
    refine jx_calls (pc := 12) (As := [.int x2, .int 8]) (rest := []) M xcs_X0_137 (met_x0_in g2) rfl rfl rfl rfl dX0_sign_12 (kn_le0 hkn) ?_
    refine j_if_eq (pc := 15) M.1 48 dX0_sign_15 rfl (fun b2 => ?_) (fun b2 => ?_)
    · replace hf := o_pos b2 hf
      refine j_iconst (pc := 48) M.1 dX0_sign_48 kc_iconst_0 ?_
      exact jx_zretF (pc := 49) M dX0_sign_49 rfl hf hkn
    · replace hf := o_neg b2 hf
      refine j_aload_n (pc := 18) M.1 dX0_sign_18 0 rfl ?_
      refine j_iload_n (pc := 19) M.1 dX0_sign_19 3 rfl ?_
      obtain ⟨r3, g3, hf⟩ := o_bind hf
      obtain ⟨c1, s1, hf, hc1, hs1⟩ := o_tk hf
      replace hkn := kn_step hkn hc1 hs1
      refine jx_i M (x_runV (pc := 20) (As := [.int x3]) (rest := []) (V := xV o τ) M xcw_X0_240 (met_x0_isPlace g3) (fun H h => h.1 o _ xH_o) (by decide) rfl rfl rfl dX0_sign_20 (kn_le hkn)) ?_
      refine j_if_eq (pc := 23) M.1 48 dX0_sign_23 rfl (fun b3 => ?_) (fun b3 => ?_)
      · replace hf := o_pos b3 hf
        refine j_iconst (pc := 48) M.1 dX0_sign_48 kc_iconst_0 ?_
        exact jx_zretF (pc := 49) M dX0_sign_49 rfl hf hkn
      · replace hf := o_neg b3 hf
        refine j_iload (pc := 26) M.1 dX0_sign_26 4 rfl ?_
        refine j_iconst (pc := 28) M.1 dX0_sign_28 kc_iconst_0 ?_
        refine j_aload_n (pc := 29) M.1 dX0_sign_29 0 rfl ?_
        refine jx_getS (pc := 30) M xfs_158 dX0_sign_30 ?_
        obtain ⟨r4, g4, hf⟩ := o_bind hf
        refine jx_calls (pc := 33) (As := [.int x4, .int 0, .int (r3.2.1.1.1 2)]) (rest := []) M xcs_X0_144 (met_x0_within g4) rfl rfl rfl rfl dX0_sign_33 (kn_le0 hkn) ?_
        refine j_if_eq (pc := 36) M.1 48 dX0_sign_36 rfl (fun b4 => ?_) (fun b4 => ?_)
        · replace hf := o_pos b4 hf
          refine j_iconst (pc := 48) M.1 dX0_sign_48 kc_iconst_0 ?_
          exact jx_zretF (pc := 49) M dX0_sign_49 rfl hf hkn
        · replace hf := o_neg b4 hf
          refine j_aload_n (pc := 39) M.1 dX0_sign_39 0 rfl ?_
          refine jx_getS (pc := 40) M xfs_473 dX0_sign_40 ?_
          refine j_bipush (pc := 43) M.1 dX0_sign_43 kc_bipush_100 ?_
          refine j_icmp_ne (pc := 45) M.1 50 dX0_sign_45 rfl (fun b5 => ?_) (fun b5 => ?_)
          · replace hf := o_neg b5 hf
            refine j_aload_n (pc := 50) M.1 dX0_sign_50 0 rfl ?_
            refine jx_getA (pc := 51) M xfa_127 dX0_sign_51 ?_
            refine j_aload_n (pc := 54) M.1 dX0_sign_54 0 rfl ?_
            refine jx_getS (pc := 55) M xfs_473 dX0_sign_55 ?_
            obtain ⟨τ1, e1, hf⟩ := o_nx hf
            obtain ⟨c2, s2, hf, hc2, hs2⟩ := o_tk hf
            replace hkn := kn_step hkn hc2 hs2
            refine jx_new (pc := 58) M xnew_X0_125 dX0_sign_58 (kn_le hkn) e1 ?_
            refine j_dup (pc := 61) M.1 dX0_sign_61 rfl ?_
            refine j_iload_n (pc := 62) M.1 dX0_sign_62 1 rfl ?_
            refine j_iload_n (pc := 63) M.1 dX0_sign_63 2 rfl ?_
            refine j_iload_n (pc := 64) M.1 dX0_sign_64 3 rfl ?_
            refine j_iload (pc := 65) M.1 dX0_sign_65 4 rfl ?_
            obtain ⟨r5, g5, hf⟩ := o_bind hf
            obtain ⟨c3, s3, hf, hc3, hs3⟩ := o_tk hf
            replace hkn := kn_step hkn hc3 hs3
            refine jx_v (r := r5.1) M (x_runI (pc := 67) (As := [.int x1, .int x2, .int x3, .int x4]) (rest := [.ref r3.2.1.2.2.2.2, .int (r3.2.1.1.1 42), .ref (o + 1 + 33)]) M xci_X0_476 (met_x24_init g5) (by decide) rfl rfl rfl dX0_sign_67 (kn_le hkn)) ?_
            obtain ⟨b6, hf⟩ := o_need hf
            obtain ⟨b7, hf⟩ := o_need hf
            obtain ⟨τ2, e2, hf⟩ := o_nx hf
            refine jx_aast (pc := 70) M xax_33 (by decide) (by decide) xel_12 b6 b7 dX0_sign_70 e2 ?_
            refine j_aload_n (pc := 71) M.1 dX0_sign_71 0 rfl ?_
            refine j_dup (pc := 72) M.1 dX0_sign_72 rfl ?_
            refine jx_getS (pc := 73) M xfs_473 dX0_sign_73 ?_
            refine j_iconst (pc := 76) M.1 dX0_sign_76 kc_iconst_1 ?_
            refine j_iadd (pc := 77) M.1 dX0_sign_77 ?_
            obtain ⟨τ3, e3, hf⟩ := o_nx hf
            refine jx_putS (pc := 78) M xfs_473 dX0_sign_78 e3 ?_
            refine j_iconst (pc := 81) M.1 dX0_sign_81 kc_iconst_1 ?_
            exact jx_zretF (pc := 82) M dX0_sign_82 rfl hf hkn
          · replace hf := o_pos b5 hf
            refine j_iconst (pc := 48) M.1 dX0_sign_48 kc_iconst_0 ?_
            exact jx_zretF (pc := 49) M dX0_sign_49 rfl hf hkn
end
theorem dX0_who_0 : decode cX0_who 0 = .ok (.aload_n 0, 1) := by decide +kernel
theorem dX0_who_1 : decode cX0_who 1 = .ok (.iload_n 1, 1) := by decide +kernel
theorem dX0_who_2 : decode cX0_who 2 = .ok (.invokevirtual 240, 3) := by decide +kernel
theorem dX0_who_5 : decode cX0_who 5 = .ok (.ifCond .eq 11, 3) := by decide +kernel
theorem dX0_who_8 : decode cX0_who 8 = .ok (.iload_n 2, 1) := by decide +kernel
theorem dX0_who_9 : decode cX0_who 9 = .ok (.iconst 3, 1) := by decide +kernel
theorem dX0_who_10 : decode cX0_who 10 = .ok (.invokestatic 137, 3) := by decide +kernel
theorem dX0_who_13 : decode cX0_who 13 = .ok (.ifCond .ne 5, 3) := by decide +kernel
theorem dX0_who_16 : decode cX0_who 16 = .ok (.iconst (-1), 1) := by decide +kernel
theorem dX0_who_17 : decode cX0_who 17 = .ok (.ireturn, 1) := by decide +kernel
theorem dX0_who_18 : decode cX0_who 18 = .ok (.bipush 30, 2) := by decide +kernel
theorem dX0_who_20 : decode cX0_who 20 = .ok (.newarray .int, 2) := by decide +kernel
theorem dX0_who_22 : decode cX0_who 22 = .ok (.astore_n 3, 1) := by decide +kernel
theorem dX0_who_23 : decode cX0_who 23 = .ok (.bipush 30, 2) := by decide +kernel
theorem dX0_who_25 : decode cX0_who 25 = .ok (.newarray .int, 2) := by decide +kernel
theorem dX0_who_27 : decode cX0_who 27 = .ok (.astore 4, 2) := by decide +kernel
theorem dX0_who_29 : decode cX0_who 29 = .ok (.iconst 0, 1) := by decide +kernel
theorem dX0_who_30 : decode cX0_who 30 = .ok (.istore 5, 2) := by decide +kernel
theorem dX0_who_32 : decode cX0_who 32 = .ok (.iload 5, 2) := by decide +kernel
theorem dX0_who_34 : decode cX0_who 34 = .ok (.aload_n 0, 1) := by decide +kernel
theorem dX0_who_35 : decode cX0_who 35 = .ok (.getfield 473, 3) := by decide +kernel
theorem dX0_who_38 : decode cX0_who 38 = .ok (.if_icmp .ge 87, 3) := by decide +kernel
theorem dX0_who_41 : decode cX0_who 41 = .ok (.aload_n 0, 1) := by decide +kernel
theorem dX0_who_42 : decode cX0_who 42 = .ok (.getfield 127, 3) := by decide +kernel
theorem dX0_who_45 : decode cX0_who 45 = .ok (.iload 5, 2) := by decide +kernel
theorem dX0_who_47 : decode cX0_who 47 = .ok (.aaload, 1) := by decide +kernel
theorem dX0_who_48 : decode cX0_who 48 = .ok (.astore 6, 2) := by decide +kernel
theorem dX0_who_50 : decode cX0_who 50 = .ok (.aload 6, 2) := by decide +kernel
theorem dX0_who_52 : decode cX0_who 52 = .ok (.getfield 477, 3) := by decide +kernel
theorem dX0_who_55 : decode cX0_who 55 = .ok (.iload_n 1, 1) := by decide +kernel
theorem dX0_who_56 : decode cX0_who 56 = .ok (.if_icmp .eq 6, 3) := by decide +kernel
theorem dX0_who_59 : decode cX0_who 59 = .ok (.goto 60, 3) := by decide +kernel
theorem dX0_who_62 : decode cX0_who 62 = .ok (.aload_n 3, 1) := by decide +kernel
theorem dX0_who_63 : decode cX0_who 63 = .ok (.aload 6, 2) := by decide +kernel
theorem dX0_who_65 : decode cX0_who 65 = .ok (.getfield 478, 3) := by decide +kernel
theorem dX0_who_68 : decode cX0_who 68 = .ok (.dup2, 1) := by decide +kernel
theorem dX0_who_69 : decode cX0_who 69 = .ok (.iaload, 1) := by decide +kernel
theorem dX0_who_70 : decode cX0_who 70 = .ok (.iconst 1, 1) := by decide +kernel
theorem dX0_who_71 : decode cX0_who 71 = .ok (.iadd, 1) := by decide +kernel
theorem dX0_who_72 : decode cX0_who 72 = .ok (.iastore, 1) := by decide +kernel
theorem dX0_who_73 : decode cX0_who 73 = .ok (.aload 4, 2) := by decide +kernel
theorem dX0_who_75 : decode cX0_who 75 = .ok (.aload 6, 2) := by decide +kernel
theorem dX0_who_77 : decode cX0_who 77 = .ok (.getfield 478, 3) := by decide +kernel
theorem dX0_who_80 : decode cX0_who 80 = .ok (.dup2, 1) := by decide +kernel
theorem dX0_who_81 : decode cX0_who 81 = .ok (.iaload, 1) := by decide +kernel
theorem dX0_who_82 : decode cX0_who 82 = .ok (.aload_n 0, 1) := by decide +kernel
theorem dX0_who_83 : decode cX0_who 83 = .ok (.bipush 118, 2) := by decide +kernel
theorem dX0_who_85 : decode cX0_who 85 = .ok (.new 305, 3) := by decide +kernel
theorem dX0_who_88 : decode cX0_who 88 = .ok (.dup, 1) := by decide +kernel
theorem dX0_who_89 : decode cX0_who 89 = .ok (.aload 6, 2) := by decide +kernel
theorem dX0_who_91 : decode cX0_who 91 = .ok (.getfield 481, 3) := by decide +kernel
theorem dX0_who_94 : decode cX0_who 94 = .ok (.iconst 0, 1) := by decide +kernel
theorem dX0_who_95 : decode cX0_who 95 = .ok (.aload 6, 2) := by decide +kernel
theorem dX0_who_97 : decode cX0_who 97 = .ok (.getfield 482, 3) := by decide +kernel
theorem dX0_who_100 : decode cX0_who 100 = .ok (.iconst 0, 1) := by decide +kernel
theorem dX0_who_101 : decode cX0_who 101 = .ok (.aload_n 0, 1) := by decide +kernel
theorem dX0_who_102 : decode cX0_who 102 = .ok (.getfield 24, 3) := by decide +kernel
theorem dX0_who_105 : decode cX0_who 105 = .ok (.iload_n 1, 1) := by decide +kernel
theorem dX0_who_106 : decode cX0_who 106 = .ok (.aaload, 1) := by decide +kernel
theorem dX0_who_107 : decode cX0_who 107 = .ok (.getfield 316, 3) := by decide +kernel
theorem dX0_who_110 : decode cX0_who 110 = .ok (.invokespecial 319, 3) := by decide +kernel
theorem dX0_who_113 : decode cX0_who 113 = .ok (.iconst 0, 1) := by decide +kernel
theorem dX0_who_114 : decode cX0_who 114 = .ok (.invokevirtual 320, 3) := by decide +kernel
theorem dX0_who_117 : decode cX0_who 117 = .ok (.iadd, 1) := by decide +kernel
theorem dX0_who_118 : decode cX0_who 118 = .ok (.iastore, 1) := by decide +kernel
theorem dX0_who_119 : decode cX0_who 119 = .ok (.iinc 5 1, 3) := by decide +kernel
theorem dX0_who_122 : decode cX0_who 122 = .ok (.goto (-90), 3) := by decide +kernel
theorem dX0_who_125 : decode cX0_who 125 = .ok (.iconst (-1), 1) := by decide +kernel
theorem dX0_who_126 : decode cX0_who 126 = .ok (.istore 5, 2) := by decide +kernel
theorem dX0_who_128 : decode cX0_who 128 = .ok (.iconst 0, 1) := by decide +kernel
theorem dX0_who_129 : decode cX0_who 129 = .ok (.istore 6, 2) := by decide +kernel
theorem dX0_who_131 : decode cX0_who 131 = .ok (.iload 6, 2) := by decide +kernel
theorem dX0_who_133 : decode cX0_who 133 = .ok (.bipush 30, 2) := by decide +kernel
theorem dX0_who_135 : decode cX0_who 135 = .ok (.if_icmp .ge 48, 3) := by decide +kernel
theorem dX0_who_138 : decode cX0_who 138 = .ok (.aload_n 3, 1) := by decide +kernel
theorem dX0_who_139 : decode cX0_who 139 = .ok (.iload 6, 2) := by decide +kernel
theorem dX0_who_141 : decode cX0_who 141 = .ok (.iaload, 1) := by decide +kernel
theorem dX0_who_142 : decode cX0_who 142 = .ok (.iconst 1, 1) := by decide +kernel
theorem dX0_who_143 : decode cX0_who 143 = .ok (.if_icmp .le 34, 3) := by decide +kernel
theorem dX0_who_146 : decode cX0_who 146 = .ok (.aload 4, 2) := by decide +kernel
theorem dX0_who_148 : decode cX0_who 148 = .ok (.iload 6, 2) := by decide +kernel
theorem dX0_who_150 : decode cX0_who 150 = .ok (.iaload, 1) := by decide +kernel
theorem dX0_who_151 : decode cX0_who 151 = .ok (.ifCond .le 26, 3) := by decide +kernel
theorem dX0_who_154 : decode cX0_who 154 = .ok (.iload 5, 2) := by decide +kernel
theorem dX0_who_156 : decode cX0_who 156 = .ok (.iconst (-1), 1) := by decide +kernel
theorem dX0_who_157 : decode cX0_who 157 = .ok (.if_icmp .eq 16, 3) := by decide +kernel
theorem dX0_who_160 : decode cX0_who 160 = .ok (.aload 4, 2) := by decide +kernel
theorem dX0_who_162 : decode cX0_who 162 = .ok (.iload 6, 2) := by decide +kernel
theorem dX0_who_164 : decode cX0_who 164 = .ok (.iaload, 1) := by decide +kernel
theorem dX0_who_165 : decode cX0_who 165 = .ok (.aload 4, 2) := by decide +kernel
theorem dX0_who_167 : decode cX0_who 167 = .ok (.iload 5, 2) := by decide +kernel
theorem dX0_who_169 : decode cX0_who 169 = .ok (.iaload, 1) := by decide +kernel
theorem dX0_who_170 : decode cX0_who 170 = .ok (.if_icmp .le 7, 3) := by decide +kernel
theorem dX0_who_173 : decode cX0_who 173 = .ok (.iload 6, 2) := by decide +kernel
theorem dX0_who_175 : decode cX0_who 175 = .ok (.istore 5, 2) := by decide +kernel
theorem dX0_who_177 : decode cX0_who 177 = .ok (.iinc 6 1, 3) := by decide +kernel
theorem dX0_who_180 : decode cX0_who 180 = .ok (.goto (-49), 3) := by decide +kernel
theorem dX0_who_183 : decode cX0_who 183 = .ok (.iload 5, 2) := by decide +kernel
theorem dX0_who_185 : decode cX0_who 185 = .ok (.iconst (-1), 1) := by decide +kernel
theorem dX0_who_186 : decode cX0_who 186 = .ok (.if_icmp .ne 5, 3) := by decide +kernel
theorem dX0_who_189 : decode cX0_who 189 = .ok (.iconst (-1), 1) := by decide +kernel
theorem dX0_who_190 : decode cX0_who 190 = .ok (.ireturn, 1) := by decide +kernel
theorem dX0_who_191 : decode cX0_who 191 = .ok (.iconst 0, 1) := by decide +kernel
theorem dX0_who_192 : decode cX0_who 192 = .ok (.istore 6, 2) := by decide +kernel
theorem dX0_who_194 : decode cX0_who 194 = .ok (.iconst 0, 1) := by decide +kernel
theorem dX0_who_195 : decode cX0_who 195 = .ok (.istore 7, 2) := by decide +kernel
theorem dX0_who_197 : decode cX0_who 197 = .ok (.iload 7, 2) := by decide +kernel
theorem dX0_who_199 : decode cX0_who 199 = .ok (.bipush 30, 2) := by decide +kernel
theorem dX0_who_201 : decode cX0_who 201 = .ok (.if_icmp .ge 42, 3) := by decide +kernel
theorem dX0_who_204 : decode cX0_who 204 = .ok (.iload 6, 2) := by decide +kernel
theorem dX0_who_206 : decode cX0_who 206 = .ok (.aload_n 3, 1) := by decide +kernel
theorem dX0_who_207 : decode cX0_who 207 = .ok (.iload 7, 2) := by decide +kernel
theorem dX0_who_209 : decode cX0_who 209 = .ok (.iaload, 1) := by decide +kernel
theorem dX0_who_210 : decode cX0_who 210 = .ok (.iconst 1, 1) := by decide +kernel
theorem dX0_who_211 : decode cX0_who 211 = .ok (.if_icmp .le 22, 3) := by decide +kernel
theorem dX0_who_214 : decode cX0_who 214 = .ok (.iconst 2, 1) := by decide +kernel
theorem dX0_who_215 : decode cX0_who 215 = .ok (.aload 4, 2) := by decide +kernel
theorem dX0_who_217 : decode cX0_who 217 = .ok (.iload 7, 2) := by decide +kernel
theorem dX0_who_219 : decode cX0_who 219 = .ok (.iaload, 1) := by decide +kernel
theorem dX0_who_220 : decode cX0_who 220 = .ok (.imul, 1) := by decide +kernel
theorem dX0_who_221 : decode cX0_who 221 = .ok (.aload 4, 2) := by decide +kernel
theorem dX0_who_223 : decode cX0_who 223 = .ok (.iload 5, 2) := by decide +kernel
theorem dX0_who_225 : decode cX0_who 225 = .ok (.iaload, 1) := by decide +kernel
theorem dX0_who_226 : decode cX0_who 226 = .ok (.if_icmp .lt 7, 3) := by decide +kernel
theorem dX0_who_229 : decode cX0_who 229 = .ok (.iconst 1, 1) := by decide +kernel
theorem dX0_who_230 : decode cX0_who 230 = .ok (.goto 4, 3) := by decide +kernel
theorem dX0_who_233 : decode cX0_who 233 = .ok (.iconst 0, 1) := by decide +kernel
theorem dX0_who_234 : decode cX0_who 234 = .ok (.iadd, 1) := by decide +kernel
theorem dX0_who_235 : decode cX0_who 235 = .ok (.istore 6, 2) := by decide +kernel
theorem dX0_who_237 : decode cX0_who 237 = .ok (.iinc 7 1, 3) := by decide +kernel
theorem dX0_who_240 : decode cX0_who 240 = .ok (.goto (-43), 3) := by decide +kernel
theorem dX0_who_243 : decode cX0_who 243 = .ok (.iload_n 2, 1) := by decide +kernel
theorem dX0_who_244 : decode cX0_who 244 = .ok (.ifCond .ne 8, 3) := by decide +kernel
theorem dX0_who_247 : decode cX0_who 247 = .ok (.iload 5, 2) := by decide +kernel
theorem dX0_who_249 : decode cX0_who 249 = .ok (.goto 18, 3) := by decide +kernel
theorem dX0_who_252 : decode cX0_who 252 = .ok (.iload_n 2, 1) := by decide +kernel
theorem dX0_who_253 : decode cX0_who 253 = .ok (.iconst 1, 1) := by decide +kernel
theorem dX0_who_254 : decode cX0_who 254 = .ok (.if_icmp .ne 11, 3) := by decide +kernel
theorem dX0_who_257 : decode cX0_who 257 = .ok (.aload 4, 2) := by decide +kernel
theorem dX0_who_259 : decode cX0_who 259 = .ok (.iload 5, 2) := by decide +kernel
theorem dX0_who_261 : decode cX0_who 261 = .ok (.iaload, 1) := by decide +kernel
theorem dX0_who_262 : decode cX0_who 262 = .ok (.goto 5, 3) := by decide +kernel
theorem dX0_who_265 : decode cX0_who 265 = .ok (.iload 6, 2) := by decide +kernel
theorem dX0_who_267 : decode cX0_who 267 = .ok (.ireturn, 1) := by decide +kernel
section
variable {v : Int32}
noncomputable def x0_who_B32 (F : Nat) (K125 : Int32 × XS → XR Int32) (x1 : Int32) (x2 : Int32) (x3 : Nat) (x4 : Nat) (R : Int32 × XS → XR Int32) (a : Int32 × XS) : XR Int32 :=
  if (a.2.1.1 42) ≤ a.1 then (K125 (a.1, a.2)) else (if okI a.1 100 = true then (a.2.2.1 33 a.1.toNatClampNeg).bind (fun n1 => (gI a.2 n1 [24] 2).bind (fun v1 => if v1 = x1 then ((gI a.2 n1 [24] 0).bind (fun v2 => (gA a.2 x3 0).bind (fun A1 => if okI v2 A1.1 = true then (gA a.2 x3 0).bind (fun A2 => if okI v2 A2.1 = true then nx (xP a.2 x3 (.inl (0, A2.1, .inl (upd A2.2 v2.toNatClampNeg ((A1.2 v2.toNatClampNeg) + 1))))) (fun τ1 => (gI τ1 n1 [24] 0).bind (fun v3 => (gA τ1 x4 0).bind (fun A3 => if okI v3 A3.1 = true then nx (xN τ1 (.inr (19, fun q => defaultValue (tyX19 q)))) (fun τ2 => tk 1 6 ((gI τ2 n1 [24] 3).bind (fun v4 => (gI τ2 n1 [24] 1).bind (fun v5 => if okI x1 30 = true then (τ2.2.1 0 x1.toNatClampNeg).bind (fun n2 => (gI τ2 n2 [3] 1).bind (fun v6 => (x19_init F τ1.2.2.2.2 v4 0 v5 0 v6 τ2).bind (fun r1 => tk r1.2.2.1 r1.2.2.2 ((x0_numberOf F 118 τ1.2.2.2.2 0 r1.2.1).bind (fun r2 => tk r2.2.2.1 r2.2.2.2 ((gA r2.2.1 x4 0).bind (fun A4 => if okI v3 A4.1 = true then nx (xP r2.2.1 x4 (.inl (0, A4.1, .inl (upd A4.2 v3.toNatClampNeg ((A3.2 v3.toNatClampNeg) + r2.1))))) (fun τ3 => R (a.1 + 1, τ3)) else none))))))) else none)))) else none))) else none) else none))) else (R (a.1 + 1, a.2)))) else none)
theorem kx0_who_B32 (M : XC γ cX0_who 8 RX0 "who" G o B 46 (some .int) (xQi G o B v τr) c0 s0) (x1 : Int32) (x2 : Int32) (x3 : Nat) (x4 : Nat) (K125 : Int32 × XS → XR Int32) (hK125 : ∀ a c s, K125 a = some (v, τr, c, s) → ∀ k n, k + c ≤ c0 ∧ n + s ≤ s0 → J γ (XW G o B a.2) k n 125 [(2, .int x2), (3, .ref x3), (4, .ref x4)] []) : ∀ R : Int32 × XS → XR Int32, (∀ a c s, R a = some (v, τr, c, s) → ∀ k n, k + c ≤ c0 ∧ n + s ≤ s0 → J γ (XW G o B a.2) k n 32 [(0, .ref o), (1, .int x1), (2, .int x2), (3, .ref x3), (4, .ref x4), (5, .int a.1)] []) → ∀ a c s, x0_who_B32 F K125 x1 x2 x3 x4 R a = some (v, τr, c, s) → ∀ k n, k + c ≤ c0 ∧ n + s ≤ s0 → J γ (XW G o B a.2) k n 32 [(0, .ref o), (1, .int x1), (2, .int x2), (3, .ref x3), (4, .ref x4), (5, .int a.1)] [] := by
  intro R hR a c s hf k n hkn
  unfold x0_who_B32 at hf
  refine j_iload (pc := 32) M.1 dX0_who_32 5 rfl ?_
  refine j_aload_n (pc := 34) M.1 dX0_who_34 0 rfl ?_
  refine jx_getS (pc := 35) M xfs_473 dX0_who_35 ?_
  refine j_icmp_ge (pc := 38) M.1 125 dX0_who_38 rfl (fun b1 => ?_) (fun b1 => ?_)
  · replace hf := o_pos b1 hf
    refine j_sub [2, 3, 4] (show lv_pick _ _ = [(2, .int x2), (3, .ref x3), (4, .ref x4)] from rfl) ?_
    have hy := hK125 _ _ _ hf _ _ hkn
    exact hy
  · replace hf := o_neg b1 hf
    refine j_aload_n (pc := 41) M.1 dX0_who_41 0 rfl ?_
    refine jx_getA (pc := 42) M xfa_127 dX0_who_42 ?_
    refine j_iload (pc := 45) M.1 dX0_who_45 5 rfl ?_
    obtain ⟨b2, hf⟩ := o_need hf
    obtain ⟨n1, g1, hf⟩ := o_bind hf
    refine jx_aald (pc := 47) M xax_33 (by decide) xrt_12 b2 g1 dX0_who_47 ?_
    refine j_astore (pc := 48) M.1 [(6, .ref n1), (0, .ref o), (1, .int x1), (2, .int x2), (3, .ref x3), (4, .ref x4), (5, .int a.1)] dX0_who_48 rfl rfl ?_
    refine j_aload (pc := 50) M.1 dX0_who_50 0 rfl ?_
    obtain ⟨v1, g2, hf⟩ := o_bind hf
    refine jx_getI (pc := 52) M xfl_X0_477 g2 dX0_who_52 ?_
    refine j_iload_n (pc := 55) M.1 dX0_who_55 2 rfl ?_
    refine j_icmp_eq (pc := 56) M.1 62 dX0_who_56 rfl (fun b3 => ?_) (fun b3 => ?_)
    · replace hf := o_pos b3 hf
      refine j_aload_n (pc := 62) M.1 dX0_who_62 4 rfl ?_
      refine j_aload (pc := 63) M.1 dX0_who_63 0 rfl ?_
      obtain ⟨v2, g3, hf⟩ := o_bind hf
      refine jx_getI (pc := 65) M xfl_X0_478 g3 dX0_who_65 ?_
      refine j_dup2 (pc := 68) M.1 dX0_who_68 rfl rfl ?_
      obtain ⟨A1, g4, hf⟩ := o_bind hf
      obtain ⟨b4, hf⟩ := o_need hf
      refine jx_pald0 (pc := 69) M g4 b4 dX0_who_69 ?_
      refine j_iconst (pc := 70) M.1 dX0_who_70 kc_iconst_1 ?_
      refine j_iadd (pc := 71) M.1 dX0_who_71 ?_
      obtain ⟨A2, g5, hf⟩ := o_bind hf
      obtain ⟨b5, hf⟩ := o_need hf
      obtain ⟨τ1, e1, hf⟩ := o_nx hf
      refine jx_past0 (pc := 72) M g5 b5 dX0_who_72 e1 ?_
      refine j_aload (pc := 73) M.1 dX0_who_73 5 rfl ?_
      refine j_aload (pc := 75) M.1 dX0_who_75 0 rfl ?_
      obtain ⟨v3, g6, hf⟩ := o_bind hf
      refine jx_getI (pc := 77) M xfl_X0_478 g6 dX0_who_77 ?_
      refine j_dup2 (pc := 80) M.1 dX0_who_80 rfl rfl ?_
      obtain ⟨A3, g7, hf⟩ := o_bind hf
      obtain ⟨b6, hf⟩ := o_need hf
      refine jx_pald0 (pc := 81) M g7 b6 dX0_who_81 ?_
      refine j_aload_n (pc := 82) M.1 dX0_who_82 1 rfl ?_
      refine j_bipush (pc := 83) M.1 dX0_who_83 kc_bipush_118 ?_
      obtain ⟨τ2, e2, hf⟩ := o_nx hf
      obtain ⟨c1, s1, hf, hc1, hs1⟩ := o_tk hf
      replace hkn := kn_step hkn hc1 hs1
      refine jx_new (pc := 85) M xnew_X0_305 dX0_who_85 (kn_le hkn) e2 ?_
      refine j_dup (pc := 88) M.1 dX0_who_88 rfl ?_
      refine j_aload (pc := 89) M.1 dX0_who_89 0 rfl ?_
      obtain ⟨v4, g8, hf⟩ := o_bind hf
      refine jx_getI (pc := 91) M xfl_X0_481 g8 dX0_who_91 ?_
      refine j_iconst (pc := 94) M.1 dX0_who_94 kc_iconst_0 ?_
      refine j_aload (pc := 95) M.1 dX0_who_95 0 rfl ?_
      obtain ⟨v5, g9, hf⟩ := o_bind hf
      refine jx_getI (pc := 97) M xfl_X0_482 g9 dX0_who_97 ?_
      refine j_iconst (pc := 100) M.1 dX0_who_100 kc_iconst_0 ?_
      refine j_aload_n (pc := 101) M.1 dX0_who_101 1 rfl ?_
      refine jx_getA (pc := 102) M xfa_24 dX0_who_102 ?_
      refine j_iload_n (pc := 105) M.1 dX0_who_105 2 rfl ?_
      obtain ⟨b7, hf⟩ := o_need hf
      obtain ⟨n2, g10, hf⟩ := o_bind hf
      refine jx_aald (pc := 106) M xax_0 (by decide) xrt_3 b7 g10 dX0_who_106 ?_
      obtain ⟨v6, g11, hf⟩ := o_bind hf
      refine jx_getI (pc := 107) M xfl_X0_316 g11 dX0_who_107 ?_
      obtain ⟨r1, g12, hf⟩ := o_bind hf
      obtain ⟨c2, s2, hf, hc2, hs2⟩ := o_tk hf
      replace hkn := kn_step hkn hc2 hs2
      refine jx_v (r := r1.1) M (x_runI (pc := 110) (As := [.int v4, .int 0, .int v5, .int 0, .int v6]) (rest := [.ref τ1.2.2.2.2, .int 118, .ref o, .int (A3.2 v3.toNatClampNeg), .int v3, .ref x4]) M xci_X0_319 (met_x19_init g12) (by decide) rfl rfl rfl dX0_who_110 (kn_le hkn)) ?_
      refine j_iconst (pc := 113) M.1 dX0_who_113 kc_iconst_0 ?_
      obtain ⟨r2, g13, hf⟩ := o_bind hf
      obtain ⟨c3, s3, hf, hc3, hs3⟩ := o_tk hf
      replace hkn := kn_step hkn hc3 hs3
      refine jx_i M (x_runV (pc := 114) (As := [.int 118, .ref τ1.2.2.2.2, .int 0]) (rest := [.int (A3.2 v3.toNatClampNeg), .int v3, .ref x4]) (V := xV o r1.2.1) M xcw_X0_320 (met_x0_numberOf g13) (fun H h => h.1 o _ xH_o) (by decide) rfl rfl rfl dX0_who_114 (kn_le hkn)) ?_
      refine j_iadd (pc := 117) M.1 dX0_who_117 ?_
      obtain ⟨A4, g14, hf⟩ := o_bind hf
      obtain ⟨b8, hf⟩ := o_need hf
      obtain ⟨τ3, e3, hf⟩ := o_nx hf
      refine jx_past0 (pc := 118) M g14 b8 dX0_who_118 e3 ?_
      refine j_iinc (pc := 119) M.1 [(5, .int (a.1 + 1)), (6, .ref n1), (0, .ref o), (1, .int x1), (2, .int x2), (3, .ref x3), (4, .ref x4)] dX0_who_119 6 rfl (congrArg _ kc_iconst_1) rfl rfl ?_
      refine j_goto (pc := 122) M.1 32 dX0_who_122 rfl ?_
      refine j_sub [2, 3, 4, 5, 6, 0] (show lv_pick _ _ = [(0, .ref o), (1, .int x1), (2, .int x2), (3, .ref x3), (4, .ref x4), (5, .int (a.1 + 1))] from rfl) ?_
      have hy := hR _ _ _ hf _ _ hkn
      exact hy
    · replace hf := o_neg b3 hf
      refine j_goto (pc := 59) M.1 119 dX0_who_59 rfl ?_
      refine j_iinc (pc := 119) M.1 [(5, .int (a.1 + 1)), (6, .ref n1), (0, .ref o), (1, .int x1), (2, .int x2), (3, .ref x3), (4, .ref x4)] dX0_who_119 6 rfl (congrArg _ kc_iconst_1) rfl rfl ?_
      refine j_goto (pc := 122) M.1 32 dX0_who_122 rfl ?_
      refine j_sub [2, 3, 4, 5, 6, 0] (show lv_pick _ _ = [(0, .ref o), (1, .int x1), (2, .int x2), (3, .ref x3), (4, .ref x4), (5, .int (a.1 + 1))] from rfl) ?_
      have hy := hR _ _ _ hf _ _ hkn
      exact hy
noncomputable def x0_who_B131 (F : Nat) (K183 : Int32 × Int32 × XS → XR Int32) (x2 : Int32) (x3 : Nat) (x4 : Nat) (R : Int32 × Int32 × XS → XR Int32) (a : Int32 × Int32 × XS) : XR Int32 :=
  if 30 ≤ a.2.1 then (K183 (a.1, a.2.1, a.2.2)) else ((gA a.2.2 x3 0).bind (fun A1 => if okI a.2.1 A1.1 = true then if (A1.2 a.2.1.toNatClampNeg) ≤ 1 then (R (a.1, a.2.1 + 1, a.2.2)) else ((gA a.2.2 x4 0).bind (fun A2 => if okI a.2.1 A2.1 = true then if (A2.2 a.2.1.toNatClampNeg) ≤ 0 then (R (a.1, a.2.1 + 1, a.2.2)) else (if a.1 = ((-1)) then (R (a.2.1, a.2.1 + 1, a.2.2)) else ((gA a.2.2 x4 0).bind (fun A3 => if okI a.2.1 A3.1 = true then (gA a.2.2 x4 0).bind (fun A4 => if okI a.1 A4.1 = true then if (A3.2 a.2.1.toNatClampNeg) ≤ (A4.2 a.1.toNatClampNeg) then (R (a.1, a.2.1 + 1, a.2.2)) else (R (a.2.1, a.2.1 + 1, a.2.2)) else none) else none))) else none)) else none))
theorem kx0_who_B131 (M : XC γ cX0_who 8 RX0 "who" G o B 46 (some .int) (xQi G o B v τr) c0 s0) (x2 : Int32) (x3 : Nat) (x4 : Nat) (K183 : Int32 × Int32 × XS → XR Int32) (hK183 : ∀ a c s, K183 a = some (v, τr, c, s) → ∀ k n, k + c ≤ c0 ∧ n + s ≤ s0 → J γ (XW G o B a.2.2) k n 183 [(2, .int x2), (3, .ref x3), (4, .ref x4), (5, .int a.1)] []) : ∀ R : Int32 × Int32 × XS → XR Int32, (∀ a c s, R a = some (v, τr, c, s) → ∀ k n, k + c ≤ c0 ∧ n + s ≤ s0 → J γ (XW G o B a.2.2) k n 131 [(2, .int x2), (3, .ref x3), (4, .ref x4), (5, .int a.1), (6, .int a.2.1)] []) → ∀ a c s, x0_who_B131 F K183 x2 x3 x4 R a = some (v, τr, c, s) → ∀ k n, k + c ≤ c0 ∧ n + s ≤ s0 → J γ (XW G o B a.2.2) k n 131 [(2, .int x2), (3, .ref x3), (4, .ref x4), (5, .int a.1), (6, .int a.2.1)] [] := by
  intro R hR a c s hf k n hkn
  unfold x0_who_B131 at hf
  refine j_iload (pc := 131) M.1 dX0_who_131 4 rfl ?_
  refine j_bipush (pc := 133) M.1 dX0_who_133 kc_bipush_30 ?_
  refine j_icmp_ge (pc := 135) M.1 183 dX0_who_135 rfl (fun b1 => ?_) (fun b1 => ?_)
  · replace hf := o_pos b1 hf
    refine j_sub [0, 1, 2, 3] (show lv_pick _ _ = [(2, .int x2), (3, .ref x3), (4, .ref x4), (5, .int a.1)] from rfl) ?_
    have hy := hK183 _ _ _ hf _ _ hkn
    exact hy
  · replace hf := o_neg b1 hf
    refine j_aload_n (pc := 138) M.1 dX0_who_138 1 rfl ?_
    refine j_iload (pc := 139) M.1 dX0_who_139 4 rfl ?_
    obtain ⟨A1, g1, hf⟩ := o_bind hf
    obtain ⟨b2, hf⟩ := o_need hf
    refine jx_pald0 (pc := 141) M g1 b2 dX0_who_141 ?_
    refine j_iconst (pc := 142) M.1 dX0_who_142 kc_iconst_1 ?_
    refine j_icmp_le (pc := 143) M.1 177 dX0_who_143 rfl (fun b3 => ?_) (fun b3 => ?_)
    · replace hf := o_pos b3 hf
      refine j_iinc (pc := 177) M.1 [(6, .int (a.2.1 + 1)), (2, .int x2), (3, .ref x3), (4, .ref x4), (5, .int a.1)] dX0_who_177 4 rfl (congrArg _ kc_iconst_1) rfl rfl ?_
      refine j_goto (pc := 180) M.1 131 dX0_who_180 rfl ?_
      refine j_sub [1, 2, 3, 4, 0] (show lv_pick _ _ = [(2, .int x2), (3, .ref x3), (4, .ref x4), (5, .int a.1), (6, .int (a.2.1 + 1))] from rfl) ?_
      have hy := hR _ _ _ hf _ _ hkn
      exact hy
    · replace hf := o_neg b3 hf
      refine j_aload (pc := 146) M.1 dX0_who_146 2 rfl ?_
      refine j_iload (pc := 148) M.1 dX0_who_148 4 rfl ?_
      obtain ⟨A2, g2, hf⟩ := o_bind hf
      obtain ⟨b4, hf⟩ := o_need hf
      refine jx_pald0 (pc := 150) M g2 b4 dX0_who_150 ?_
      refine j_if_le (pc := 151) M.1 177 dX0_who_151 rfl (fun b5 => ?_) (fun b5 => ?_)
      · replace hf := o_pos b5 hf
        refine j_iinc (pc := 177) M.1 [(6, .int (a.2.1 + 1)), (2, .int x2), (3, .ref x3), (4, .ref x4), (5, .int a.1)] dX0_who_177 4 rfl (congrArg _ kc_iconst_1) rfl rfl ?_
        refine j_goto (pc := 180) M.1 131 dX0_who_180 rfl ?_
        refine j_sub [1, 2, 3, 4, 0] (show lv_pick _ _ = [(2, .int x2), (3, .ref x3), (4, .ref x4), (5, .int a.1), (6, .int (a.2.1 + 1))] from rfl) ?_
        have hy := hR _ _ _ hf _ _ hkn
        exact hy
      · replace hf := o_neg b5 hf
        refine j_iload (pc := 154) M.1 dX0_who_154 3 rfl ?_
        refine j_iconst (pc := 156) M.1 dX0_who_156 kc_iconst_m1 ?_
        refine j_icmp_eq (pc := 157) M.1 173 dX0_who_157 rfl (fun b6 => ?_) (fun b6 => ?_)
        · replace hf := o_pos b6 hf
          refine j_iload (pc := 173) M.1 dX0_who_173 4 rfl ?_
          refine j_istore (pc := 175) M.1 [(5, .int a.2.1), (2, .int x2), (3, .ref x3), (4, .ref x4), (6, .int a.2.1)] dX0_who_175 rfl rfl ?_
          refine j_iinc (pc := 177) M.1 [(6, .int (a.2.1 + 1)), (5, .int a.2.1), (2, .int x2), (3, .ref x3), (4, .ref x4)] dX0_who_177 4 rfl (congrArg _ kc_iconst_1) rfl rfl ?_
          refine j_goto (pc := 180) M.1 131 dX0_who_180 rfl ?_
          refine j_sub [2, 3, 4, 1, 0] (show lv_pick _ _ = [(2, .int x2), (3, .ref x3), (4, .ref x4), (5, .int a.2.1), (6, .int (a.2.1 + 1))] from rfl) ?_
          have hy := hR _ _ _ hf _ _ hkn
          exact hy
        · replace hf := o_neg b6 hf
          refine j_aload (pc := 160) M.1 dX0_who_160 2 rfl ?_
          refine j_iload (pc := 162) M.1 dX0_who_162 4 rfl ?_
          obtain ⟨A3, g3, hf⟩ := o_bind hf
          obtain ⟨b7, hf⟩ := o_need hf
          refine jx_pald0 (pc := 164) M g3 b7 dX0_who_164 ?_
          refine j_aload (pc := 165) M.1 dX0_who_165 2 rfl ?_
          refine j_iload (pc := 167) M.1 dX0_who_167 3 rfl ?_
          obtain ⟨A4, g4, hf⟩ := o_bind hf
          obtain ⟨b8, hf⟩ := o_need hf
          refine jx_pald0 (pc := 169) M g4 b8 dX0_who_169 ?_
          refine j_icmp_le (pc := 170) M.1 177 dX0_who_170 rfl (fun b9 => ?_) (fun b9 => ?_)
          · replace hf := o_pos b9 hf
            refine j_iinc (pc := 177) M.1 [(6, .int (a.2.1 + 1)), (2, .int x2), (3, .ref x3), (4, .ref x4), (5, .int a.1)] dX0_who_177 4 rfl (congrArg _ kc_iconst_1) rfl rfl ?_
            refine j_goto (pc := 180) M.1 131 dX0_who_180 rfl ?_
            refine j_sub [1, 2, 3, 4, 0] (show lv_pick _ _ = [(2, .int x2), (3, .ref x3), (4, .ref x4), (5, .int a.1), (6, .int (a.2.1 + 1))] from rfl) ?_
            have hy := hR _ _ _ hf _ _ hkn
            exact hy
          · replace hf := o_neg b9 hf
            refine j_iload (pc := 173) M.1 dX0_who_173 4 rfl ?_
            refine j_istore (pc := 175) M.1 [(5, .int a.2.1), (2, .int x2), (3, .ref x3), (4, .ref x4), (6, .int a.2.1)] dX0_who_175 rfl rfl ?_
            refine j_iinc (pc := 177) M.1 [(6, .int (a.2.1 + 1)), (5, .int a.2.1), (2, .int x2), (3, .ref x3), (4, .ref x4)] dX0_who_177 4 rfl (congrArg _ kc_iconst_1) rfl rfl ?_
            refine j_goto (pc := 180) M.1 131 dX0_who_180 rfl ?_
            refine j_sub [2, 3, 4, 1, 0] (show lv_pick _ _ = [(2, .int x2), (3, .ref x3), (4, .ref x4), (5, .int a.2.1), (6, .int (a.2.1 + 1))] from rfl) ?_
            have hy := hR _ _ _ hf _ _ hkn
            exact hy
noncomputable def x0_who_B197 (F : Nat) (K243 : Int32 × Int32 × XS → XR Int32) (x2 : Int32) (x3 : Nat) (x4 : Nat) (x5 : Int32) (R : Int32 × Int32 × XS → XR Int32) (a : Int32 × Int32 × XS) : XR Int32 :=
  if 30 ≤ a.2.1 then (K243 (a.1, a.2.1, a.2.2)) else ((gA a.2.2 x3 0).bind (fun A1 => if okI a.2.1 A1.1 = true then if (A1.2 a.2.1.toNatClampNeg) ≤ 1 then (R (a.1 + 0, a.2.1 + 1, a.2.2)) else ((gA a.2.2 x4 0).bind (fun A2 => if okI a.2.1 A2.1 = true then (gA a.2.2 x4 0).bind (fun A3 => if okI x5 A3.1 = true then if (2 * (A2.2 a.2.1.toNatClampNeg)) < (A3.2 x5.toNatClampNeg) then (R (a.1 + 0, a.2.1 + 1, a.2.2)) else (R (a.1 + 1, a.2.1 + 1, a.2.2)) else none) else none)) else none))
theorem kx0_who_B197 (M : XC γ cX0_who 8 RX0 "who" G o B 46 (some .int) (xQi G o B v τr) c0 s0) (x2 : Int32) (x3 : Nat) (x4 : Nat) (x5 : Int32) (K243 : Int32 × Int32 × XS → XR Int32) (hK243 : ∀ a c s, K243 a = some (v, τr, c, s) → ∀ k n, k + c ≤ c0 ∧ n + s ≤ s0 → J γ (XW G o B a.2.2) k n 243 [(2, .int x2), (4, .ref x4), (5, .int x5), (6, .int a.1)] []) : ∀ R : Int32 × Int32 × XS → XR Int32, (∀ a c s, R a = some (v, τr, c, s) → ∀ k n, k + c ≤ c0 ∧ n + s ≤ s0 → J γ (XW G o B a.2.2) k n 197 [(2, .int x2), (3, .ref x3), (4, .ref x4), (5, .int x5), (6, .int a.1), (7, .int a.2.1)] []) → ∀ a c s, x0_who_B197 F K243 x2 x3 x4 x5 R a = some (v, τr, c, s) → ∀ k n, k + c ≤ c0 ∧ n + s ≤ s0 → J γ (XW G o B a.2.2) k n 197 [(2, .int x2), (3, .ref x3), (4, .ref x4), (5, .int x5), (6, .int a.1), (7, .int a.2.1)] [] := by
  intro R hR a c s hf k n hkn
  unfold x0_who_B197 at hf
  refine j_iload (pc := 197) M.1 dX0_who_197 5 rfl ?_
  refine j_bipush (pc := 199) M.1 dX0_who_199 kc_bipush_30 ?_
  refine j_icmp_ge (pc := 201) M.1 243 dX0_who_201 rfl (fun b1 => ?_) (fun b1 => ?_)
  · replace hf := o_pos b1 hf
    refine j_sub [0, 2, 3, 4] (show lv_pick _ _ = [(2, .int x2), (4, .ref x4), (5, .int x5), (6, .int a.1)] from rfl) ?_
    have hy := hK243 _ _ _ hf _ _ hkn
    exact hy
  · replace hf := o_neg b1 hf
    refine j_iload (pc := 204) M.1 dX0_who_204 4 rfl ?_
    refine j_aload_n (pc := 206) M.1 dX0_who_206 1 rfl ?_
    refine j_iload (pc := 207) M.1 dX0_who_207 5 rfl ?_
    obtain ⟨A1, g1, hf⟩ := o_bind hf
    obtain ⟨b2, hf⟩ := o_need hf
    refine jx_pald0 (pc := 209) M g1 b2 dX0_who_209 ?_
    refine j_iconst (pc := 210) M.1 dX0_who_210 kc_iconst_1 ?_
    refine j_icmp_le (pc := 211) M.1 233 dX0_who_211 rfl (fun b3 => ?_) (fun b3 => ?_)
    · replace hf := o_pos b3 hf
      refine j_iconst (pc := 233) M.1 dX0_who_233 kc_iconst_0 ?_
      refine j_iadd (pc := 234) M.1 dX0_who_234 ?_
      refine j_istore (pc := 235) M.1 [(6, .int (a.1 + 0)), (2, .int x2), (3, .ref x3), (4, .ref x4), (5, .int x5), (7, .int a.2.1)] dX0_who_235 rfl rfl ?_
      refine j_iinc (pc := 237) M.1 [(7, .int (a.2.1 + 1)), (6, .int (a.1 + 0)), (2, .int x2), (3, .ref x3), (4, .ref x4), (5, .int x5)] dX0_who_237 5 rfl (congrArg _ kc_iconst_1) rfl rfl ?_
      refine j_goto (pc := 240) M.1 197 dX0_who_240 rfl ?_
      refine j_sub [2, 3, 4, 5, 1, 0] (show lv_pick _ _ = [(2, .int x2), (3, .ref x3), (4, .ref x4), (5, .int x5), (6, .int (a.1 + 0)), (7, .int (a.2.1 + 1))] from rfl) ?_
      have hy := hR _ _ _ hf _ _ hkn
      exact hy
    · replace hf := o_neg b3 hf
      refine j_iconst (pc := 214) M.1 dX0_who_214 kc_iconst_2 ?_
      refine j_aload (pc := 215) M.1 dX0_who_215 2 rfl ?_
      refine j_iload (pc := 217) M.1 dX0_who_217 5 rfl ?_
      obtain ⟨A2, g2, hf⟩ := o_bind hf
      obtain ⟨b4, hf⟩ := o_need hf
      refine jx_pald0 (pc := 219) M g2 b4 dX0_who_219 ?_
      refine j_imul (pc := 220) M.1 dX0_who_220 ?_
      refine j_aload (pc := 221) M.1 dX0_who_221 2 rfl ?_
      refine j_iload (pc := 223) M.1 dX0_who_223 3 rfl ?_
      obtain ⟨A3, g3, hf⟩ := o_bind hf
      obtain ⟨b5, hf⟩ := o_need hf
      refine jx_pald0 (pc := 225) M g3 b5 dX0_who_225 ?_
      refine j_icmp_lt (pc := 226) M.1 233 dX0_who_226 rfl (fun b6 => ?_) (fun b6 => ?_)
      · replace hf := o_pos b6 hf
        refine j_iconst (pc := 233) M.1 dX0_who_233 kc_iconst_0 ?_
        refine j_iadd (pc := 234) M.1 dX0_who_234 ?_
        refine j_istore (pc := 235) M.1 [(6, .int (a.1 + 0)), (2, .int x2), (3, .ref x3), (4, .ref x4), (5, .int x5), (7, .int a.2.1)] dX0_who_235 rfl rfl ?_
        refine j_iinc (pc := 237) M.1 [(7, .int (a.2.1 + 1)), (6, .int (a.1 + 0)), (2, .int x2), (3, .ref x3), (4, .ref x4), (5, .int x5)] dX0_who_237 5 rfl (congrArg _ kc_iconst_1) rfl rfl ?_
        refine j_goto (pc := 240) M.1 197 dX0_who_240 rfl ?_
        refine j_sub [2, 3, 4, 5, 1, 0] (show lv_pick _ _ = [(2, .int x2), (3, .ref x3), (4, .ref x4), (5, .int x5), (6, .int (a.1 + 0)), (7, .int (a.2.1 + 1))] from rfl) ?_
        have hy := hR _ _ _ hf _ _ hkn
        exact hy
      · replace hf := o_neg b6 hf
        refine j_iconst (pc := 229) M.1 dX0_who_229 kc_iconst_1 ?_
        refine j_goto (pc := 230) M.1 234 dX0_who_230 rfl ?_
        refine j_iadd (pc := 234) M.1 dX0_who_234 ?_
        refine j_istore (pc := 235) M.1 [(6, .int (a.1 + 1)), (2, .int x2), (3, .ref x3), (4, .ref x4), (5, .int x5), (7, .int a.2.1)] dX0_who_235 rfl rfl ?_
        refine j_iinc (pc := 237) M.1 [(7, .int (a.2.1 + 1)), (6, .int (a.1 + 1)), (2, .int x2), (3, .ref x3), (4, .ref x4), (5, .int x5)] dX0_who_237 5 rfl (congrArg _ kc_iconst_1) rfl rfl ?_
        refine j_goto (pc := 240) M.1 197 dX0_who_240 rfl ?_
        refine j_sub [2, 3, 4, 5, 1, 0] (show lv_pick _ _ = [(2, .int x2), (3, .ref x3), (4, .ref x4), (5, .int x5), (6, .int (a.1 + 1)), (7, .int (a.2.1 + 1))] from rfl) ?_
        have hy := hR _ _ _ hf _ _ hkn
        exact hy
noncomputable def x0_who (F : Nat) (x1 : Int32) (x2 : Int32) (τ : XS) : XR Int32 :=
  (x0_isPlace F x1 τ).bind (fun r1 => tk r1.2.2.1 r1.2.2.2 (if r1.1 = 0 then (some ((-1), r1.2.1, 0, 0)) else ((x0_in F x2 3).bind (fun r2 => if r2 = 0 then (some ((-1), r1.2.1, 0, 0)) else (nx (xN r1.2.1 (.inl (0, 30, .inl (fun _ => 0)))) (fun τ1 => tk 1 30 (nx (xN τ1 (.inl (0, 30, .inl (fun _ => 0)))) (fun τ2 => tk 1 30 (lp (x0_who_B32 F (fun a1 => lp (x0_who_B131 F (fun a2 => if a2.1 = ((-1)) then (some ((-1), a2.2.2, 0, 0)) else (lp (x0_who_B197 F (fun a3 => if x2 = 0 then (some (a2.1, a3.2.2, 0, 0)) else (if x2 = 1 then ((gA a3.2.2 τ1.2.2.2.2 0).bind (fun A1 => if okI a2.1 A1.1 = true then some (A1.2 a2.1.toNatClampNeg, a3.2.2, 0, 0) else none)) else (some (a3.1, a3.2.2, 0, 0)))) x2 r1.2.1.2.2.2.2 τ1.2.2.2.2 a2.1) F (0, 0, a2.2.2))) x2 r1.2.1.2.2.2.2 τ1.2.2.2.2) F ((-1), 0, a1.2)) x1 x2 r1.2.1.2.2.2.2 τ1.2.2.2.2) F (0, τ2))))))))))
theorem met_x0_who {l : Launch} {G : gG} {o B F : Nat} {x1 : Int32} {x2 : Int32} {τ : XS} {r : Int32 × XS × Nat × Nat} (hf : x0_who F x1 x2 τ = some r) : MetX l G o B yX0_who cX0_who 8 (some .int) 46 [.ref o, .int x1, .int x2] τ (xQi G o B r.1 r.2.1) r.2.2.1 r.2.2.2 := by
  obtain ⟨v, τr, c, s⟩ := r
  refine metX_of (own := RX0) (mn := "who") (by decide) rfl rfl rfl (fun γ hγ M => ?_)
  subst hγ
  show J γ (XW G o B τ) 0 0 0 [(0, .ref o), (1, .int x1), (2, .int x2)] []
  have hkn : 0 + c ≤ c ∧ 0 + s ≤ s := ⟨by omega, by omega⟩
  unfold x0_who at hf
  refine j_aload_n (pc := 0) M.1 dX0_who_0 0 rfl ?_
  refine j_iload_n (pc := 1) M.1 dX0_who_1 1 rfl ?_
  obtain ⟨r1, g1, hf⟩ := o_bind hf
  obtain ⟨c1, s1, hf, hc1, hs1⟩ := o_tk hf
  replace hkn := kn_step hkn hc1 hs1
  refine jx_i M (x_runV (pc := 2) (As := [.int x1]) (rest := []) (V := xV o τ) M xcw_X0_240 (met_x0_isPlace g1) (fun H h => h.1 o _ xH_o) (by decide) rfl rfl rfl dX0_who_2 (kn_le hkn)) ?_
  refine j_if_eq (pc := 5) M.1 16 dX0_who_5 rfl (fun b1 => ?_) (fun b1 => ?_)
  · replace hf := o_pos b1 hf
    refine j_iconst (pc := 16) M.1 dX0_who_16 kc_iconst_m1 ?_
    exact jx_iretF (pc := 17) M dX0_who_17 hf hkn
  · replace hf := o_neg b1 hf
    refine j_iload_n (pc := 8) M.1 dX0_who_8 2 rfl ?_
    refine j_iconst (pc := 9) M.1 dX0_who_9 kc_iconst_3 ?_
    obtain ⟨r2, g2, hf⟩ := o_bind hf
    refine jx_calls (pc := 10) (As := [.int x2, .int 3]) (rest := []) M xcs_X0_137 (met_x0_in g2) rfl rfl rfl rfl dX0_who_10 (kn_le0 hkn) ?_
    refine j_if_ne (pc := 13) M.1 18 dX0_who_13 rfl (fun b2 => ?_) (fun b2 => ?_)
    · replace hf := o_neg b2 hf
      refine j_bipush (pc := 18) M.1 dX0_who_18 kc_bipush_30 ?_
      obtain ⟨τ1, e1, hf⟩ := o_nx hf
      obtain ⟨c2, s2, hf, hc2, hs2⟩ := o_tk hf
      replace hkn := kn_step hkn hc2 hs2
      refine jx_newa (atype := .int) (pc := 20) M q304 rfl (fun _ => rfl) ra_int rfl (by decide) rfl (by decide) dX0_who_20 (kn_le hkn) e1 ?_
      refine j_astore_n (pc := 22) M.1 [(3, .ref r1.2.1.2.2.2.2), (0, .ref o), (1, .int x1), (2, .int x2)] dX0_who_22 rfl rfl ?_
      refine j_bipush (pc := 23) M.1 dX0_who_23 kc_bipush_30 ?_
      obtain ⟨τ2, e2, hf⟩ := o_nx hf
      obtain ⟨c3, s3, hf, hc3, hs3⟩ := o_tk hf
      replace hkn := kn_step hkn hc3 hs3
      refine jx_newa (atype := .int) (pc := 25) M q304 rfl (fun _ => rfl) ra_int rfl (by decide) rfl (by decide) dX0_who_25 (kn_le hkn) e2 ?_
      refine j_astore (pc := 27) M.1 [(4, .ref τ1.2.2.2.2), (3, .ref r1.2.1.2.2.2.2), (0, .ref o), (1, .int x1), (2, .int x2)] dX0_who_27 rfl rfl ?_
      refine j_iconst (pc := 29) M.1 dX0_who_29 kc_iconst_0 ?_
      refine j_istore (pc := 30) M.1 [(5, .int 0), (4, .ref τ1.2.2.2.2), (3, .ref r1.2.1.2.2.2.2), (0, .ref o), (1, .int x1), (2, .int x2)] dX0_who_30 rfl rfl ?_
      refine j_sub [3, 4, 5, 2, 1, 0] (show lv_pick _ _ = [(0, .ref o), (1, .int x1), (2, .int x2), (3, .ref r1.2.1.2.2.2.2), (4, .ref τ1.2.2.2.2), (5, .int 0)] from rfl) ?_
      refine lp_Wc (kx0_who_B32 M x1 x2 r1.2.1.2.2.2.2 τ1.2.2.2.2 _ ?_) F (0, τ2) _ _ hf _ _ hkn
      · intro a1 c s hf k n hkn
        refine j_iconst (pc := 125) M.1 dX0_who_125 kc_iconst_m1 ?_
        refine j_istore (pc := 126) M.1 [(5, .int ((-1))), (2, .int x2), (3, .ref r1.2.1.2.2.2.2), (4, .ref τ1.2.2.2.2)] dX0_who_126 rfl rfl ?_
        refine j_iconst (pc := 128) M.1 dX0_who_128 kc_iconst_0 ?_
        refine j_istore (pc := 129) M.1 [(6, .int 0), (5, .int ((-1))), (2, .int x2), (3, .ref r1.2.1.2.2.2.2), (4, .ref τ1.2.2.2.2)] dX0_who_129 rfl rfl ?_
        refine j_sub [2, 3, 4, 1, 0] (show lv_pick _ _ = [(2, .int x2), (3, .ref r1.2.1.2.2.2.2), (4, .ref τ1.2.2.2.2), (5, .int ((-1))), (6, .int 0)] from rfl) ?_
        refine lp_Wc (kx0_who_B131 M x2 r1.2.1.2.2.2.2 τ1.2.2.2.2 _ ?_) F ((-1), 0, a1.2) _ _ hf _ _ hkn
        · intro a2 c s hf k n hkn
          refine j_iload (pc := 183) M.1 dX0_who_183 3 rfl ?_
          refine j_iconst (pc := 185) M.1 dX0_who_185 kc_iconst_m1 ?_
          refine j_icmp_ne (pc := 186) M.1 191 dX0_who_186 rfl (fun b3 => ?_) (fun b3 => ?_)
          · replace hf := o_neg b3 hf
            refine j_iconst (pc := 191) M.1 dX0_who_191 kc_iconst_0 ?_
            refine j_istore (pc := 192) M.1 [(6, .int 0), (2, .int x2), (3, .ref r1.2.1.2.2.2.2), (4, .ref τ1.2.2.2.2), (5, .int a2.1)] dX0_who_192 rfl rfl ?_
            refine j_iconst (pc := 194) M.1 dX0_who_194 kc_iconst_0 ?_
            refine j_istore (pc := 195) M.1 [(7, .int 0), (6, .int 0), (2, .int x2), (3, .ref r1.2.1.2.2.2.2), (4, .ref τ1.2.2.2.2), (5, .int a2.1)] dX0_who_195 rfl rfl ?_
            refine j_sub [2, 3, 4, 5, 1, 0] (show lv_pick _ _ = [(2, .int x2), (3, .ref r1.2.1.2.2.2.2), (4, .ref τ1.2.2.2.2), (5, .int a2.1), (6, .int 0), (7, .int 0)] from rfl) ?_
            refine lp_Wc (kx0_who_B197 M x2 r1.2.1.2.2.2.2 τ1.2.2.2.2 a2.1 _ ?_) F (0, 0, a2.2.2) _ _ hf _ _ hkn
            · intro a3 c s hf k n hkn
              refine j_iload_n (pc := 243) M.1 dX0_who_243 0 rfl ?_
              refine j_if_ne (pc := 244) M.1 252 dX0_who_244 rfl (fun b4 => ?_) (fun b4 => ?_)
              · replace hf := o_neg b4 hf
                refine j_iload_n (pc := 252) M.1 dX0_who_252 0 rfl ?_
                refine j_iconst (pc := 253) M.1 dX0_who_253 kc_iconst_1 ?_
                refine j_icmp_ne (pc := 254) M.1 265 dX0_who_254 rfl (fun b5 => ?_) (fun b5 => ?_)
                · replace hf := o_neg b5 hf
                  refine j_iload (pc := 265) M.1 dX0_who_265 3 rfl ?_
                  exact jx_iretF (pc := 267) M dX0_who_267 hf hkn
                · replace hf := o_pos b5 hf
                  refine j_aload (pc := 257) M.1 dX0_who_257 1 rfl ?_
                  refine j_iload (pc := 259) M.1 dX0_who_259 2 rfl ?_
                  obtain ⟨A1, g3, hf⟩ := o_bind hf
                  obtain ⟨b6, hf⟩ := o_need hf
                  refine jx_pald0 (pc := 261) M g3 b6 dX0_who_261 ?_
                  refine j_goto (pc := 262) M.1 267 dX0_who_262 rfl ?_
                  exact jx_iretF (pc := 267) M dX0_who_267 hf hkn
              · replace hf := o_pos b4 hf
                refine j_iload (pc := 247) M.1 dX0_who_247 2 rfl ?_
                refine j_goto (pc := 249) M.1 267 dX0_who_249 rfl ?_
                exact jx_iretF (pc := 267) M dX0_who_267 hf hkn
          · replace hf := o_pos b3 hf
            refine j_iconst (pc := 189) M.1 dX0_who_189 kc_iconst_m1 ?_
            exact jx_iretF (pc := 190) M dX0_who_190 hf hkn
    · replace hf := o_pos b2 hf
      refine j_iconst (pc := 16) M.1 dX0_who_16 kc_iconst_m1 ?_
      exact jx_iretF (pc := 17) M dX0_who_17 hf hkn
end
theorem dX25_init_0 : decode cX25_init 0 = .ok (.aload_n 0, 1) := by decide +kernel
theorem dX25_init_1 : decode cX25_init 1 = .ok (.invokespecial 1, 3) := by decide +kernel
theorem dX25_init_4 : decode cX25_init 4 = .ok (.aload_n 0, 1) := by decide +kernel
theorem dX25_init_5 : decode cX25_init 5 = .ok (.iload_n 1, 1) := by decide +kernel
theorem dX25_init_6 : decode cX25_init 6 = .ok (.putfield 7, 3) := by decide +kernel
theorem dX25_init_9 : decode cX25_init 9 = .ok (.aload_n 0, 1) := by decide +kernel
theorem dX25_init_10 : decode cX25_init 10 = .ok (.iload_n 2, 1) := by decide +kernel
theorem dX25_init_11 : decode cX25_init 11 = .ok (.putfield 13, 3) := by decide +kernel
theorem dX25_init_14 : decode cX25_init 14 = .ok (.aload_n 0, 1) := by decide +kernel
theorem dX25_init_15 : decode cX25_init 15 = .ok (.iload_n 3, 1) := by decide +kernel
theorem dX25_init_16 : decode cX25_init 16 = .ok (.putfield 16, 3) := by decide +kernel
theorem dX25_init_19 : decode cX25_init 19 = .ok (.return_, 1) := by decide +kernel
section
variable {v : Int32}
noncomputable def x25_init (F : Nat) (x0 : Nat) (x1 : Int32) (x2 : Int32) (x3 : Int32) (τ : XS) : XR Int32 :=
  (pF τ x0 [25] 0 (.int x1)).bind (fun τ1 => (pF τ1 x0 [25] 1 (.int x2)).bind (fun τ2 => (pF τ2 x0 [25] 2 (.int x3)).bind (fun τ3 => some (0, τ3, 0, 0))))
theorem met_x25_init {l : Launch} {G : gG} {o B F : Nat} {x0 : Nat} {x1 : Int32} {x2 : Int32} {x3 : Int32} {τ : XS} {r : Int32 × XS × Nat × Nat} (hf : x25_init F x0 x1 x2 x3 τ = some r) : MetX l G o B yX25_init cX25_init 4 none 2 [.ref x0, .int x1, .int x2, .int x3] τ (xQv G o B r.1 r.2.1) r.2.2.1 r.2.2.2 := by
  obtain ⟨v, τr, c, s⟩ := r
  refine metX_of (own := RX25) (mn := "<init>") (by decide) rfl rfl rfl (fun γ hγ M => ?_)
  subst hγ
  show J γ (XW G o B τ) 0 0 0 [(0, .ref x0), (1, .int x1), (2, .int x2), (3, .int x3)] []
  have hkn : 0 + c ≤ c ∧ 0 + s ≤ s := ⟨by omega, by omega⟩
  unfold x25_init at hf
  refine j_aload_n (pc := 0) M.1 dX25_init_0 0 rfl ?_
  refine j_objInit (pc := 1) M.1 q1293 dX25_init_1 (M.room (by decide)) rfl ?_
  refine j_aload_n (pc := 4) M.1 dX25_init_4 0 rfl ?_
  refine j_iload_n (pc := 5) M.1 dX25_init_5 1 rfl ?_
  obtain ⟨τ1, g1, hf⟩ := o_bind hf
  refine jx_putW (pc := 6) M q1294 xfw_X25_7 rfl rfl g1 dX25_init_6 ?_
  refine j_aload_n (pc := 9) M.1 dX25_init_9 0 rfl ?_
  refine j_iload_n (pc := 10) M.1 dX25_init_10 2 rfl ?_
  obtain ⟨τ2, g2, hf⟩ := o_bind hf
  refine jx_putW (pc := 11) M q1296 xfw_X25_13 rfl rfl g2 dX25_init_11 ?_
  refine j_aload_n (pc := 14) M.1 dX25_init_14 0 rfl ?_
  refine j_iload_n (pc := 15) M.1 dX25_init_15 3 rfl ?_
  obtain ⟨τ3, g3, hf⟩ := o_bind hf
  refine jx_putW (pc := 16) M q1298 xfw_X25_16 rfl rfl g3 dX25_init_16 ?_
  exact jx_vretF (pc := 19) M dX25_init_19 hf hkn
end
theorem dX0_work_0 : decode cX0_work 0 = .ok (.iload_n 1, 1) := by decide +kernel
theorem dX0_work_1 : decode cX0_work 1 = .ok (.aload_n 0, 1) := by decide +kernel
theorem dX0_work_2 : decode cX0_work 2 = .ok (.getfield 430, 3) := by decide +kernel
theorem dX0_work_5 : decode cX0_work 5 = .ok (.invokestatic 137, 3) := by decide +kernel
theorem dX0_work_8 : decode cX0_work 8 = .ok (.ifCond .eq 33, 3) := by decide +kernel
theorem dX0_work_11 : decode cX0_work 11 = .ok (.iload_n 2, 1) := by decide +kernel
theorem dX0_work_12 : decode cX0_work 12 = .ok (.iconst 1, 1) := by decide +kernel
theorem dX0_work_13 : decode cX0_work 13 = .ok (.sipush 10000, 3) := by decide +kernel
theorem dX0_work_16 : decode cX0_work 16 = .ok (.invokestatic 144, 3) := by decide +kernel
theorem dX0_work_19 : decode cX0_work 19 = .ok (.ifCond .eq 22, 3) := by decide +kernel
theorem dX0_work_22 : decode cX0_work 22 = .ok (.iload_n 3, 1) := by decide +kernel
theorem dX0_work_23 : decode cX0_work 23 = .ok (.iconst 1, 1) := by decide +kernel
theorem dX0_work_24 : decode cX0_work 24 = .ok (.bipush 100, 2) := by decide +kernel
theorem dX0_work_26 : decode cX0_work 26 = .ok (.invokestatic 144, 3) := by decide +kernel
theorem dX0_work_29 : decode cX0_work 29 = .ok (.ifCond .eq 12, 3) := by decide +kernel
theorem dX0_work_32 : decode cX0_work 32 = .ok (.aload_n 0, 1) := by decide +kernel
theorem dX0_work_33 : decode cX0_work 33 = .ok (.getfield 483, 3) := by decide +kernel
theorem dX0_work_36 : decode cX0_work 36 = .ok (.bipush 9, 2) := by decide +kernel
theorem dX0_work_38 : decode cX0_work 38 = .ok (.if_icmp .ne 5, 3) := by decide +kernel
theorem dX0_work_41 : decode cX0_work 41 = .ok (.iconst (-1), 1) := by decide +kernel
theorem dX0_work_42 : decode cX0_work 42 = .ok (.ireturn, 1) := by decide +kernel
theorem dX0_work_43 : decode cX0_work 43 = .ok (.aload_n 0, 1) := by decide +kernel
theorem dX0_work_44 : decode cX0_work 44 = .ok (.getfield 133, 3) := by decide +kernel
theorem dX0_work_47 : decode cX0_work 47 = .ok (.aload_n 0, 1) := by decide +kernel
theorem dX0_work_48 : decode cX0_work 48 = .ok (.getfield 483, 3) := by decide +kernel
theorem dX0_work_51 : decode cX0_work 51 = .ok (.new 131, 3) := by decide +kernel
theorem dX0_work_54 : decode cX0_work 54 = .ok (.dup, 1) := by decide +kernel
theorem dX0_work_55 : decode cX0_work 55 = .ok (.iload_n 1, 1) := by decide +kernel
theorem dX0_work_56 : decode cX0_work 56 = .ok (.iload_n 2, 1) := by decide +kernel
theorem dX0_work_57 : decode cX0_work 57 = .ok (.iload_n 3, 1) := by decide +kernel
theorem dX0_work_58 : decode cX0_work 58 = .ok (.invokespecial 486, 3) := by decide +kernel
theorem dX0_work_61 : decode cX0_work 61 = .ok (.aastore, 1) := by decide +kernel
theorem dX0_work_62 : decode cX0_work 62 = .ok (.aload_n 0, 1) := by decide +kernel
theorem dX0_work_63 : decode cX0_work 63 = .ok (.dup, 1) := by decide +kernel
theorem dX0_work_64 : decode cX0_work 64 = .ok (.getfield 483, 3) := by decide +kernel
theorem dX0_work_67 : decode cX0_work 67 = .ok (.iconst 1, 1) := by decide +kernel
theorem dX0_work_68 : decode cX0_work 68 = .ok (.iadd, 1) := by decide +kernel
theorem dX0_work_69 : decode cX0_work 69 = .ok (.putfield 483, 3) := by decide +kernel
theorem dX0_work_72 : decode cX0_work 72 = .ok (.aload_n 0, 1) := by decide +kernel
theorem dX0_work_73 : decode cX0_work 73 = .ok (.getfield 483, 3) := by decide +kernel
theorem dX0_work_76 : decode cX0_work 76 = .ok (.iconst 1, 1) := by decide +kernel
theorem dX0_work_77 : decode cX0_work 77 = .ok (.isub, 1) := by decide +kernel
theorem dX0_work_78 : decode cX0_work 78 = .ok (.ireturn, 1) := by decide +kernel
section
variable {v : Int32}
noncomputable def x0_work (F : Nat) (x1 : Int32) (x2 : Int32) (x3 : Int32) (τ : XS) : XR Int32 :=
  (x0_in F x1 (τ.1.1 26)).bind (fun r1 => if r1 = 0 then (some ((-1), τ, 0, 0)) else ((x0_within F x2 1 10000).bind (fun r2 => if r2 = 0 then (some ((-1), τ, 0, 0)) else ((x0_within F x3 1 100).bind (fun r3 => if r3 = 0 then (some ((-1), τ, 0, 0)) else (if (τ.1.1 44) = 9 then (some ((-1), τ, 0, 0)) else (nx (xN τ (.inr (25, fun q => defaultValue (tyX25 q)))) (fun τ1 => tk 1 3 ((x25_init F τ.2.2.2.2 x1 x2 x3 τ1).bind (fun r4 => tk r4.2.2.1 r4.2.2.2 (if isC r4.2.1 τ.2.2.2.2 [25] = true then if okI (τ.1.1 44) 9 = true then nx (xR r4.2.1 34 (τ.1.1 44).toNatClampNeg (some τ.2.2.2.2)) (fun τ2 => nx (xS τ2 44 ((τ2.1.1 44) + 1)) (fun τ3 => some ((τ3.1.1 44) - 1, τ3, 0, 0))) else none else none)))))))))))
theorem met_x0_work {l : Launch} {G : gG} {o B F : Nat} {x1 : Int32} {x2 : Int32} {x3 : Int32} {τ : XS} {r : Int32 × XS × Nat × Nat} (hf : x0_work F x1 x2 x3 τ = some r) : MetX l G o B yX0_work cX0_work 4 (some .int) 3 [.ref o, .int x1, .int x2, .int x3] τ (xQi G o B r.1 r.2.1) r.2.2.1 r.2.2.2 := by
  obtain ⟨v, τr, c, s⟩ := r
  refine metX_of (own := RX0) (mn := "work") (by decide) rfl rfl rfl (fun γ hγ M => ?_)
  subst hγ
  show J γ (XW G o B τ) 0 0 0 [(0, .ref o), (1, .int x1), (2, .int x2), (3, .int x3)] []
  have hkn : 0 + c ≤ c ∧ 0 + s ≤ s := ⟨by omega, by omega⟩
  unfold x0_work at hf
  refine j_iload_n (pc := 0) M.1 dX0_work_0 1 rfl ?_
  refine j_aload_n (pc := 1) M.1 dX0_work_1 0 rfl ?_
  refine jx_getS (pc := 2) M xfs_430 dX0_work_2 ?_
  obtain ⟨r1, g1, hf⟩ := o_bind hf
  refine jx_calls (pc := 5) (As := [.int x1, .int (τ.1.1 26)]) (rest := []) M xcs_X0_137 (met_x0_in g1) rfl rfl rfl rfl dX0_work_5 (kn_le0 hkn) ?_
  refine j_if_eq (pc := 8) M.1 41 dX0_work_8 rfl (fun b1 => ?_) (fun b1 => ?_)
  · replace hf := o_pos b1 hf
    refine j_iconst (pc := 41) M.1 dX0_work_41 kc_iconst_m1 ?_
    exact jx_iretF (pc := 42) M dX0_work_42 hf hkn
  · replace hf := o_neg b1 hf
    refine j_iload_n (pc := 11) M.1 dX0_work_11 2 rfl ?_
    refine j_iconst (pc := 12) M.1 dX0_work_12 kc_iconst_1 ?_
    refine j_sipush (pc := 13) M.1 dX0_work_13 kc_sipush_10000 ?_
    obtain ⟨r2, g2, hf⟩ := o_bind hf
    refine jx_calls (pc := 16) (As := [.int x2, .int 1, .int 10000]) (rest := []) M xcs_X0_144 (met_x0_within g2) rfl rfl rfl rfl dX0_work_16 (kn_le0 hkn) ?_
    refine j_if_eq (pc := 19) M.1 41 dX0_work_19 rfl (fun b2 => ?_) (fun b2 => ?_)
    · replace hf := o_pos b2 hf
      refine j_iconst (pc := 41) M.1 dX0_work_41 kc_iconst_m1 ?_
      exact jx_iretF (pc := 42) M dX0_work_42 hf hkn
    · replace hf := o_neg b2 hf
      refine j_iload_n (pc := 22) M.1 dX0_work_22 3 rfl ?_
      refine j_iconst (pc := 23) M.1 dX0_work_23 kc_iconst_1 ?_
      refine j_bipush (pc := 24) M.1 dX0_work_24 kc_bipush_100 ?_
      obtain ⟨r3, g3, hf⟩ := o_bind hf
      refine jx_calls (pc := 26) (As := [.int x3, .int 1, .int 100]) (rest := []) M xcs_X0_144 (met_x0_within g3) rfl rfl rfl rfl dX0_work_26 (kn_le0 hkn) ?_
      refine j_if_eq (pc := 29) M.1 41 dX0_work_29 rfl (fun b3 => ?_) (fun b3 => ?_)
      · replace hf := o_pos b3 hf
        refine j_iconst (pc := 41) M.1 dX0_work_41 kc_iconst_m1 ?_
        exact jx_iretF (pc := 42) M dX0_work_42 hf hkn
      · replace hf := o_neg b3 hf
        refine j_aload_n (pc := 32) M.1 dX0_work_32 0 rfl ?_
        refine jx_getS (pc := 33) M xfs_483 dX0_work_33 ?_
        refine j_bipush (pc := 36) M.1 dX0_work_36 kc_bipush_9 ?_
        refine j_icmp_ne (pc := 38) M.1 43 dX0_work_38 rfl (fun b4 => ?_) (fun b4 => ?_)
        · replace hf := o_neg b4 hf
          refine j_aload_n (pc := 43) M.1 dX0_work_43 0 rfl ?_
          refine jx_getA (pc := 44) M xfa_133 dX0_work_44 ?_
          refine j_aload_n (pc := 47) M.1 dX0_work_47 0 rfl ?_
          refine jx_getS (pc := 48) M xfs_483 dX0_work_48 ?_
          obtain ⟨τ1, e1, hf⟩ := o_nx hf
          obtain ⟨c1, s1, hf, hc1, hs1⟩ := o_tk hf
          replace hkn := kn_step hkn hc1 hs1
          refine jx_new (pc := 51) M xnew_X0_131 dX0_work_51 (kn_le hkn) e1 ?_
          refine j_dup (pc := 54) M.1 dX0_work_54 rfl ?_
          refine j_iload_n (pc := 55) M.1 dX0_work_55 1 rfl ?_
          refine j_iload_n (pc := 56) M.1 dX0_work_56 2 rfl ?_
          refine j_iload_n (pc := 57) M.1 dX0_work_57 3 rfl ?_
          obtain ⟨r4, g4, hf⟩ := o_bind hf
          obtain ⟨c2, s2, hf, hc2, hs2⟩ := o_tk hf
          replace hkn := kn_step hkn hc2 hs2
          refine jx_v (r := r4.1) M (x_runI (pc := 58) (As := [.int x1, .int x2, .int x3]) (rest := [.ref τ.2.2.2.2, .int (τ.1.1 44), .ref (o + 1 + 34)]) M xci_X0_486 (met_x25_init g4) (by decide) rfl rfl rfl dX0_work_58 (kn_le hkn)) ?_
          obtain ⟨b5, hf⟩ := o_need hf
          obtain ⟨b6, hf⟩ := o_need hf
          obtain ⟨τ2, e2, hf⟩ := o_nx hf
          refine jx_aast (pc := 61) M xax_34 (by decide) (by decide) xel_13 b5 b6 dX0_work_61 e2 ?_
          refine j_aload_n (pc := 62) M.1 dX0_work_62 0 rfl ?_
          refine j_dup (pc := 63) M.1 dX0_work_63 rfl ?_
          refine jx_getS (pc := 64) M xfs_483 dX0_work_64 ?_
          refine j_iconst (pc := 67) M.1 dX0_work_67 kc_iconst_1 ?_
          refine j_iadd (pc := 68) M.1 dX0_work_68 ?_
          obtain ⟨τ3, e3, hf⟩ := o_nx hf
          refine jx_putS (pc := 69) M xfs_483 dX0_work_69 e3 ?_
          refine j_aload_n (pc := 72) M.1 dX0_work_72 0 rfl ?_
          refine jx_getS (pc := 73) M xfs_483 dX0_work_73 ?_
          refine j_iconst (pc := 76) M.1 dX0_work_76 kc_iconst_1 ?_
          refine j_isub (pc := 77) M.1 dX0_work_77 ?_
          exact jx_iretF (pc := 78) M dX0_work_78 hf hkn
        · replace hf := o_pos b4 hf
          refine j_iconst (pc := 41) M.1 dX0_work_41 kc_iconst_m1 ?_
          exact jx_iretF (pc := 42) M dX0_work_42 hf hkn
end
theorem dX0_costOf_0 : decode cX0_costOf 0 = .ok (.iconst 0, 1) := by decide +kernel
theorem dX0_costOf_1 : decode cX0_costOf 1 = .ok (.istore_n 2, 1) := by decide +kernel
theorem dX0_costOf_2 : decode cX0_costOf 2 = .ok (.iconst 0, 1) := by decide +kernel
theorem dX0_costOf_3 : decode cX0_costOf 3 = .ok (.istore_n 3, 1) := by decide +kernel
theorem dX0_costOf_4 : decode cX0_costOf 4 = .ok (.iload_n 3, 1) := by decide +kernel
theorem dX0_costOf_5 : decode cX0_costOf 5 = .ok (.aload_n 0, 1) := by decide +kernel
theorem dX0_costOf_6 : decode cX0_costOf 6 = .ok (.getfield 483, 3) := by decide +kernel
theorem dX0_costOf_9 : decode cX0_costOf 9 = .ok (.if_icmp .ge 34, 3) := by decide +kernel
theorem dX0_costOf_12 : decode cX0_costOf 12 = .ok (.iload_n 2, 1) := by decide +kernel
theorem dX0_costOf_13 : decode cX0_costOf 13 = .ok (.iload_n 1, 1) := by decide +kernel
theorem dX0_costOf_14 : decode cX0_costOf 14 = .ok (.iload_n 3, 1) := by decide +kernel
theorem dX0_costOf_15 : decode cX0_costOf 15 = .ok (.ishr, 1) := by decide +kernel
theorem dX0_costOf_16 : decode cX0_costOf 16 = .ok (.iconst 1, 1) := by decide +kernel
theorem dX0_costOf_17 : decode cX0_costOf 17 = .ok (.iand, 1) := by decide +kernel
theorem dX0_costOf_18 : decode cX0_costOf 18 = .ok (.iconst 1, 1) := by decide +kernel
theorem dX0_costOf_19 : decode cX0_costOf 19 = .ok (.if_icmp .ne 15, 3) := by decide +kernel
theorem dX0_costOf_22 : decode cX0_costOf 22 = .ok (.aload_n 0, 1) := by decide +kernel
theorem dX0_costOf_23 : decode cX0_costOf 23 = .ok (.getfield 133, 3) := by decide +kernel
theorem dX0_costOf_26 : decode cX0_costOf 26 = .ok (.iload_n 3, 1) := by decide +kernel
theorem dX0_costOf_27 : decode cX0_costOf 27 = .ok (.aaload, 1) := by decide +kernel
theorem dX0_costOf_28 : decode cX0_costOf 28 = .ok (.getfield 487, 3) := by decide +kernel
theorem dX0_costOf_31 : decode cX0_costOf 31 = .ok (.goto 4, 3) := by decide +kernel
theorem dX0_costOf_34 : decode cX0_costOf 34 = .ok (.iconst 0, 1) := by decide +kernel
theorem dX0_costOf_35 : decode cX0_costOf 35 = .ok (.iadd, 1) := by decide +kernel
theorem dX0_costOf_36 : decode cX0_costOf 36 = .ok (.istore_n 2, 1) := by decide +kernel
theorem dX0_costOf_37 : decode cX0_costOf 37 = .ok (.iinc 3 1, 3) := by decide +kernel
theorem dX0_costOf_40 : decode cX0_costOf 40 = .ok (.goto (-36), 3) := by decide +kernel
theorem dX0_costOf_43 : decode cX0_costOf 43 = .ok (.iload_n 2, 1) := by decide +kernel
theorem dX0_costOf_44 : decode cX0_costOf 44 = .ok (.ireturn, 1) := by decide +kernel
section
variable {v : Int32}
noncomputable def x0_costOf_B4 (F : Nat) (x1 : Int32) (R : Int32 × Int32 × XS → XR Int32) (a : Int32 × Int32 × XS) : XR Int32 :=
  if (a.2.2.1.1 44) ≤ a.2.1 then (some (a.1, a.2.2, 0, 0)) else (if ((x1 >>> (a.2.1 &&& 31)) &&& 1) = 1 then (if okI a.2.1 9 = true then (a.2.2.2.1 34 a.2.1.toNatClampNeg).bind (fun n1 => (gI a.2.2 n1 [25] 1).bind (fun v1 => R (a.1 + v1, a.2.1 + 1, a.2.2))) else none) else (R (a.1 + 0, a.2.1 + 1, a.2.2)))
theorem kx0_costOf_B4 (M : XC γ cX0_costOf 4 RX0 "costOf" G o B 1 (some .int) (xQi G o B v τr) c0 s0) (x1 : Int32) : ∀ R : Int32 × Int32 × XS → XR Int32, (∀ a c s, R a = some (v, τr, c, s) → ∀ k n, k + c ≤ c0 ∧ n + s ≤ s0 → J γ (XW G o B a.2.2) k n 4 [(0, .ref o), (1, .int x1), (2, .int a.1), (3, .int a.2.1)] []) → ∀ a c s, x0_costOf_B4 F x1 R a = some (v, τr, c, s) → ∀ k n, k + c ≤ c0 ∧ n + s ≤ s0 → J γ (XW G o B a.2.2) k n 4 [(0, .ref o), (1, .int x1), (2, .int a.1), (3, .int a.2.1)] [] := by
  intro R hR a c s hf k n hkn
  unfold x0_costOf_B4 at hf
  refine j_iload_n (pc := 4) M.1 dX0_costOf_4 3 rfl ?_
  refine j_aload_n (pc := 5) M.1 dX0_costOf_5 0 rfl ?_
  refine jx_getS (pc := 6) M xfs_483 dX0_costOf_6 ?_
  refine j_icmp_ge (pc := 9) M.1 43 dX0_costOf_9 rfl (fun b1 => ?_) (fun b1 => ?_)
  · replace hf := o_pos b1 hf
    refine j_iload_n (pc := 43) M.1 dX0_costOf_43 2 rfl ?_
    exact jx_iretF (pc := 44) M dX0_costOf_44 hf hkn
  · replace hf := o_neg b1 hf
    refine j_iload_n (pc := 12) M.1 dX0_costOf_12 2 rfl ?_
    refine j_iload_n (pc := 13) M.1 dX0_costOf_13 1 rfl ?_
    refine j_iload_n (pc := 14) M.1 dX0_costOf_14 3 rfl ?_
    refine j_ishr (pc := 15) M.1 dX0_costOf_15 ?_
    refine j_iconst (pc := 16) M.1 dX0_costOf_16 kc_iconst_1 ?_
    refine j_iand (pc := 17) M.1 dX0_costOf_17 ?_
    refine j_iconst (pc := 18) M.1 dX0_costOf_18 kc_iconst_1 ?_
    refine j_icmp_ne (pc := 19) M.1 34 dX0_costOf_19 rfl (fun b2 => ?_) (fun b2 => ?_)
    · replace hf := o_neg b2 hf
      refine j_iconst (pc := 34) M.1 dX0_costOf_34 kc_iconst_0 ?_
      refine j_iadd (pc := 35) M.1 dX0_costOf_35 ?_
      refine j_istore_n (pc := 36) M.1 [(2, .int (a.1 + 0)), (0, .ref o), (1, .int x1), (3, .int a.2.1)] dX0_costOf_36 rfl rfl ?_
      refine j_iinc (pc := 37) M.1 [(3, .int (a.2.1 + 1)), (2, .int (a.1 + 0)), (0, .ref o), (1, .int x1)] dX0_costOf_37 3 rfl (congrArg _ kc_iconst_1) rfl rfl ?_
      refine j_goto (pc := 40) M.1 4 dX0_costOf_40 rfl ?_
      refine j_sub [2, 3, 1, 0] (show lv_pick _ _ = [(0, .ref o), (1, .int x1), (2, .int (a.1 + 0)), (3, .int (a.2.1 + 1))] from rfl) ?_
      have hy := hR _ _ _ hf _ _ hkn
      exact hy
    · replace hf := o_pos b2 hf
      refine j_aload_n (pc := 22) M.1 dX0_costOf_22 0 rfl ?_
      refine jx_getA (pc := 23) M xfa_133 dX0_costOf_23 ?_
      refine j_iload_n (pc := 26) M.1 dX0_costOf_26 3 rfl ?_
      obtain ⟨b3, hf⟩ := o_need hf
      obtain ⟨n1, g1, hf⟩ := o_bind hf
      refine jx_aald (pc := 27) M xax_34 (by decide) xrt_13 b3 g1 dX0_costOf_27 ?_
      obtain ⟨v1, g2, hf⟩ := o_bind hf
      refine jx_getI (pc := 28) M xfl_X0_487 g2 dX0_costOf_28 ?_
      refine j_goto (pc := 31) M.1 35 dX0_costOf_31 rfl ?_
      refine j_iadd (pc := 35) M.1 dX0_costOf_35 ?_
      refine j_istore_n (pc := 36) M.1 [(2, .int (a.1 + v1)), (0, .ref o), (1, .int x1), (3, .int a.2.1)] dX0_costOf_36 rfl rfl ?_
      refine j_iinc (pc := 37) M.1 [(3, .int (a.2.1 + 1)), (2, .int (a.1 + v1)), (0, .ref o), (1, .int x1)] dX0_costOf_37 3 rfl (congrArg _ kc_iconst_1) rfl rfl ?_
      refine j_goto (pc := 40) M.1 4 dX0_costOf_40 rfl ?_
      refine j_sub [2, 3, 1, 0] (show lv_pick _ _ = [(0, .ref o), (1, .int x1), (2, .int (a.1 + v1)), (3, .int (a.2.1 + 1))] from rfl) ?_
      have hy := hR _ _ _ hf _ _ hkn
      exact hy
noncomputable def x0_costOf (F : Nat) (x1 : Int32) (τ : XS) : XR Int32 :=
  lp (x0_costOf_B4 F x1) F (0, 0, τ)
theorem met_x0_costOf {l : Launch} {G : gG} {o B F : Nat} {x1 : Int32} {τ : XS} {r : Int32 × XS × Nat × Nat} (hf : x0_costOf F x1 τ = some r) : MetX l G o B yX0_costOf cX0_costOf 4 (some .int) 1 [.ref o, .int x1] τ (xQi G o B r.1 r.2.1) r.2.2.1 r.2.2.2 := by
  obtain ⟨v, τr, c, s⟩ := r
  refine metX_of (own := RX0) (mn := "costOf") (by decide) rfl rfl rfl (fun γ hγ M => ?_)
  subst hγ
  show J γ (XW G o B τ) 0 0 0 [(0, .ref o), (1, .int x1)] []
  have hkn : 0 + c ≤ c ∧ 0 + s ≤ s := ⟨by omega, by omega⟩
  unfold x0_costOf at hf
  refine j_iconst (pc := 0) M.1 dX0_costOf_0 kc_iconst_0 ?_
  refine j_istore_n (pc := 1) M.1 [(2, .int 0), (0, .ref o), (1, .int x1)] dX0_costOf_1 rfl rfl ?_
  refine j_iconst (pc := 2) M.1 dX0_costOf_2 kc_iconst_0 ?_
  refine j_istore_n (pc := 3) M.1 [(3, .int 0), (2, .int 0), (0, .ref o), (1, .int x1)] dX0_costOf_3 rfl rfl ?_
  refine j_sub [2, 3, 1, 0] (show lv_pick _ _ = [(0, .ref o), (1, .int x1), (2, .int 0), (3, .int 0)] from rfl) ?_
  refine lp_Wc (kx0_costOf_B4 M x1) F (0, 0, τ) _ _ hf _ _ hkn
end
theorem dX0_savedOn_0 : decode cX0_savedOn 0 = .ok (.iconst 0, 1) := by decide +kernel
theorem dX0_savedOn_1 : decode cX0_savedOn 1 = .ok (.istore_n 3, 1) := by decide +kernel
theorem dX0_savedOn_2 : decode cX0_savedOn 2 = .ok (.iconst 0, 1) := by decide +kernel
theorem dX0_savedOn_3 : decode cX0_savedOn 3 = .ok (.istore 4, 2) := by decide +kernel
theorem dX0_savedOn_5 : decode cX0_savedOn 5 = .ok (.iload 4, 2) := by decide +kernel
theorem dX0_savedOn_7 : decode cX0_savedOn 7 = .ok (.aload_n 0, 1) := by decide +kernel
theorem dX0_savedOn_8 : decode cX0_savedOn 8 = .ok (.getfield 483, 3) := by decide +kernel
theorem dX0_savedOn_11 : decode cX0_savedOn 11 = .ok (.if_icmp .ge 59, 3) := by decide +kernel
theorem dX0_savedOn_14 : decode cX0_savedOn 14 = .ok (.iload_n 2, 1) := by decide +kernel
theorem dX0_savedOn_15 : decode cX0_savedOn 15 = .ok (.iload 4, 2) := by decide +kernel
theorem dX0_savedOn_17 : decode cX0_savedOn 17 = .ok (.ishr, 1) := by decide +kernel
theorem dX0_savedOn_18 : decode cX0_savedOn 18 = .ok (.iconst 1, 1) := by decide +kernel
theorem dX0_savedOn_19 : decode cX0_savedOn 19 = .ok (.iand, 1) := by decide +kernel
theorem dX0_savedOn_20 : decode cX0_savedOn 20 = .ok (.iconst 1, 1) := by decide +kernel
theorem dX0_savedOn_21 : decode cX0_savedOn 21 = .ok (.if_icmp .ne 43, 3) := by decide +kernel
theorem dX0_savedOn_24 : decode cX0_savedOn 24 = .ok (.aload_n 0, 1) := by decide +kernel
theorem dX0_savedOn_25 : decode cX0_savedOn 25 = .ok (.getfield 133, 3) := by decide +kernel
theorem dX0_savedOn_28 : decode cX0_savedOn 28 = .ok (.iload 4, 2) := by decide +kernel
theorem dX0_savedOn_30 : decode cX0_savedOn 30 = .ok (.aaload, 1) := by decide +kernel
theorem dX0_savedOn_31 : decode cX0_savedOn 31 = .ok (.getfield 490, 3) := by decide +kernel
theorem dX0_savedOn_34 : decode cX0_savedOn 34 = .ok (.iload_n 1, 1) := by decide +kernel
theorem dX0_savedOn_35 : decode cX0_savedOn 35 = .ok (.if_icmp .ne 29, 3) := by decide +kernel
theorem dX0_savedOn_38 : decode cX0_savedOn 38 = .ok (.iload_n 3, 1) := by decide +kernel
theorem dX0_savedOn_39 : decode cX0_savedOn 39 = .ok (.aload_n 0, 1) := by decide +kernel
theorem dX0_savedOn_40 : decode cX0_savedOn 40 = .ok (.getfield 85, 3) := by decide +kernel
theorem dX0_savedOn_43 : decode cX0_savedOn 43 = .ok (.iload_n 1, 1) := by decide +kernel
theorem dX0_savedOn_44 : decode cX0_savedOn 44 = .ok (.aaload, 1) := by decide +kernel
theorem dX0_savedOn_45 : decode cX0_savedOn 45 = .ok (.getfield 491, 3) := by decide +kernel
theorem dX0_savedOn_48 : decode cX0_savedOn 48 = .ok (.aload_n 0, 1) := by decide +kernel
theorem dX0_savedOn_49 : decode cX0_savedOn 49 = .ok (.getfield 133, 3) := by decide +kernel
theorem dX0_savedOn_52 : decode cX0_savedOn 52 = .ok (.iload 4, 2) := by decide +kernel
theorem dX0_savedOn_54 : decode cX0_savedOn 54 = .ok (.aaload, 1) := by decide +kernel
theorem dX0_savedOn_55 : decode cX0_savedOn 55 = .ok (.getfield 494, 3) := by decide +kernel
theorem dX0_savedOn_58 : decode cX0_savedOn 58 = .ok (.imul, 1) := by decide +kernel
theorem dX0_savedOn_59 : decode cX0_savedOn 59 = .ok (.bipush 100, 2) := by decide +kernel
theorem dX0_savedOn_61 : decode cX0_savedOn 61 = .ok (.idiv, 1) := by decide +kernel
theorem dX0_savedOn_62 : decode cX0_savedOn 62 = .ok (.iadd, 1) := by decide +kernel
theorem dX0_savedOn_63 : decode cX0_savedOn 63 = .ok (.istore_n 3, 1) := by decide +kernel
theorem dX0_savedOn_64 : decode cX0_savedOn 64 = .ok (.iinc 4 1, 3) := by decide +kernel
theorem dX0_savedOn_67 : decode cX0_savedOn 67 = .ok (.goto (-62), 3) := by decide +kernel
theorem dX0_savedOn_70 : decode cX0_savedOn 70 = .ok (.iload_n 3, 1) := by decide +kernel
theorem dX0_savedOn_71 : decode cX0_savedOn 71 = .ok (.aload_n 0, 1) := by decide +kernel
theorem dX0_savedOn_72 : decode cX0_savedOn 72 = .ok (.getfield 85, 3) := by decide +kernel
theorem dX0_savedOn_75 : decode cX0_savedOn 75 = .ok (.iload_n 1, 1) := by decide +kernel
theorem dX0_savedOn_76 : decode cX0_savedOn 76 = .ok (.aaload, 1) := by decide +kernel
theorem dX0_savedOn_77 : decode cX0_savedOn 77 = .ok (.getfield 491, 3) := by decide +kernel
theorem dX0_savedOn_80 : decode cX0_savedOn 80 = .ok (.invokestatic 497, 3) := by decide +kernel
theorem dX0_savedOn_83 : decode cX0_savedOn 83 = .ok (.ireturn, 1) := by decide +kernel
section
variable {v : Int32}
noncomputable def x0_savedOn_B5 (F : Nat) (x1 : Int32) (x2 : Int32) (R : Int32 × Int32 × XS → XR Int32) (a : Int32 × Int32 × XS) : XR Int32 :=
  if (a.2.2.1.1 44) ≤ a.2.1 then (if okI x1 30 = true then (a.2.2.2.1 21 x1.toNatClampNeg).bind (fun n1 => (gI a.2.2 n1 [22] 1).bind (fun v1 => some (if v1 < a.1 then v1 else a.1, a.2.2, 0, 0))) else none) else (if ((x2 >>> (a.2.1 &&& 31)) &&& 1) = 1 then (if okI a.2.1 9 = true then (a.2.2.2.1 34 a.2.1.toNatClampNeg).bind (fun n2 => (gI a.2.2 n2 [25] 0).bind (fun v2 => if v2 = x1 then (if okI x1 30 = true then (a.2.2.2.1 21 x1.toNatClampNeg).bind (fun n3 => (gI a.2.2 n3 [22] 1).bind (fun v3 => if okI a.2.1 9 = true then (a.2.2.2.1 34 a.2.1.toNatClampNeg).bind (fun n4 => (gI a.2.2 n4 [25] 2).bind (fun v4 => nx (a.1 + ((v3 * v4) / 100) : Int32) (fun y1 => R (y1, a.2.1 + 1, a.2.2)))) else none)) else none) else (R (a.1, a.2.1 + 1, a.2.2)))) else none) else (R (a.1, a.2.1 + 1, a.2.2)))
theorem kx0_savedOn_B5 (M : XC γ cX0_savedOn 5 RX0 "savedOn" G o B 2 (some .int) (xQi G o B v τr) c0 s0) (x1 : Int32) (x2 : Int32) : ∀ R : Int32 × Int32 × XS → XR Int32, (∀ a c s, R a = some (v, τr, c, s) → ∀ k n, k + c ≤ c0 ∧ n + s ≤ s0 → J γ (XW G o B a.2.2) k n 5 [(0, .ref o), (1, .int x1), (2, .int x2), (3, .int a.1), (4, .int a.2.1)] []) → ∀ a c s, x0_savedOn_B5 F x1 x2 R a = some (v, τr, c, s) → ∀ k n, k + c ≤ c0 ∧ n + s ≤ s0 → J γ (XW G o B a.2.2) k n 5 [(0, .ref o), (1, .int x1), (2, .int x2), (3, .int a.1), (4, .int a.2.1)] [] := by
  intro R hR a c s hf k n hkn
  unfold x0_savedOn_B5 at hf
  refine j_iload (pc := 5) M.1 dX0_savedOn_5 4 rfl ?_
  refine j_aload_n (pc := 7) M.1 dX0_savedOn_7 0 rfl ?_
  refine jx_getS (pc := 8) M xfs_483 dX0_savedOn_8 ?_
  refine j_icmp_ge (pc := 11) M.1 70 dX0_savedOn_11 rfl (fun b1 => ?_) (fun b1 => ?_)
  · replace hf := o_pos b1 hf
    refine j_iload_n (pc := 70) M.1 dX0_savedOn_70 3 rfl ?_
    refine j_aload_n (pc := 71) M.1 dX0_savedOn_71 0 rfl ?_
    refine jx_getA (pc := 72) M xfa_85 dX0_savedOn_72 ?_
    refine j_iload_n (pc := 75) M.1 dX0_savedOn_75 1 rfl ?_
    obtain ⟨b2, hf⟩ := o_need hf
    obtain ⟨n1, g1, hf⟩ := o_bind hf
    refine jx_aald (pc := 76) M xax_21 (by decide) xrt_10 b2 g1 dX0_savedOn_76 ?_
    obtain ⟨v1, g2, hf⟩ := o_bind hf
    refine jx_getI (pc := 77) M xfl_X0_491 g2 dX0_savedOn_77 ?_
    refine j_min (pc := 80) M.1 q1324 (M.room (by decide)) (by rw [M.2.2.2.2.1]; exact kn_le0 hkn) rfl dX0_savedOn_80 ?_
    exact jx_iretF (pc := 83) M dX0_savedOn_83 hf hkn
  · replace hf := o_neg b1 hf
    refine j_iload_n (pc := 14) M.1 dX0_savedOn_14 2 rfl ?_
    refine j_iload (pc := 15) M.1 dX0_savedOn_15 4 rfl ?_
    refine j_ishr (pc := 17) M.1 dX0_savedOn_17 ?_
    refine j_iconst (pc := 18) M.1 dX0_savedOn_18 kc_iconst_1 ?_
    refine j_iand (pc := 19) M.1 dX0_savedOn_19 ?_
    refine j_iconst (pc := 20) M.1 dX0_savedOn_20 kc_iconst_1 ?_
    refine j_icmp_ne (pc := 21) M.1 64 dX0_savedOn_21 rfl (fun b3 => ?_) (fun b3 => ?_)
    · replace hf := o_neg b3 hf
      refine j_iinc (pc := 64) M.1 [(4, .int (a.2.1 + 1)), (0, .ref o), (1, .int x1), (2, .int x2), (3, .int a.1)] dX0_savedOn_64 4 rfl (congrArg _ kc_iconst_1) rfl rfl ?_
      refine j_goto (pc := 67) M.1 5 dX0_savedOn_67 rfl ?_
      refine j_sub [1, 2, 3, 4, 0] (show lv_pick _ _ = [(0, .ref o), (1, .int x1), (2, .int x2), (3, .int a.1), (4, .int (a.2.1 + 1))] from rfl) ?_
      have hy := hR _ _ _ hf _ _ hkn
      exact hy
    · replace hf := o_pos b3 hf
      refine j_aload_n (pc := 24) M.1 dX0_savedOn_24 0 rfl ?_
      refine jx_getA (pc := 25) M xfa_133 dX0_savedOn_25 ?_
      refine j_iload (pc := 28) M.1 dX0_savedOn_28 4 rfl ?_
      obtain ⟨b4, hf⟩ := o_need hf
      obtain ⟨n2, g3, hf⟩ := o_bind hf
      refine jx_aald (pc := 30) M xax_34 (by decide) xrt_13 b4 g3 dX0_savedOn_30 ?_
      obtain ⟨v2, g4, hf⟩ := o_bind hf
      refine jx_getI (pc := 31) M xfl_X0_490 g4 dX0_savedOn_31 ?_
      refine j_iload_n (pc := 34) M.1 dX0_savedOn_34 1 rfl ?_
      refine j_icmp_ne (pc := 35) M.1 64 dX0_savedOn_35 rfl (fun b5 => ?_) (fun b5 => ?_)
      · replace hf := o_neg b5 hf
        refine j_iinc (pc := 64) M.1 [(4, .int (a.2.1 + 1)), (0, .ref o), (1, .int x1), (2, .int x2), (3, .int a.1)] dX0_savedOn_64 4 rfl (congrArg _ kc_iconst_1) rfl rfl ?_
        refine j_goto (pc := 67) M.1 5 dX0_savedOn_67 rfl ?_
        refine j_sub [1, 2, 3, 4, 0] (show lv_pick _ _ = [(0, .ref o), (1, .int x1), (2, .int x2), (3, .int a.1), (4, .int (a.2.1 + 1))] from rfl) ?_
        have hy := hR _ _ _ hf _ _ hkn
        exact hy
      · replace hf := o_pos b5 hf
        refine j_iload_n (pc := 38) M.1 dX0_savedOn_38 3 rfl ?_
        refine j_aload_n (pc := 39) M.1 dX0_savedOn_39 0 rfl ?_
        refine jx_getA (pc := 40) M xfa_85 dX0_savedOn_40 ?_
        refine j_iload_n (pc := 43) M.1 dX0_savedOn_43 1 rfl ?_
        obtain ⟨b6, hf⟩ := o_need hf
        obtain ⟨n3, g5, hf⟩ := o_bind hf
        refine jx_aald (pc := 44) M xax_21 (by decide) xrt_10 b6 g5 dX0_savedOn_44 ?_
        obtain ⟨v3, g6, hf⟩ := o_bind hf
        refine jx_getI (pc := 45) M xfl_X0_491 g6 dX0_savedOn_45 ?_
        refine j_aload_n (pc := 48) M.1 dX0_savedOn_48 0 rfl ?_
        refine jx_getA (pc := 49) M xfa_133 dX0_savedOn_49 ?_
        refine j_iload (pc := 52) M.1 dX0_savedOn_52 4 rfl ?_
        obtain ⟨b7, hf⟩ := o_need hf
        obtain ⟨n4, g7, hf⟩ := o_bind hf
        refine jx_aald (pc := 54) M xax_34 (by decide) xrt_13 b7 g7 dX0_savedOn_54 ?_
        obtain ⟨v4, g8, hf⟩ := o_bind hf
        refine jx_getI (pc := 55) M xfl_X0_494 g8 dX0_savedOn_55 ?_
        refine j_imul (pc := 58) M.1 dX0_savedOn_58 ?_
        refine j_bipush (pc := 59) M.1 dX0_savedOn_59 kc_bipush_100 ?_
        refine j_idiv (pc := 61) M.1 dX0_savedOn_61 (by decide) ?_
        refine j_iadd (pc := 62) M.1 dX0_savedOn_62 ?_
        obtain ⟨y1, e1, hf⟩ := o_nx hf
        refine j_top e1 ?_
        refine j_istore_n (pc := 63) M.1 [(3, .int y1), (0, .ref o), (1, .int x1), (2, .int x2), (4, .int a.2.1)] dX0_savedOn_63 rfl rfl ?_
        refine j_iinc (pc := 64) M.1 [(4, .int (a.2.1 + 1)), (3, .int y1), (0, .ref o), (1, .int x1), (2, .int x2)] dX0_savedOn_64 4 rfl (congrArg _ kc_iconst_1) rfl rfl ?_
        refine j_goto (pc := 67) M.1 5 dX0_savedOn_67 rfl ?_
        refine j_sub [2, 3, 4, 1, 0] (show lv_pick _ _ = [(0, .ref o), (1, .int x1), (2, .int x2), (3, .int y1), (4, .int (a.2.1 + 1))] from rfl) ?_
        have hy := hR _ _ _ hf _ _ hkn
        exact hy
noncomputable def x0_savedOn (F : Nat) (x1 : Int32) (x2 : Int32) (τ : XS) : XR Int32 :=
  lp (x0_savedOn_B5 F x1 x2) F (0, 0, τ)
theorem met_x0_savedOn {l : Launch} {G : gG} {o B F : Nat} {x1 : Int32} {x2 : Int32} {τ : XS} {r : Int32 × XS × Nat × Nat} (hf : x0_savedOn F x1 x2 τ = some r) : MetX l G o B yX0_savedOn cX0_savedOn 5 (some .int) 2 [.ref o, .int x1, .int x2] τ (xQi G o B r.1 r.2.1) r.2.2.1 r.2.2.2 := by
  obtain ⟨v, τr, c, s⟩ := r
  refine metX_of (own := RX0) (mn := "savedOn") (by decide) rfl rfl rfl (fun γ hγ M => ?_)
  subst hγ
  show J γ (XW G o B τ) 0 0 0 [(0, .ref o), (1, .int x1), (2, .int x2)] []
  have hkn : 0 + c ≤ c ∧ 0 + s ≤ s := ⟨by omega, by omega⟩
  unfold x0_savedOn at hf
  refine j_iconst (pc := 0) M.1 dX0_savedOn_0 kc_iconst_0 ?_
  refine j_istore_n (pc := 1) M.1 [(3, .int 0), (0, .ref o), (1, .int x1), (2, .int x2)] dX0_savedOn_1 rfl rfl ?_
  refine j_iconst (pc := 2) M.1 dX0_savedOn_2 kc_iconst_0 ?_
  refine j_istore (pc := 3) M.1 [(4, .int 0), (3, .int 0), (0, .ref o), (1, .int x1), (2, .int x2)] dX0_savedOn_3 rfl rfl ?_
  refine j_sub [2, 3, 4, 1, 0] (show lv_pick _ _ = [(0, .ref o), (1, .int x1), (2, .int x2), (3, .int 0), (4, .int 0)] from rfl) ?_
  refine lp_Wc (kx0_savedOn_B5 M x1 x2) F (0, 0, τ) _ _ hf _ _ hkn
end
theorem dX0_savedBy_0 : decode cX0_savedBy 0 = .ok (.iconst 0, 1) := by decide +kernel
theorem dX0_savedBy_1 : decode cX0_savedBy 1 = .ok (.istore_n 2, 1) := by decide +kernel
theorem dX0_savedBy_2 : decode cX0_savedBy 2 = .ok (.iconst 0, 1) := by decide +kernel
theorem dX0_savedBy_3 : decode cX0_savedBy 3 = .ok (.istore_n 3, 1) := by decide +kernel
theorem dX0_savedBy_4 : decode cX0_savedBy 4 = .ok (.iload_n 3, 1) := by decide +kernel
theorem dX0_savedBy_5 : decode cX0_savedBy 5 = .ok (.aload_n 0, 1) := by decide +kernel
theorem dX0_savedBy_6 : decode cX0_savedBy 6 = .ok (.getfield 430, 3) := by decide +kernel
theorem dX0_savedBy_9 : decode cX0_savedBy 9 = .ok (.if_icmp .ge 18, 3) := by decide +kernel
theorem dX0_savedBy_12 : decode cX0_savedBy 12 = .ok (.iload_n 2, 1) := by decide +kernel
theorem dX0_savedBy_13 : decode cX0_savedBy 13 = .ok (.aload_n 0, 1) := by decide +kernel
theorem dX0_savedBy_14 : decode cX0_savedBy 14 = .ok (.iload_n 3, 1) := by decide +kernel
theorem dX0_savedBy_15 : decode cX0_savedBy 15 = .ok (.iload_n 1, 1) := by decide +kernel
theorem dX0_savedBy_16 : decode cX0_savedBy 16 = .ok (.invokevirtual 500, 3) := by decide +kernel
theorem dX0_savedBy_19 : decode cX0_savedBy 19 = .ok (.iadd, 1) := by decide +kernel
theorem dX0_savedBy_20 : decode cX0_savedBy 20 = .ok (.istore_n 2, 1) := by decide +kernel
theorem dX0_savedBy_21 : decode cX0_savedBy 21 = .ok (.iinc 3 1, 3) := by decide +kernel
theorem dX0_savedBy_24 : decode cX0_savedBy 24 = .ok (.goto (-20), 3) := by decide +kernel
theorem dX0_savedBy_27 : decode cX0_savedBy 27 = .ok (.iload_n 2, 1) := by decide +kernel
theorem dX0_savedBy_28 : decode cX0_savedBy 28 = .ok (.ireturn, 1) := by decide +kernel
section
variable {v : Int32}
noncomputable def x0_savedBy_B4 (F : Nat) (x1 : Int32) (R : Int32 × Int32 × XS → XR Int32) (a : Int32 × Int32 × XS) : XR Int32 :=
  if (a.2.2.1.1 26) ≤ a.2.1 then (some (a.1, a.2.2, 0, 0)) else ((x0_savedOn F a.2.1 x1 a.2.2).bind (fun r1 => tk r1.2.2.1 r1.2.2.2 (R (a.1 + r1.1, a.2.1 + 1, r1.2.1))))
theorem kx0_savedBy_B4 (M : XC γ cX0_savedBy 4 RX0 "savedBy" G o B 3 (some .int) (xQi G o B v τr) c0 s0) (x1 : Int32) : ∀ R : Int32 × Int32 × XS → XR Int32, (∀ a c s, R a = some (v, τr, c, s) → ∀ k n, k + c ≤ c0 ∧ n + s ≤ s0 → J γ (XW G o B a.2.2) k n 4 [(0, .ref o), (1, .int x1), (2, .int a.1), (3, .int a.2.1)] []) → ∀ a c s, x0_savedBy_B4 F x1 R a = some (v, τr, c, s) → ∀ k n, k + c ≤ c0 ∧ n + s ≤ s0 → J γ (XW G o B a.2.2) k n 4 [(0, .ref o), (1, .int x1), (2, .int a.1), (3, .int a.2.1)] [] := by
  intro R hR a c s hf k n hkn
  unfold x0_savedBy_B4 at hf
  refine j_iload_n (pc := 4) M.1 dX0_savedBy_4 3 rfl ?_
  refine j_aload_n (pc := 5) M.1 dX0_savedBy_5 0 rfl ?_
  refine jx_getS (pc := 6) M xfs_430 dX0_savedBy_6 ?_
  refine j_icmp_ge (pc := 9) M.1 27 dX0_savedBy_9 rfl (fun b1 => ?_) (fun b1 => ?_)
  · replace hf := o_pos b1 hf
    refine j_iload_n (pc := 27) M.1 dX0_savedBy_27 2 rfl ?_
    exact jx_iretF (pc := 28) M dX0_savedBy_28 hf hkn
  · replace hf := o_neg b1 hf
    refine j_iload_n (pc := 12) M.1 dX0_savedBy_12 2 rfl ?_
    refine j_aload_n (pc := 13) M.1 dX0_savedBy_13 0 rfl ?_
    refine j_iload_n (pc := 14) M.1 dX0_savedBy_14 3 rfl ?_
    refine j_iload_n (pc := 15) M.1 dX0_savedBy_15 1 rfl ?_
    obtain ⟨r1, g1, hf⟩ := o_bind hf
    obtain ⟨c1, s1, hf, hc1, hs1⟩ := o_tk hf
    replace hkn := kn_step hkn hc1 hs1
    refine jx_i M (x_runV (pc := 16) (As := [.int a.2.1, .int x1]) (rest := [.int a.1]) (V := xV o a.2.2) M xcw_X0_500 (met_x0_savedOn g1) (fun H h => h.1 o _ xH_o) (by decide) rfl rfl rfl dX0_savedBy_16 (kn_le hkn)) ?_
    refine j_iadd (pc := 19) M.1 dX0_savedBy_19 ?_
    refine j_istore_n (pc := 20) M.1 [(2, .int (a.1 + r1.1)), (0, .ref o), (1, .int x1), (3, .int a.2.1)] dX0_savedBy_20 rfl rfl ?_
    refine j_iinc (pc := 21) M.1 [(3, .int (a.2.1 + 1)), (2, .int (a.1 + r1.1)), (0, .ref o), (1, .int x1)] dX0_savedBy_21 3 rfl (congrArg _ kc_iconst_1) rfl rfl ?_
    refine j_goto (pc := 24) M.1 4 dX0_savedBy_24 rfl ?_
    refine j_sub [2, 3, 1, 0] (show lv_pick _ _ = [(0, .ref o), (1, .int x1), (2, .int (a.1 + r1.1)), (3, .int (a.2.1 + 1))] from rfl) ?_
    have hy := hR _ _ _ hf _ _ hkn
    exact hy
noncomputable def x0_savedBy (F : Nat) (x1 : Int32) (τ : XS) : XR Int32 :=
  lp (x0_savedBy_B4 F x1) F (0, 0, τ)
theorem met_x0_savedBy {l : Launch} {G : gG} {o B F : Nat} {x1 : Int32} {τ : XS} {r : Int32 × XS × Nat × Nat} (hf : x0_savedBy F x1 τ = some r) : MetX l G o B yX0_savedBy cX0_savedBy 4 (some .int) 3 [.ref o, .int x1] τ (xQi G o B r.1 r.2.1) r.2.2.1 r.2.2.2 := by
  obtain ⟨v, τr, c, s⟩ := r
  refine metX_of (own := RX0) (mn := "savedBy") (by decide) rfl rfl rfl (fun γ hγ M => ?_)
  subst hγ
  show J γ (XW G o B τ) 0 0 0 [(0, .ref o), (1, .int x1)] []
  have hkn : 0 + c ≤ c ∧ 0 + s ≤ s := ⟨by omega, by omega⟩
  unfold x0_savedBy at hf
  refine j_iconst (pc := 0) M.1 dX0_savedBy_0 kc_iconst_0 ?_
  refine j_istore_n (pc := 1) M.1 [(2, .int 0), (0, .ref o), (1, .int x1)] dX0_savedBy_1 rfl rfl ?_
  refine j_iconst (pc := 2) M.1 dX0_savedBy_2 kc_iconst_0 ?_
  refine j_istore_n (pc := 3) M.1 [(3, .int 0), (2, .int 0), (0, .ref o), (1, .int x1)] dX0_savedBy_3 rfl rfl ?_
  refine j_sub [2, 3, 1, 0] (show lv_pick _ _ = [(0, .ref o), (1, .int x1), (2, .int 0), (3, .int 0)] from rfl) ?_
  refine lp_Wc (kx0_savedBy_B4 M x1) F (0, 0, τ) _ _ hf _ _ hkn
end
theorem dX0_best_0 : decode cX0_best 0 = .ok (.iload_n 1, 1) := by decide +kernel
theorem dX0_best_1 : decode cX0_best 1 = .ok (.ldc_w 503, 3) := by decide +kernel
theorem dX0_best_4 : decode cX0_best 4 = .ok (.invokestatic 137, 3) := by decide +kernel
theorem dX0_best_7 : decode cX0_best 7 = .ok (.ifCond .ne 5, 3) := by decide +kernel
theorem dX0_best_10 : decode cX0_best 10 = .ok (.iconst (-1), 1) := by decide +kernel
theorem dX0_best_11 : decode cX0_best 11 = .ok (.ireturn, 1) := by decide +kernel
theorem dX0_best_12 : decode cX0_best 12 = .ok (.iconst 0, 1) := by decide +kernel
theorem dX0_best_13 : decode cX0_best 13 = .ok (.istore_n 2, 1) := by decide +kernel
theorem dX0_best_14 : decode cX0_best 14 = .ok (.iconst 1, 1) := by decide +kernel
theorem dX0_best_15 : decode cX0_best 15 = .ok (.istore_n 3, 1) := by decide +kernel
theorem dX0_best_16 : decode cX0_best 16 = .ok (.iload_n 3, 1) := by decide +kernel
theorem dX0_best_17 : decode cX0_best 17 = .ok (.iconst 1, 1) := by decide +kernel
theorem dX0_best_18 : decode cX0_best 18 = .ok (.aload_n 0, 1) := by decide +kernel
theorem dX0_best_19 : decode cX0_best 19 = .ok (.getfield 483, 3) := by decide +kernel
theorem dX0_best_22 : decode cX0_best 22 = .ok (.ishl, 1) := by decide +kernel
theorem dX0_best_23 : decode cX0_best 23 = .ok (.if_icmp .ge 59, 3) := by decide +kernel
theorem dX0_best_26 : decode cX0_best 26 = .ok (.aload_n 0, 1) := by decide +kernel
theorem dX0_best_27 : decode cX0_best 27 = .ok (.iload_n 3, 1) := by decide +kernel
theorem dX0_best_28 : decode cX0_best 28 = .ok (.invokevirtual 504, 3) := by decide +kernel
theorem dX0_best_31 : decode cX0_best 31 = .ok (.iload_n 1, 1) := by decide +kernel
theorem dX0_best_32 : decode cX0_best 32 = .ok (.if_icmp .le 6, 3) := by decide +kernel
theorem dX0_best_35 : decode cX0_best 35 = .ok (.goto 41, 3) := by decide +kernel
theorem dX0_best_38 : decode cX0_best 38 = .ok (.aload_n 0, 1) := by decide +kernel
theorem dX0_best_39 : decode cX0_best 39 = .ok (.iload_n 3, 1) := by decide +kernel
theorem dX0_best_40 : decode cX0_best 40 = .ok (.invokevirtual 507, 3) := by decide +kernel
theorem dX0_best_43 : decode cX0_best 43 = .ok (.aload_n 0, 1) := by decide +kernel
theorem dX0_best_44 : decode cX0_best 44 = .ok (.iload_n 2, 1) := by decide +kernel
theorem dX0_best_45 : decode cX0_best 45 = .ok (.invokevirtual 507, 3) := by decide +kernel
theorem dX0_best_48 : decode cX0_best 48 = .ok (.isub, 1) := by decide +kernel
theorem dX0_best_49 : decode cX0_best 49 = .ok (.istore 4, 2) := by decide +kernel
theorem dX0_best_51 : decode cX0_best 51 = .ok (.iload 4, 2) := by decide +kernel
theorem dX0_best_53 : decode cX0_best 53 = .ok (.ifCond .gt 21, 3) := by decide +kernel
theorem dX0_best_56 : decode cX0_best 56 = .ok (.iload 4, 2) := by decide +kernel
theorem dX0_best_58 : decode cX0_best 58 = .ok (.ifCond .ne 18, 3) := by decide +kernel
theorem dX0_best_61 : decode cX0_best 61 = .ok (.aload_n 0, 1) := by decide +kernel
theorem dX0_best_62 : decode cX0_best 62 = .ok (.iload_n 3, 1) := by decide +kernel
theorem dX0_best_63 : decode cX0_best 63 = .ok (.invokevirtual 504, 3) := by decide +kernel
theorem dX0_best_66 : decode cX0_best 66 = .ok (.aload_n 0, 1) := by decide +kernel
theorem dX0_best_67 : decode cX0_best 67 = .ok (.iload_n 2, 1) := by decide +kernel
theorem dX0_best_68 : decode cX0_best 68 = .ok (.invokevirtual 504, 3) := by decide +kernel
theorem dX0_best_71 : decode cX0_best 71 = .ok (.if_icmp .ge 5, 3) := by decide +kernel
theorem dX0_best_74 : decode cX0_best 74 = .ok (.iload_n 3, 1) := by decide +kernel
theorem dX0_best_75 : decode cX0_best 75 = .ok (.istore_n 2, 1) := by decide +kernel
theorem dX0_best_76 : decode cX0_best 76 = .ok (.iinc 3 1, 3) := by decide +kernel
theorem dX0_best_79 : decode cX0_best 79 = .ok (.goto (-63), 3) := by decide +kernel
theorem dX0_best_82 : decode cX0_best 82 = .ok (.iload_n 2, 1) := by decide +kernel
theorem dX0_best_83 : decode cX0_best 83 = .ok (.ireturn, 1) := by decide +kernel
section
variable {v : Int32}
noncomputable def x0_best_B16 (F : Nat) (x1 : Int32) (R : Int32 × Int32 × XS → XR Int32) (a : Int32 × Int32 × XS) : XR Int32 :=
  if (1 <<< ((a.2.2.1.1 44) &&& 31)) ≤ a.2.1 then (some (a.1, a.2.2, 0, 0)) else ((x0_costOf F a.2.1 a.2.2).bind (fun r1 => tk r1.2.2.1 r1.2.2.2 (if r1.1 ≤ x1 then ((x0_savedBy F a.2.1 r1.2.1).bind (fun r2 => tk r2.2.2.1 r2.2.2.2 ((x0_savedBy F a.1 r2.2.1).bind (fun r3 => tk r3.2.2.1 r3.2.2.2 (if 0 < (r2.1 - r3.1) then (R (a.2.1, a.2.1 + 1, r3.2.1)) else (if (r2.1 - r3.1) = 0 then ((x0_costOf F a.2.1 r3.2.1).bind (fun r4 => tk r4.2.2.1 r4.2.2.2 ((x0_costOf F a.1 r4.2.1).bind (fun r5 => tk r5.2.2.1 r5.2.2.2 (if r5.1 ≤ r4.1 then (R (a.1, a.2.1 + 1, r5.2.1)) else (R (a.2.1, a.2.1 + 1, r5.2.1))))))) else (R (a.1, a.2.1 + 1, r3.2.1)))))))) else (R (a.1, a.2.1 + 1, r1.2.1)))))
theorem kx0_best_B16 (M : XC γ cX0_best 5 RX0 "best" G o B 4 (some .int) (xQi G o B v τr) c0 s0) (x1 : Int32) : ∀ R : Int32 × Int32 × XS → XR Int32, (∀ a c s, R a = some (v, τr, c, s) → ∀ k n, k + c ≤ c0 ∧ n + s ≤ s0 → J γ (XW G o B a.2.2) k n 16 [(0, .ref o), (1, .int x1), (2, .int a.1), (3, .int a.2.1)] []) → ∀ a c s, x0_best_B16 F x1 R a = some (v, τr, c, s) → ∀ k n, k + c ≤ c0 ∧ n + s ≤ s0 → J γ (XW G o B a.2.2) k n 16 [(0, .ref o), (1, .int x1), (2, .int a.1), (3, .int a.2.1)] [] := by
  intro R hR a c s hf k n hkn
  unfold x0_best_B16 at hf
  refine j_iload_n (pc := 16) M.1 dX0_best_16 3 rfl ?_
  refine j_iconst (pc := 17) M.1 dX0_best_17 kc_iconst_1 ?_
  refine j_aload_n (pc := 18) M.1 dX0_best_18 0 rfl ?_
  refine jx_getS (pc := 19) M xfs_483 dX0_best_19 ?_
  refine j_ishl (pc := 22) M.1 dX0_best_22 ?_
  refine j_icmp_ge (pc := 23) M.1 82 dX0_best_23 rfl (fun b1 => ?_) (fun b1 => ?_)
  · replace hf := o_pos b1 hf
    refine j_iload_n (pc := 82) M.1 dX0_best_82 2 rfl ?_
    exact jx_iretF (pc := 83) M dX0_best_83 hf hkn
  · replace hf := o_neg b1 hf
    refine j_aload_n (pc := 26) M.1 dX0_best_26 0 rfl ?_
    refine j_iload_n (pc := 27) M.1 dX0_best_27 3 rfl ?_
    obtain ⟨r1, g1, hf⟩ := o_bind hf
    obtain ⟨c1, s1, hf, hc1, hs1⟩ := o_tk hf
    replace hkn := kn_step hkn hc1 hs1
    refine jx_i M (x_runV (pc := 28) (As := [.int a.2.1]) (rest := []) (V := xV o a.2.2) M xcw_X0_504 (met_x0_costOf g1) (fun H h => h.1 o _ xH_o) (by decide) rfl rfl rfl dX0_best_28 (kn_le hkn)) ?_
    refine j_iload_n (pc := 31) M.1 dX0_best_31 1 rfl ?_
    refine j_icmp_le (pc := 32) M.1 38 dX0_best_32 rfl (fun b2 => ?_) (fun b2 => ?_)
    · replace hf := o_pos b2 hf
      refine j_aload_n (pc := 38) M.1 dX0_best_38 0 rfl ?_
      refine j_iload_n (pc := 39) M.1 dX0_best_39 3 rfl ?_
      obtain ⟨r2, g2, hf⟩ := o_bind hf
      obtain ⟨c2, s2, hf, hc2, hs2⟩ := o_tk hf
      replace hkn := kn_step hkn hc2 hs2
      refine jx_i M (x_runV (pc := 40) (As := [.int a.2.1]) (rest := []) (V := xV o r1.2.1) M xcw_X0_507 (met_x0_savedBy g2) (fun H h => h.1 o _ xH_o) (by decide) rfl rfl rfl dX0_best_40 (kn_le hkn)) ?_
      refine j_aload_n (pc := 43) M.1 dX0_best_43 0 rfl ?_
      refine j_iload_n (pc := 44) M.1 dX0_best_44 2 rfl ?_
      obtain ⟨r3, g3, hf⟩ := o_bind hf
      obtain ⟨c3, s3, hf, hc3, hs3⟩ := o_tk hf
      replace hkn := kn_step hkn hc3 hs3
      refine jx_i M (x_runV (pc := 45) (As := [.int a.1]) (rest := [.int r2.1]) (V := xV o r2.2.1) M xcw_X0_507 (met_x0_savedBy g3) (fun H h => h.1 o _ xH_o) (by decide) rfl rfl rfl dX0_best_45 (kn_le hkn)) ?_
      refine j_isub (pc := 48) M.1 dX0_best_48 ?_
      refine j_istore (pc := 49) M.1 [(4, .int (r2.1 - r3.1)), (0, .ref o), (1, .int x1), (2, .int a.1), (3, .int a.2.1)] dX0_best_49 rfl rfl ?_
      refine j_iload (pc := 51) M.1 dX0_best_51 0 rfl ?_
      refine j_if_gt (pc := 53) M.1 74 dX0_best_53 rfl (fun b3 => ?_) (fun b3 => ?_)
      · replace hf := o_pos b3 hf
        refine j_iload_n (pc := 74) M.1 dX0_best_74 4 rfl ?_
        refine j_istore_n (pc := 75) M.1 [(2, .int a.2.1), (4, .int (r2.1 - r3.1)), (0, .ref o), (1, .int x1), (3, .int a.2.1)] dX0_best_75 rfl rfl ?_
        refine j_iinc (pc := 76) M.1 [(3, .int (a.2.1 + 1)), (2, .int a.2.1), (4, .int (r2.1 - r3.1)), (0, .ref o), (1, .int x1)] dX0_best_76 4 rfl (congrArg _ kc_iconst_1) rfl rfl ?_
        refine j_goto (pc := 79) M.1 16 dX0_best_79 rfl ?_
        refine j_sub [3, 4, 1, 0] (show lv_pick _ _ = [(0, .ref o), (1, .int x1), (2, .int a.2.1), (3, .int (a.2.1 + 1))] from rfl) ?_
        have hy := hR _ _ _ hf _ _ hkn
        exact hy
      · replace hf := o_neg b3 hf
        refine j_iload (pc := 56) M.1 dX0_best_56 0 rfl ?_
        refine j_if_ne (pc := 58) M.1 76 dX0_best_58 rfl (fun b4 => ?_) (fun b4 => ?_)
        · replace hf := o_neg b4 hf
          refine j_iinc (pc := 76) M.1 [(3, .int (a.2.1 + 1)), (4, .int (r2.1 - r3.1)), (0, .ref o), (1, .int x1), (2, .int a.1)] dX0_best_76 4 rfl (congrArg _ kc_iconst_1) rfl rfl ?_
          refine j_goto (pc := 79) M.1 16 dX0_best_79 rfl ?_
          refine j_sub [2, 3, 4, 0] (show lv_pick _ _ = [(0, .ref o), (1, .int x1), (2, .int a.1), (3, .int (a.2.1 + 1))] from rfl) ?_
          have hy := hR _ _ _ hf _ _ hkn
          exact hy
        · replace hf := o_pos b4 hf
          refine j_aload_n (pc := 61) M.1 dX0_best_61 1 rfl ?_
          refine j_iload_n (pc := 62) M.1 dX0_best_62 4 rfl ?_
          obtain ⟨r4, g4, hf⟩ := o_bind hf
          obtain ⟨c4, s4, hf, hc4, hs4⟩ := o_tk hf
          replace hkn := kn_step hkn hc4 hs4
          refine jx_i M (x_runV (pc := 63) (As := [.int a.2.1]) (rest := []) (V := xV o r3.2.1) M xcw_X0_504 (met_x0_costOf g4) (fun H h => h.1 o _ xH_o) (by decide) rfl rfl rfl dX0_best_63 (kn_le hkn)) ?_
          refine j_aload_n (pc := 66) M.1 dX0_best_66 1 rfl ?_
          refine j_iload_n (pc := 67) M.1 dX0_best_67 3 rfl ?_
          obtain ⟨r5, g5, hf⟩ := o_bind hf
          obtain ⟨c5, s5, hf, hc5, hs5⟩ := o_tk hf
          replace hkn := kn_step hkn hc5 hs5
          refine jx_i M (x_runV (pc := 68) (As := [.int a.1]) (rest := [.int r4.1]) (V := xV o r4.2.1) M xcw_X0_504 (met_x0_costOf g5) (fun H h => h.1 o _ xH_o) (by decide) rfl rfl rfl dX0_best_68 (kn_le hkn)) ?_
          refine j_icmp_ge (pc := 71) M.1 76 dX0_best_71 rfl (fun b5 => ?_) (fun b5 => ?_)
          · replace hf := o_pos b5 hf
            refine j_iinc (pc := 76) M.1 [(3, .int (a.2.1 + 1)), (4, .int (r2.1 - r3.1)), (0, .ref o), (1, .int x1), (2, .int a.1)] dX0_best_76 4 rfl (congrArg _ kc_iconst_1) rfl rfl ?_
            refine j_goto (pc := 79) M.1 16 dX0_best_79 rfl ?_
            refine j_sub [2, 3, 4, 0] (show lv_pick _ _ = [(0, .ref o), (1, .int x1), (2, .int a.1), (3, .int (a.2.1 + 1))] from rfl) ?_
            have hy := hR _ _ _ hf _ _ hkn
            exact hy
          · replace hf := o_neg b5 hf
            refine j_iload_n (pc := 74) M.1 dX0_best_74 4 rfl ?_
            refine j_istore_n (pc := 75) M.1 [(2, .int a.2.1), (4, .int (r2.1 - r3.1)), (0, .ref o), (1, .int x1), (3, .int a.2.1)] dX0_best_75 rfl rfl ?_
            refine j_iinc (pc := 76) M.1 [(3, .int (a.2.1 + 1)), (2, .int a.2.1), (4, .int (r2.1 - r3.1)), (0, .ref o), (1, .int x1)] dX0_best_76 4 rfl (congrArg _ kc_iconst_1) rfl rfl ?_
            refine j_goto (pc := 79) M.1 16 dX0_best_79 rfl ?_
            refine j_sub [3, 4, 1, 0] (show lv_pick _ _ = [(0, .ref o), (1, .int x1), (2, .int a.2.1), (3, .int (a.2.1 + 1))] from rfl) ?_
            have hy := hR _ _ _ hf _ _ hkn
            exact hy
    · replace hf := o_neg b2 hf
      refine j_goto (pc := 35) M.1 76 dX0_best_35 rfl ?_
      refine j_iinc (pc := 76) M.1 [(3, .int (a.2.1 + 1)), (0, .ref o), (1, .int x1), (2, .int a.1)] dX0_best_76 3 rfl (congrArg _ kc_iconst_1) rfl rfl ?_
      refine j_goto (pc := 79) M.1 16 dX0_best_79 rfl ?_
      refine j_sub [1, 2, 3, 0] (show lv_pick _ _ = [(0, .ref o), (1, .int x1), (2, .int a.1), (3, .int (a.2.1 + 1))] from rfl) ?_
      have hy := hR _ _ _ hf _ _ hkn
      exact hy
noncomputable def x0_best (F : Nat) (x1 : Int32) (τ : XS) : XR Int32 :=
  (x0_in F x1 100001).bind (fun r1 => if r1 = 0 then (some ((-1), τ, 0, 0)) else (lp (x0_best_B16 F x1) F (0, 1, τ)))
theorem met_x0_best {l : Launch} {G : gG} {o B F : Nat} {x1 : Int32} {τ : XS} {r : Int32 × XS × Nat × Nat} (hf : x0_best F x1 τ = some r) : MetX l G o B yX0_best cX0_best 5 (some .int) 4 [.ref o, .int x1] τ (xQi G o B r.1 r.2.1) r.2.2.1 r.2.2.2 := by
  obtain ⟨v, τr, c, s⟩ := r
  refine metX_of (own := RX0) (mn := "best") (by decide) rfl rfl rfl (fun γ hγ M => ?_)
  subst hγ
  show J γ (XW G o B τ) 0 0 0 [(0, .ref o), (1, .int x1)] []
  have hkn : 0 + c ≤ c ∧ 0 + s ≤ s := ⟨by omega, by omega⟩
  unfold x0_best at hf
  refine j_iload_n (pc := 0) M.1 dX0_best_0 1 rfl ?_
  refine j_ldcw (pc := 1) M.1 q1311 dX0_best_1 ?_
  obtain ⟨r1, g1, hf⟩ := o_bind hf
  refine jx_calls (pc := 4) (As := [.int x1, .int 100001]) (rest := []) M xcs_X0_137 (met_x0_in g1) rfl rfl rfl rfl dX0_best_4 (kn_le0 hkn) ?_
  refine j_if_ne (pc := 7) M.1 12 dX0_best_7 rfl (fun b1 => ?_) (fun b1 => ?_)
  · replace hf := o_neg b1 hf
    refine j_iconst (pc := 12) M.1 dX0_best_12 kc_iconst_0 ?_
    refine j_istore_n (pc := 13) M.1 [(2, .int 0), (0, .ref o), (1, .int x1)] dX0_best_13 rfl rfl ?_
    refine j_iconst (pc := 14) M.1 dX0_best_14 kc_iconst_1 ?_
    refine j_istore_n (pc := 15) M.1 [(3, .int 1), (2, .int 0), (0, .ref o), (1, .int x1)] dX0_best_15 rfl rfl ?_
    refine j_sub [2, 3, 1, 0] (show lv_pick _ _ = [(0, .ref o), (1, .int x1), (2, .int 0), (3, .int 1)] from rfl) ?_
    refine lp_Wc (kx0_best_B16 M x1) F (0, 1, τ) _ _ hf _ _ hkn
  · replace hf := o_pos b1 hf
    refine j_iconst (pc := 10) M.1 dX0_best_10 kc_iconst_m1 ?_
    exact jx_iretF (pc := 11) M dX0_best_11 hf hkn
end
theorem dX0_saves_0 : decode cX0_saves 0 = .ok (.iload_n 1, 1) := by decide +kernel
theorem dX0_saves_1 : decode cX0_saves 1 = .ok (.iconst 1, 1) := by decide +kernel
theorem dX0_saves_2 : decode cX0_saves 2 = .ok (.aload_n 0, 1) := by decide +kernel
theorem dX0_saves_3 : decode cX0_saves 3 = .ok (.getfield 483, 3) := by decide +kernel
theorem dX0_saves_6 : decode cX0_saves 6 = .ok (.ishl, 1) := by decide +kernel
theorem dX0_saves_7 : decode cX0_saves 7 = .ok (.invokestatic 137, 3) := by decide +kernel
theorem dX0_saves_10 : decode cX0_saves 10 = .ok (.ifCond .eq 11, 3) := by decide +kernel
theorem dX0_saves_13 : decode cX0_saves 13 = .ok (.aload_n 0, 1) := by decide +kernel
theorem dX0_saves_14 : decode cX0_saves 14 = .ok (.iload_n 1, 1) := by decide +kernel
theorem dX0_saves_15 : decode cX0_saves 15 = .ok (.invokevirtual 507, 3) := by decide +kernel
theorem dX0_saves_18 : decode cX0_saves 18 = .ok (.goto 4, 3) := by decide +kernel
theorem dX0_saves_21 : decode cX0_saves 21 = .ok (.iconst (-1), 1) := by decide +kernel
theorem dX0_saves_22 : decode cX0_saves 22 = .ok (.ireturn, 1) := by decide +kernel
section
variable {v : Int32}
noncomputable def x0_saves (F : Nat) (x1 : Int32) (τ : XS) : XR Int32 :=
  (x0_in F x1 (1 <<< ((τ.1.1 44) &&& 31))).bind (fun r1 => if r1 = 0 then (some ((-1), τ, 0, 0)) else ((x0_savedBy F x1 τ).bind (fun r2 => tk r2.2.2.1 r2.2.2.2 (some (r2.1, r2.2.1, 0, 0)))))
theorem met_x0_saves {l : Launch} {G : gG} {o B F : Nat} {x1 : Int32} {τ : XS} {r : Int32 × XS × Nat × Nat} (hf : x0_saves F x1 τ = some r) : MetX l G o B yX0_saves cX0_saves 2 (some .int) 4 [.ref o, .int x1] τ (xQi G o B r.1 r.2.1) r.2.2.1 r.2.2.2 := by
  obtain ⟨v, τr, c, s⟩ := r
  refine metX_of (own := RX0) (mn := "saves") (by decide) rfl rfl rfl (fun γ hγ M => ?_)
  subst hγ
  show J γ (XW G o B τ) 0 0 0 [(0, .ref o), (1, .int x1)] []
  have hkn : 0 + c ≤ c ∧ 0 + s ≤ s := ⟨by omega, by omega⟩
  unfold x0_saves at hf
  refine j_iload_n (pc := 0) M.1 dX0_saves_0 1 rfl ?_
  refine j_iconst (pc := 1) M.1 dX0_saves_1 kc_iconst_1 ?_
  refine j_aload_n (pc := 2) M.1 dX0_saves_2 0 rfl ?_
  refine jx_getS (pc := 3) M xfs_483 dX0_saves_3 ?_
  refine j_ishl (pc := 6) M.1 dX0_saves_6 ?_
  obtain ⟨r1, g1, hf⟩ := o_bind hf
  refine jx_calls (pc := 7) (As := [.int x1, .int (1 <<< ((τ.1.1 44) &&& 31))]) (rest := []) M xcs_X0_137 (met_x0_in g1) rfl rfl rfl rfl dX0_saves_7 (kn_le0 hkn) ?_
  refine j_if_eq (pc := 10) M.1 21 dX0_saves_10 rfl (fun b1 => ?_) (fun b1 => ?_)
  · replace hf := o_pos b1 hf
    refine j_iconst (pc := 21) M.1 dX0_saves_21 kc_iconst_m1 ?_
    exact jx_iretF (pc := 22) M dX0_saves_22 hf hkn
  · replace hf := o_neg b1 hf
    refine j_aload_n (pc := 13) M.1 dX0_saves_13 0 rfl ?_
    refine j_iload_n (pc := 14) M.1 dX0_saves_14 1 rfl ?_
    obtain ⟨r2, g2, hf⟩ := o_bind hf
    obtain ⟨c1, s1, hf, hc1, hs1⟩ := o_tk hf
    replace hkn := kn_step hkn hc1 hs1
    refine jx_i M (x_runV (pc := 15) (As := [.int x1]) (rest := []) (V := xV o τ) M xcw_X0_507 (met_x0_savedBy g2) (fun H h => h.1 o _ xH_o) (by decide) rfl rfl rfl dX0_saves_15 (kn_le hkn)) ?_
    refine j_goto (pc := 18) M.1 22 dX0_saves_18 rfl ?_
    exact jx_iretF (pc := 22) M dX0_saves_22 hf hkn
end
