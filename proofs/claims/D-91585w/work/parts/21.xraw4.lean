set_option maxRecDepth 100000
variable {γ : jG} {G : gG} {o B F c0 s0 : Nat} {τr : XS}
theorem dX0_wanted_0 : decode cX0_wanted 0 = .ok (.aload_n 0, 1) := by decide +kernel
theorem dX0_wanted_1 : decode cX0_wanted 1 = .ok (.bipush 97, 2) := by decide +kernel
theorem dX0_wanted_3 : decode cX0_wanted 3 = .ok (.new 305, 3) := by decide +kernel
theorem dX0_wanted_6 : decode cX0_wanted 6 = .ok (.dup, 1) := by decide +kernel
theorem dX0_wanted_7 : decode cX0_wanted 7 = .ok (.aload_n 1, 1) := by decide +kernel
theorem dX0_wanted_8 : decode cX0_wanted 8 = .ok (.getfield 357, 3) := by decide +kernel
theorem dX0_wanted_11 : decode cX0_wanted 11 = .ok (.aload_n 1, 1) := by decide +kernel
theorem dX0_wanted_12 : decode cX0_wanted 12 = .ok (.getfield 340, 3) := by decide +kernel
theorem dX0_wanted_15 : decode cX0_wanted 15 = .ok (.aload_n 1, 1) := by decide +kernel
theorem dX0_wanted_16 : decode cX0_wanted 16 = .ok (.getfield 352, 3) := by decide +kernel
theorem dX0_wanted_19 : decode cX0_wanted 19 = .ok (.aload_n 1, 1) := by decide +kernel
theorem dX0_wanted_20 : decode cX0_wanted 20 = .ok (.getfield 353, 3) := by decide +kernel
theorem dX0_wanted_23 : decode cX0_wanted 23 = .ok (.iconst (-1), 1) := by decide +kernel
theorem dX0_wanted_24 : decode cX0_wanted 24 = .ok (.invokespecial 319, 3) := by decide +kernel
theorem dX0_wanted_27 : decode cX0_wanted 27 = .ok (.bipush 8, 2) := by decide +kernel
theorem dX0_wanted_29 : decode cX0_wanted 29 = .ok (.invokevirtual 320, 3) := by decide +kernel
theorem dX0_wanted_32 : decode cX0_wanted 32 = .ok (.ireturn, 1) := by decide +kernel
section
variable {v : Int32}
noncomputable def x0_wanted (F : Nat) (x1 : Nat) (τ : XS) : XR Int32 :=
  nx (xN τ (.inr (19, fun q => defaultValue (tyX19 q)))) (fun τ1 => tk 1 6 ((gI τ1 x1 [20] 1).bind (fun v1 => (gI τ1 x1 [20] 0).bind (fun v2 => (gI τ1 x1 [20] 6).bind (fun v3 => (gI τ1 x1 [20] 7).bind (fun v4 => (x19_init F τ.2.2.2.2 v1 v2 v3 v4 ((-1)) τ1).bind (fun r1 => tk r1.2.2.1 r1.2.2.2 ((x0_numberOf F 97 τ.2.2.2.2 8 r1.2.1).bind (fun r2 => tk r2.2.2.1 r2.2.2.2 (some (r2.1, r2.2.1, 0, 0)))))))))))
theorem met_x0_wanted {l : Launch} {G : gG} {o B F : Nat} {x1 : Nat} {τ : XS} {r : Int32 × XS × Nat × Nat} (hf : x0_wanted F x1 τ = some r) : MetX l G o B yX0_wanted cX0_wanted 2 (some .int) 46 [.ref o, .ref x1] τ (xQi G o B r.1 r.2.1) r.2.2.1 r.2.2.2 := by
  obtain ⟨v, τr, c, s⟩ := r
  refine metX_of (own := RX0) (mn := "wanted") (by decide) rfl rfl rfl (fun γ hγ M => ?_)
  subst hγ
  show J γ (XW G o B τ) 0 0 0 [(0, .ref o), (1, .ref x1)] []
  have hkn : 0 + c ≤ c ∧ 0 + s ≤ s := ⟨by omega, by omega⟩
  unfold x0_wanted at hf
  refine j_aload_n (pc := 0) M.1 dX0_wanted_0 0 rfl ?_
  refine j_bipush (pc := 1) M.1 dX0_wanted_1 kc_bipush_97 ?_
  obtain ⟨τ1, e1, hf⟩ := o_nx hf
  obtain ⟨c1, s1, hf, hc1, hs1⟩ := o_tk hf
  replace hkn := kn_step hkn hc1 hs1
  refine jx_new (pc := 3) M xnew_X0_305 dX0_wanted_3 (kn_le hkn) e1 ?_
  refine j_dup (pc := 6) M.1 dX0_wanted_6 rfl ?_
  refine j_aload_n (pc := 7) M.1 dX0_wanted_7 1 rfl ?_
  obtain ⟨v1, g1, hf⟩ := o_bind hf
  refine jx_getI (pc := 8) M xfl_X0_357 g1 dX0_wanted_8 ?_
  refine j_aload_n (pc := 11) M.1 dX0_wanted_11 1 rfl ?_
  obtain ⟨v2, g2, hf⟩ := o_bind hf
  refine jx_getI (pc := 12) M xfl_X0_340 g2 dX0_wanted_12 ?_
  refine j_aload_n (pc := 15) M.1 dX0_wanted_15 1 rfl ?_
  obtain ⟨v3, g3, hf⟩ := o_bind hf
  refine jx_getI (pc := 16) M xfl_X0_352 g3 dX0_wanted_16 ?_
  refine j_aload_n (pc := 19) M.1 dX0_wanted_19 1 rfl ?_
  obtain ⟨v4, g4, hf⟩ := o_bind hf
  refine jx_getI (pc := 20) M xfl_X0_353 g4 dX0_wanted_20 ?_
  refine j_iconst (pc := 23) M.1 dX0_wanted_23 kc_iconst_m1 ?_
  obtain ⟨r1, g5, hf⟩ := o_bind hf
  obtain ⟨c2, s2, hf, hc2, hs2⟩ := o_tk hf
  replace hkn := kn_step hkn hc2 hs2
  refine jx_v (r := r1.1) M (x_runI (pc := 24) (As := [.int v1, .int v2, .int v3, .int v4, .int ((-1))]) (rest := [.ref τ.2.2.2.2, .int 97, .ref o]) M xci_X0_319 (met_x19_init g5) (by decide) rfl rfl rfl dX0_wanted_24 (kn_le hkn)) ?_
  refine j_bipush (pc := 27) M.1 dX0_wanted_27 kc_bipush_8 ?_
  obtain ⟨r2, g6, hf⟩ := o_bind hf
  obtain ⟨c3, s3, hf, hc3, hs3⟩ := o_tk hf
  replace hkn := kn_step hkn hc3 hs3
  refine jx_i M (x_runV (pc := 29) (As := [.int 97, .ref τ.2.2.2.2, .int 8]) (rest := []) (V := xV o r1.2.1) M xcw_X0_320 (met_x0_numberOf g6) (fun H h => h.1 o _ xH_o) (by decide) rfl rfl rfl dX0_wanted_29 (kn_le hkn)) ?_
  exact jx_iretF (pc := 32) M dX0_wanted_32 hf hkn
end
theorem dX0_like_0 : decode cX0_like 0 = .ok (.iload_n 1, 1) := by decide +kernel
theorem dX0_like_1 : decode cX0_like 1 = .ok (.aload_n 0, 1) := by decide +kernel
theorem dX0_like_2 : decode cX0_like 2 = .ok (.getfield 328, 3) := by decide +kernel
theorem dX0_like_5 : decode cX0_like 5 = .ok (.invokestatic 137, 3) := by decide +kernel
theorem dX0_like_8 : decode cX0_like 8 = .ok (.ifCond .eq 14, 3) := by decide +kernel
theorem dX0_like_11 : decode cX0_like 11 = .ok (.iload_n 2, 1) := by decide +kernel
theorem dX0_like_12 : decode cX0_like 12 = .ok (.aload_n 0, 1) := by decide +kernel
theorem dX0_like_13 : decode cX0_like 13 = .ok (.getfield 378, 3) := by decide +kernel
theorem dX0_like_16 : decode cX0_like 16 = .ok (.invokestatic 137, 3) := by decide +kernel
theorem dX0_like_19 : decode cX0_like 19 = .ok (.ifCond .ne 5, 3) := by decide +kernel
theorem dX0_like_22 : decode cX0_like 22 = .ok (.iconst (-1), 1) := by decide +kernel
theorem dX0_like_23 : decode cX0_like 23 = .ok (.ireturn, 1) := by decide +kernel
theorem dX0_like_24 : decode cX0_like 24 = .ok (.aload_n 0, 1) := by decide +kernel
theorem dX0_like_25 : decode cX0_like 25 = .ok (.getfield 65, 3) := by decide +kernel
theorem dX0_like_28 : decode cX0_like 28 = .ok (.iload_n 2, 1) := by decide +kernel
theorem dX0_like_29 : decode cX0_like 29 = .ok (.aaload, 1) := by decide +kernel
theorem dX0_like_30 : decode cX0_like 30 = .ok (.getfield 384, 3) := by decide +kernel
theorem dX0_like_33 : decode cX0_like 33 = .ok (.ifCond .ne 35, 3) := by decide +kernel
theorem dX0_like_36 : decode cX0_like 36 = .ok (.aload_n 0, 1) := by decide +kernel
theorem dX0_like_37 : decode cX0_like 37 = .ok (.getfield 59, 3) := by decide +kernel
theorem dX0_like_40 : decode cX0_like 40 = .ok (.iload_n 1, 1) := by decide +kernel
theorem dX0_like_41 : decode cX0_like 41 = .ok (.aaload, 1) := by decide +kernel
theorem dX0_like_42 : decode cX0_like 42 = .ok (.aload_n 0, 1) := by decide +kernel
theorem dX0_like_43 : decode cX0_like 43 = .ok (.getfield 65, 3) := by decide +kernel
theorem dX0_like_46 : decode cX0_like 46 = .ok (.iload_n 2, 1) := by decide +kernel
theorem dX0_like_47 : decode cX0_like 47 = .ok (.aaload, 1) := by decide +kernel
theorem dX0_like_48 : decode cX0_like 48 = .ok (.aload_n 0, 1) := by decide +kernel
theorem dX0_like_49 : decode cX0_like 49 = .ok (.aload_n 0, 1) := by decide +kernel
theorem dX0_like_50 : decode cX0_like 50 = .ok (.getfield 59, 3) := by decide +kernel
theorem dX0_like_53 : decode cX0_like 53 = .ok (.iload_n 1, 1) := by decide +kernel
theorem dX0_like_54 : decode cX0_like 54 = .ok (.aaload, 1) := by decide +kernel
theorem dX0_like_55 : decode cX0_like 55 = .ok (.invokevirtual 393, 3) := by decide +kernel
theorem dX0_like_58 : decode cX0_like 58 = .ok (.invokestatic 396, 3) := by decide +kernel
theorem dX0_like_61 : decode cX0_like 61 = .ok (.ifCond .eq 7, 3) := by decide +kernel
theorem dX0_like_64 : decode cX0_like 64 = .ok (.iconst 1, 1) := by decide +kernel
theorem dX0_like_65 : decode cX0_like 65 = .ok (.goto 4, 3) := by decide +kernel
theorem dX0_like_68 : decode cX0_like 68 = .ok (.iconst 0, 1) := by decide +kernel
theorem dX0_like_69 : decode cX0_like 69 = .ok (.ireturn, 1) := by decide +kernel
section
variable {v : Int32}
noncomputable def x0_like (F : Nat) (x1 : Int32) (x2 : Int32) (τ : XS) : XR Int32 :=
  (x0_in F x1 (τ.1.1 16)).bind (fun r1 => if r1 = 0 then (some ((-1), τ, 0, 0)) else ((x0_in F x2 (τ.1.1 18)).bind (fun r2 => if r2 = 0 then (some ((-1), τ, 0, 0)) else (if okI x2 60 = true then (τ.2.1 8 x2.toNatClampNeg).bind (fun n1 => (gI τ n1 [21] 3).bind (fun v1 => if v1 = 0 then (if okI x1 150 = true then (τ.2.1 7 x1.toNatClampNeg).bind (fun n2 => if okI x2 60 = true then (τ.2.1 8 x2.toNatClampNeg).bind (fun n3 => if okI x1 150 = true then (τ.2.1 7 x1.toNatClampNeg).bind (fun n4 => (x0_wanted F n4 τ).bind (fun r3 => tk r3.2.2.1 r3.2.2.2 ((x0_fits F n2 n3 r3.1 r3.2.1).bind (fun r4 => tk r4.2.2.1 r4.2.2.2 (if r4.1 = 0 then (some (0, r4.2.1, 0, 0)) else (some (1, r4.2.1, 0, 0))))))) else none) else none) else none) else (some (0, τ, 0, 0)))) else none))))
theorem met_x0_like {l : Launch} {G : gG} {o B F : Nat} {x1 : Int32} {x2 : Int32} {τ : XS} {r : Int32 × XS × Nat × Nat} (hf : x0_like F x1 x2 τ = some r) : MetX l G o B yX0_like cX0_like 3 (some .int) 47 [.ref o, .int x1, .int x2] τ (xQi G o B r.1 r.2.1) r.2.2.1 r.2.2.2 := by
  obtain ⟨v, τr, c, s⟩ := r
  refine metX_of (own := RX0) (mn := "like") (by decide) rfl rfl rfl (fun γ hγ M => ?_)
  subst hγ
  show J γ (XW G o B τ) 0 0 0 [(0, .ref o), (1, .int x1), (2, .int x2)] []
  have hkn : 0 + c ≤ c ∧ 0 + s ≤ s := ⟨by omega, by omega⟩
  unfold x0_like at hf
  refine j_iload_n (pc := 0) M.1 dX0_like_0 1 rfl ?_
  refine j_aload_n (pc := 1) M.1 dX0_like_1 0 rfl ?_
  refine jx_getS (pc := 2) M xfs_328 dX0_like_2 ?_
  obtain ⟨r1, g1, hf⟩ := o_bind hf
  refine jx_calls (pc := 5) (As := [.int x1, .int (τ.1.1 16)]) (rest := []) M xcs_X0_137 (met_x0_in g1) rfl rfl rfl rfl dX0_like_5 (kn_le0 hkn) ?_
  refine j_if_eq (pc := 8) M.1 22 dX0_like_8 rfl (fun b1 => ?_) (fun b1 => ?_)
  · replace hf := o_pos b1 hf
    refine j_iconst (pc := 22) M.1 dX0_like_22 kc_iconst_m1 ?_
    exact jx_iretF (pc := 23) M dX0_like_23 hf hkn
  · replace hf := o_neg b1 hf
    refine j_iload_n (pc := 11) M.1 dX0_like_11 2 rfl ?_
    refine j_aload_n (pc := 12) M.1 dX0_like_12 0 rfl ?_
    refine jx_getS (pc := 13) M xfs_378 dX0_like_13 ?_
    obtain ⟨r2, g2, hf⟩ := o_bind hf
    refine jx_calls (pc := 16) (As := [.int x2, .int (τ.1.1 18)]) (rest := []) M xcs_X0_137 (met_x0_in g2) rfl rfl rfl rfl dX0_like_16 (kn_le0 hkn) ?_
    refine j_if_ne (pc := 19) M.1 24 dX0_like_19 rfl (fun b2 => ?_) (fun b2 => ?_)
    · replace hf := o_neg b2 hf
      refine j_aload_n (pc := 24) M.1 dX0_like_24 0 rfl ?_
      refine jx_getA (pc := 25) M xfa_65 dX0_like_25 ?_
      refine j_iload_n (pc := 28) M.1 dX0_like_28 2 rfl ?_
      obtain ⟨b3, hf⟩ := o_need hf
      obtain ⟨n1, g3, hf⟩ := o_bind hf
      refine jx_aald (pc := 29) M xax_8 (by decide) xrt_8 b3 g3 dX0_like_29 ?_
      obtain ⟨v1, g4, hf⟩ := o_bind hf
      refine jx_getI (pc := 30) M xfl_X0_384 g4 dX0_like_30 ?_
      refine j_if_ne (pc := 33) M.1 68 dX0_like_33 rfl (fun b4 => ?_) (fun b4 => ?_)
      · replace hf := o_neg b4 hf
        refine j_iconst (pc := 68) M.1 dX0_like_68 kc_iconst_0 ?_
        exact jx_iretF (pc := 69) M dX0_like_69 hf hkn
      · replace hf := o_pos b4 hf
        refine j_aload_n (pc := 36) M.1 dX0_like_36 0 rfl ?_
        refine jx_getA (pc := 37) M xfa_59 dX0_like_37 ?_
        refine j_iload_n (pc := 40) M.1 dX0_like_40 1 rfl ?_
        obtain ⟨b5, hf⟩ := o_need hf
        obtain ⟨n2, g5, hf⟩ := o_bind hf
        refine jx_aald (pc := 41) M xax_7 (by decide) xrt_7 b5 g5 dX0_like_41 ?_
        refine j_aload_n (pc := 42) M.1 dX0_like_42 0 rfl ?_
        refine jx_getA (pc := 43) M xfa_65 dX0_like_43 ?_
        refine j_iload_n (pc := 46) M.1 dX0_like_46 2 rfl ?_
        obtain ⟨b6, hf⟩ := o_need hf
        obtain ⟨n3, g6, hf⟩ := o_bind hf
        refine jx_aald (pc := 47) M xax_8 (by decide) xrt_8 b6 g6 dX0_like_47 ?_
        refine j_aload_n (pc := 48) M.1 dX0_like_48 0 rfl ?_
        refine j_aload_n (pc := 49) M.1 dX0_like_49 0 rfl ?_
        refine jx_getA (pc := 50) M xfa_59 dX0_like_50 ?_
        refine j_iload_n (pc := 53) M.1 dX0_like_53 1 rfl ?_
        obtain ⟨b7, hf⟩ := o_need hf
        obtain ⟨n4, g7, hf⟩ := o_bind hf
        refine jx_aald (pc := 54) M xax_7 (by decide) xrt_7 b7 g7 dX0_like_54 ?_
        obtain ⟨r3, g8, hf⟩ := o_bind hf
        obtain ⟨c1, s1, hf, hc1, hs1⟩ := o_tk hf
        replace hkn := kn_step hkn hc1 hs1
        refine jx_i M (x_runV (pc := 55) (As := [.ref n4]) (rest := [.ref n3, .ref n2]) (V := xV o τ) M xcw_X0_393 (met_x0_wanted g8) (fun H h => h.1 o _ xH_o) (by decide) rfl rfl rfl dX0_like_55 (kn_le hkn)) ?_
        obtain ⟨r4, g9, hf⟩ := o_bind hf
        obtain ⟨c2, s2, hf, hc2, hs2⟩ := o_tk hf
        replace hkn := kn_step hkn hc2 hs2
        refine jx_i M (x_runS (pc := 58) (As := [.ref n2, .ref n3, .int r3.1]) (rest := []) M xcs_X0_396 (met_x0_fits g9) (by decide) rfl rfl rfl dX0_like_58 (kn_le hkn)) ?_
        refine j_if_eq (pc := 61) M.1 68 dX0_like_61 rfl (fun b8 => ?_) (fun b8 => ?_)
        · replace hf := o_pos b8 hf
          refine j_iconst (pc := 68) M.1 dX0_like_68 kc_iconst_0 ?_
          exact jx_iretF (pc := 69) M dX0_like_69 hf hkn
        · replace hf := o_neg b8 hf
          refine j_iconst (pc := 64) M.1 dX0_like_64 kc_iconst_1 ?_
          refine j_goto (pc := 65) M.1 69 dX0_like_65 rfl ?_
          exact jx_iretF (pc := 69) M dX0_like_69 hf hkn
    · replace hf := o_pos b2 hf
      refine j_iconst (pc := 22) M.1 dX0_like_22 kc_iconst_m1 ?_
      exact jx_iretF (pc := 23) M dX0_like_23 hf hkn
end
theorem dX0_asks_0 : decode cX0_asks 0 = .ok (.aload_n 0, 1) := by decide +kernel
theorem dX0_asks_1 : decode cX0_asks 1 = .ok (.iload_n 1, 1) := by decide +kernel
theorem dX0_asks_2 : decode cX0_asks 2 = .ok (.putfield 400, 3) := by decide +kernel
theorem dX0_asks_5 : decode cX0_asks 5 = .ok (.iconst 0, 1) := by decide +kernel
theorem dX0_asks_6 : decode cX0_asks 6 = .ok (.istore_n 2, 1) := by decide +kernel
theorem dX0_asks_7 : decode cX0_asks 7 = .ok (.iload_n 2, 1) := by decide +kernel
theorem dX0_asks_8 : decode cX0_asks 8 = .ok (.iload_n 1, 1) := by decide +kernel
theorem dX0_asks_9 : decode cX0_asks 9 = .ok (.if_icmp .ge 70, 3) := by decide +kernel
theorem dX0_asks_12 : decode cX0_asks 12 = .ok (.aload_n 0, 1) := by decide +kernel
theorem dX0_asks_13 : decode cX0_asks 13 = .ok (.getfield 69, 3) := by decide +kernel
theorem dX0_asks_16 : decode cX0_asks 16 = .ok (.iload_n 2, 1) := by decide +kernel
theorem dX0_asks_17 : decode cX0_asks 17 = .ok (.aload_n 0, 1) := by decide +kernel
theorem dX0_asks_18 : decode cX0_asks 18 = .ok (.getfield 41, 3) := by decide +kernel
theorem dX0_asks_21 : decode cX0_asks 21 = .ok (.iload_n 2, 1) := by decide +kernel
theorem dX0_asks_22 : decode cX0_asks 22 = .ok (.baload, 1) := by decide +kernel
theorem dX0_asks_23 : decode cX0_asks 23 = .ok (.sipush 255, 3) := by decide +kernel
theorem dX0_asks_26 : decode cX0_asks 26 = .ok (.iand, 1) := by decide +kernel
theorem dX0_asks_27 : decode cX0_asks 27 = .ok (.iastore, 1) := by decide +kernel
theorem dX0_asks_28 : decode cX0_asks 28 = .ok (.aload_n 0, 1) := by decide +kernel
theorem dX0_asks_29 : decode cX0_asks 29 = .ok (.getfield 69, 3) := by decide +kernel
theorem dX0_asks_32 : decode cX0_asks 32 = .ok (.iload_n 2, 1) := by decide +kernel
theorem dX0_asks_33 : decode cX0_asks 33 = .ok (.iaload, 1) := by decide +kernel
theorem dX0_asks_34 : decode cX0_asks 34 = .ok (.aload_n 0, 1) := by decide +kernel
theorem dX0_asks_35 : decode cX0_asks 35 = .ok (.getfield 328, 3) := by decide +kernel
theorem dX0_asks_38 : decode cX0_asks 38 = .ok (.if_icmp .lt 5, 3) := by decide +kernel
theorem dX0_asks_41 : decode cX0_asks 41 = .ok (.iconst 0, 1) := by decide +kernel
theorem dX0_asks_42 : decode cX0_asks 42 = .ok (.ireturn, 1) := by decide +kernel
theorem dX0_asks_43 : decode cX0_asks 43 = .ok (.iconst 0, 1) := by decide +kernel
theorem dX0_asks_44 : decode cX0_asks 44 = .ok (.istore_n 3, 1) := by decide +kernel
theorem dX0_asks_45 : decode cX0_asks 45 = .ok (.iload_n 3, 1) := by decide +kernel
theorem dX0_asks_46 : decode cX0_asks 46 = .ok (.iload_n 2, 1) := by decide +kernel
theorem dX0_asks_47 : decode cX0_asks 47 = .ok (.if_icmp .ge 26, 3) := by decide +kernel
theorem dX0_asks_50 : decode cX0_asks 50 = .ok (.aload_n 0, 1) := by decide +kernel
theorem dX0_asks_51 : decode cX0_asks 51 = .ok (.getfield 69, 3) := by decide +kernel
theorem dX0_asks_54 : decode cX0_asks 54 = .ok (.iload_n 3, 1) := by decide +kernel
theorem dX0_asks_55 : decode cX0_asks 55 = .ok (.iaload, 1) := by decide +kernel
theorem dX0_asks_56 : decode cX0_asks 56 = .ok (.aload_n 0, 1) := by decide +kernel
theorem dX0_asks_57 : decode cX0_asks 57 = .ok (.getfield 69, 3) := by decide +kernel
theorem dX0_asks_60 : decode cX0_asks 60 = .ok (.iload_n 2, 1) := by decide +kernel
theorem dX0_asks_61 : decode cX0_asks 61 = .ok (.iaload, 1) := by decide +kernel
theorem dX0_asks_62 : decode cX0_asks 62 = .ok (.if_icmp .ne 5, 3) := by decide +kernel
theorem dX0_asks_65 : decode cX0_asks 65 = .ok (.iconst 0, 1) := by decide +kernel
theorem dX0_asks_66 : decode cX0_asks 66 = .ok (.ireturn, 1) := by decide +kernel
theorem dX0_asks_67 : decode cX0_asks 67 = .ok (.iinc 3 1, 3) := by decide +kernel
theorem dX0_asks_70 : decode cX0_asks 70 = .ok (.goto (-25), 3) := by decide +kernel
theorem dX0_asks_73 : decode cX0_asks 73 = .ok (.iinc 2 1, 3) := by decide +kernel
theorem dX0_asks_76 : decode cX0_asks 76 = .ok (.goto (-69), 3) := by decide +kernel
theorem dX0_asks_79 : decode cX0_asks 79 = .ok (.iconst 1, 1) := by decide +kernel
theorem dX0_asks_80 : decode cX0_asks 80 = .ok (.ireturn, 1) := by decide +kernel
section
variable {v : Int32}
noncomputable def x0_asks_B45 (F : Nat) (K73 : Int32 × XS → XR Int32) (x1 : Int32) (x2 : Int32) (R : Int32 × XS → XR Int32) (a : Int32 × XS) : XR Int32 :=
  if x2 ≤ a.1 then (K73 (a.1, a.2)) else (if okI a.1 100 = true then if okI x2 100 = true then if (a.2.1.2 9 a.1.toNatClampNeg) = (a.2.1.2 9 x2.toNatClampNeg) then (some (0, a.2, 0, 0)) else (R (a.1 + 1, a.2)) else none else none)
theorem kx0_asks_B45 (M : XC γ cX0_asks 4 RX0 "asks" G o B 1 (some .boolean) (xQi G o B v τr) c0 s0) (x1 : Int32) (x2 : Int32) (K73 : Int32 × XS → XR Int32) (hK73 : ∀ a c s, K73 a = some (v, τr, c, s) → ∀ k n, k + c ≤ c0 ∧ n + s ≤ s0 → J γ (XW G o B a.2) k n 73 [(0, .ref o), (1, .int x1), (2, .int x2)] []) : ∀ R : Int32 × XS → XR Int32, (∀ a c s, R a = some (v, τr, c, s) → ∀ k n, k + c ≤ c0 ∧ n + s ≤ s0 → J γ (XW G o B a.2) k n 45 [(0, .ref o), (1, .int x1), (2, .int x2), (3, .int a.1)] []) → ∀ a c s, x0_asks_B45 F K73 x1 x2 R a = some (v, τr, c, s) → ∀ k n, k + c ≤ c0 ∧ n + s ≤ s0 → J γ (XW G o B a.2) k n 45 [(0, .ref o), (1, .int x1), (2, .int x2), (3, .int a.1)] [] := by
  intro R hR a c s hf k n hkn
  unfold x0_asks_B45 at hf
  refine j_iload_n (pc := 45) M.1 dX0_asks_45 3 rfl ?_
  refine j_iload_n (pc := 46) M.1 dX0_asks_46 2 rfl ?_
  refine j_icmp_ge (pc := 47) M.1 73 dX0_asks_47 rfl (fun b1 => ?_) (fun b1 => ?_)
  · replace hf := o_pos b1 hf
    refine j_sub [0, 1, 2] (show lv_pick _ _ = [(0, .ref o), (1, .int x1), (2, .int x2)] from rfl) ?_
    have hy := hK73 _ _ _ hf _ _ hkn
    exact hy
  · replace hf := o_neg b1 hf
    refine j_aload_n (pc := 50) M.1 dX0_asks_50 0 rfl ?_
    refine jx_getA (pc := 51) M xfa_69 dX0_asks_51 ?_
    refine j_iload_n (pc := 54) M.1 dX0_asks_54 3 rfl ?_
    obtain ⟨b2, hf⟩ := o_need hf
    refine jx_iald (pc := 55) M xax_9 b2 dX0_asks_55 ?_
    refine j_aload_n (pc := 56) M.1 dX0_asks_56 0 rfl ?_
    refine jx_getA (pc := 57) M xfa_69 dX0_asks_57 ?_
    refine j_iload_n (pc := 60) M.1 dX0_asks_60 2 rfl ?_
    obtain ⟨b3, hf⟩ := o_need hf
    refine jx_iald (pc := 61) M xax_9 b3 dX0_asks_61 ?_
    refine j_icmp_ne (pc := 62) M.1 67 dX0_asks_62 rfl (fun b4 => ?_) (fun b4 => ?_)
    · replace hf := o_neg b4 hf
      refine j_iinc (pc := 67) M.1 [(3, .int (a.1 + 1)), (0, .ref o), (1, .int x1), (2, .int x2)] dX0_asks_67 3 rfl (congrArg _ kc_iconst_1) rfl rfl ?_
      refine j_goto (pc := 70) M.1 45 dX0_asks_70 rfl ?_
      refine j_sub [1, 2, 3, 0] (show lv_pick _ _ = [(0, .ref o), (1, .int x1), (2, .int x2), (3, .int (a.1 + 1))] from rfl) ?_
      have hy := hR _ _ _ hf _ _ hkn
      exact hy
    · replace hf := o_pos b4 hf
      refine j_iconst (pc := 65) M.1 dX0_asks_65 kc_iconst_0 ?_
      exact jx_zretF (pc := 66) M dX0_asks_66 rfl hf hkn
noncomputable def x0_asks_B7 (F : Nat) (x1 : Int32) (R : Int32 × XS → XR Int32) (a : Int32 × XS) : XR Int32 :=
  if x1 ≤ a.1 then (some (1, a.2, 0, 0)) else (if okI a.1 400 = true then if okI a.1 100 = true then nx (xA a.2 9 a.1.toNatClampNeg ((a.2.1.2 4 a.1.toNatClampNeg) &&& 255)) (fun τ1 => if okI a.1 100 = true then if (τ1.1.2 9 a.1.toNatClampNeg) < (τ1.1.1 16) then (lp (x0_asks_B45 F (fun a1 => R (a.1 + 1, a1.2)) x1 a.1) F (0, τ1)) else (some (0, τ1, 0, 0)) else none) else none else none)
theorem kx0_asks_B7 (M : XC γ cX0_asks 4 RX0 "asks" G o B 1 (some .boolean) (xQi G o B v τr) c0 s0) (x1 : Int32) : ∀ R : Int32 × XS → XR Int32, (∀ a c s, R a = some (v, τr, c, s) → ∀ k n, k + c ≤ c0 ∧ n + s ≤ s0 → J γ (XW G o B a.2) k n 7 [(0, .ref o), (1, .int x1), (2, .int a.1)] []) → ∀ a c s, x0_asks_B7 F x1 R a = some (v, τr, c, s) → ∀ k n, k + c ≤ c0 ∧ n + s ≤ s0 → J γ (XW G o B a.2) k n 7 [(0, .ref o), (1, .int x1), (2, .int a.1)] [] := by
  intro R hR a c s hf k n hkn
  unfold x0_asks_B7 at hf
  refine j_iload_n (pc := 7) M.1 dX0_asks_7 2 rfl ?_
  refine j_iload_n (pc := 8) M.1 dX0_asks_8 1 rfl ?_
  refine j_icmp_ge (pc := 9) M.1 79 dX0_asks_9 rfl (fun b1 => ?_) (fun b1 => ?_)
  · replace hf := o_pos b1 hf
    refine j_iconst (pc := 79) M.1 dX0_asks_79 kc_iconst_1 ?_
    exact jx_zretF (pc := 80) M dX0_asks_80 rfl hf hkn
  · replace hf := o_neg b1 hf
    refine j_aload_n (pc := 12) M.1 dX0_asks_12 0 rfl ?_
    refine jx_getA (pc := 13) M xfa_69 dX0_asks_13 ?_
    refine j_iload_n (pc := 16) M.1 dX0_asks_16 2 rfl ?_
    refine j_aload_n (pc := 17) M.1 dX0_asks_17 0 rfl ?_
    refine jx_getA (pc := 18) M xfa_41 dX0_asks_18 ?_
    refine j_iload_n (pc := 21) M.1 dX0_asks_21 2 rfl ?_
    obtain ⟨b2, hf⟩ := o_need hf
    refine jx_bald (pc := 22) M xax_4 b2 dX0_asks_22 ?_
    refine j_sipush (pc := 23) M.1 dX0_asks_23 kc_sipush_255 ?_
    refine j_iand (pc := 26) M.1 dX0_asks_26 ?_
    obtain ⟨b3, hf⟩ := o_need hf
    obtain ⟨τ1, e1, hf⟩ := o_nx hf
    refine jx_iast (pc := 27) M xax_9 b3 dX0_asks_27 e1 ?_
    refine j_aload_n (pc := 28) M.1 dX0_asks_28 0 rfl ?_
    refine jx_getA (pc := 29) M xfa_69 dX0_asks_29 ?_
    refine j_iload_n (pc := 32) M.1 dX0_asks_32 2 rfl ?_
    obtain ⟨b4, hf⟩ := o_need hf
    refine jx_iald (pc := 33) M xax_9 b4 dX0_asks_33 ?_
    refine j_aload_n (pc := 34) M.1 dX0_asks_34 0 rfl ?_
    refine jx_getS (pc := 35) M xfs_328 dX0_asks_35 ?_
    refine j_icmp_lt (pc := 38) M.1 43 dX0_asks_38 rfl (fun b5 => ?_) (fun b5 => ?_)
    · replace hf := o_pos b5 hf
      refine j_iconst (pc := 43) M.1 dX0_asks_43 kc_iconst_0 ?_
      refine j_istore_n (pc := 44) M.1 [(3, .int 0), (0, .ref o), (1, .int x1), (2, .int a.1)] dX0_asks_44 rfl rfl ?_
      refine j_sub [1, 2, 3, 0] (show lv_pick _ _ = [(0, .ref o), (1, .int x1), (2, .int a.1), (3, .int 0)] from rfl) ?_
      refine lp_Wc (kx0_asks_B45 M x1 a.1 _ ?_) F (0, τ1) _ _ hf _ _ hkn
      · intro a1 c s hf k n hkn
        refine j_iinc (pc := 73) M.1 [(2, .int (a.1 + 1)), (0, .ref o), (1, .int x1)] dX0_asks_73 2 rfl (congrArg _ kc_iconst_1) rfl rfl ?_
        refine j_goto (pc := 76) M.1 7 dX0_asks_76 rfl ?_
        refine j_sub [1, 2, 0] (show lv_pick _ _ = [(0, .ref o), (1, .int x1), (2, .int (a.1 + 1))] from rfl) ?_
        have hy := hR _ _ _ hf _ _ hkn
        exact hy
    · replace hf := o_neg b5 hf
      refine j_iconst (pc := 41) M.1 dX0_asks_41 kc_iconst_0 ?_
      exact jx_zretF (pc := 42) M dX0_asks_42 rfl hf hkn
noncomputable def x0_asks (F : Nat) (x1 : Int32) (τ : XS) : XR Int32 :=
  nx (xS τ 21 x1) (fun τ1 => lp (x0_asks_B7 F x1) F (0, τ1))
theorem met_x0_asks {l : Launch} {G : gG} {o B F : Nat} {x1 : Int32} {τ : XS} {r : Int32 × XS × Nat × Nat} (hf : x0_asks F x1 τ = some r) : MetX l G o B yX0_asks cX0_asks 4 (some .boolean) 1 [.ref o, .int x1] τ (xQi G o B r.1 r.2.1) r.2.2.1 r.2.2.2 := by
  obtain ⟨v, τr, c, s⟩ := r
  refine metX_of (own := RX0) (mn := "asks") (by decide) rfl rfl rfl (fun γ hγ M => ?_)
  subst hγ
  show J γ (XW G o B τ) 0 0 0 [(0, .ref o), (1, .int x1)] []
  have hkn : 0 + c ≤ c ∧ 0 + s ≤ s := ⟨by omega, by omega⟩
  unfold x0_asks at hf
  refine j_aload_n (pc := 0) M.1 dX0_asks_0 0 rfl ?_
  refine j_iload_n (pc := 1) M.1 dX0_asks_1 1 rfl ?_
  obtain ⟨τ1, e1, hf⟩ := o_nx hf
  refine jx_putS (pc := 2) M xfs_400 dX0_asks_2 e1 ?_
  refine j_iconst (pc := 5) M.1 dX0_asks_5 kc_iconst_0 ?_
  refine j_istore_n (pc := 6) M.1 [(2, .int 0), (0, .ref o), (1, .int x1)] dX0_asks_6 rfl rfl ?_
  refine j_sub [1, 2, 0] (show lv_pick _ _ = [(0, .ref o), (1, .int x1), (2, .int 0)] from rfl) ?_
  refine lp_Wc (kx0_asks_B7 M x1) F (0, τ1) _ _ hf _ _ hkn
end
theorem dX0_most_0 : decode cX0_most 0 = .ok (.iconst 0, 1) := by decide +kernel
theorem dX0_most_1 : decode cX0_most 1 = .ok (.istore 4, 2) := by decide +kernel
theorem dX0_most_3 : decode cX0_most 3 = .ok (.iload 4, 2) := by decide +kernel
theorem dX0_most_5 : decode cX0_most 5 = .ok (.iconst 1, 1) := by decide +kernel
theorem dX0_most_6 : decode cX0_most 6 = .ok (.aload_n 0, 1) := by decide +kernel
theorem dX0_most_7 : decode cX0_most 7 = .ok (.getfield 400, 3) := by decide +kernel
theorem dX0_most_10 : decode cX0_most 10 = .ok (.ishl, 1) := by decide +kernel
theorem dX0_most_11 : decode cX0_most 11 = .ok (.if_icmp .ge 17, 3) := by decide +kernel
theorem dX0_most_14 : decode cX0_most 14 = .ok (.aload_n 0, 1) := by decide +kernel
theorem dX0_most_15 : decode cX0_most 15 = .ok (.getfield 80, 3) := by decide +kernel
theorem dX0_most_18 : decode cX0_most 18 = .ok (.iload 4, 2) := by decide +kernel
theorem dX0_most_20 : decode cX0_most 20 = .ok (.iconst 0, 1) := by decide +kernel
theorem dX0_most_21 : decode cX0_most 21 = .ok (.iastore, 1) := by decide +kernel
theorem dX0_most_22 : decode cX0_most 22 = .ok (.iinc 4 1, 3) := by decide +kernel
theorem dX0_most_25 : decode cX0_most 25 = .ok (.goto (-22), 3) := by decide +kernel
theorem dX0_most_28 : decode cX0_most 28 = .ok (.iconst 0, 1) := by decide +kernel
theorem dX0_most_29 : decode cX0_most 29 = .ok (.istore 4, 2) := by decide +kernel
theorem dX0_most_31 : decode cX0_most 31 = .ok (.iload 4, 2) := by decide +kernel
theorem dX0_most_33 : decode cX0_most 33 = .ok (.aload_n 0, 1) := by decide +kernel
theorem dX0_most_34 : decode cX0_most 34 = .ok (.getfield 378, 3) := by decide +kernel
theorem dX0_most_37 : decode cX0_most 37 = .ok (.if_icmp .ge 128, 3) := by decide +kernel
theorem dX0_most_40 : decode cX0_most 40 = .ok (.lload_n 2, 1) := by decide +kernel
theorem dX0_most_41 : decode cX0_most 41 = .ok (.iload 4, 2) := by decide +kernel
theorem dX0_most_43 : decode cX0_most 43 = .ok (.lshr, 1) := by decide +kernel
theorem dX0_most_44 : decode cX0_most 44 = .ok (.lconst 1, 1) := by decide +kernel
theorem dX0_most_45 : decode cX0_most 45 = .ok (.land, 1) := by decide +kernel
theorem dX0_most_46 : decode cX0_most 46 = .ok (.lconst 1, 1) := by decide +kernel
theorem dX0_most_47 : decode cX0_most 47 = .ok (.lcmp, 1) := by decide +kernel
theorem dX0_most_48 : decode cX0_most 48 = .ok (.ifCond .ne 6, 3) := by decide +kernel
theorem dX0_most_51 : decode cX0_most 51 = .ok (.goto 108, 3) := by decide +kernel
theorem dX0_most_54 : decode cX0_most 54 = .ok (.iconst 1, 1) := by decide +kernel
theorem dX0_most_55 : decode cX0_most 55 = .ok (.aload_n 0, 1) := by decide +kernel
theorem dX0_most_56 : decode cX0_most 56 = .ok (.getfield 400, 3) := by decide +kernel
theorem dX0_most_59 : decode cX0_most 59 = .ok (.ishl, 1) := by decide +kernel
theorem dX0_most_60 : decode cX0_most 60 = .ok (.iconst 1, 1) := by decide +kernel
theorem dX0_most_61 : decode cX0_most 61 = .ok (.isub, 1) := by decide +kernel
theorem dX0_most_62 : decode cX0_most 62 = .ok (.istore 5, 2) := by decide +kernel
theorem dX0_most_64 : decode cX0_most 64 = .ok (.iload 5, 2) := by decide +kernel
theorem dX0_most_66 : decode cX0_most 66 = .ok (.ifCond .le 93, 3) := by decide +kernel
theorem dX0_most_69 : decode cX0_most 69 = .ok (.iconst 0, 1) := by decide +kernel
theorem dX0_most_70 : decode cX0_most 70 = .ok (.istore 6, 2) := by decide +kernel
theorem dX0_most_72 : decode cX0_most 72 = .ok (.iload 6, 2) := by decide +kernel
theorem dX0_most_74 : decode cX0_most 74 = .ok (.aload_n 0, 1) := by decide +kernel
theorem dX0_most_75 : decode cX0_most 75 = .ok (.getfield 400, 3) := by decide +kernel
theorem dX0_most_78 : decode cX0_most 78 = .ok (.if_icmp .ge 75, 3) := by decide +kernel
theorem dX0_most_81 : decode cX0_most 81 = .ok (.iload 5, 2) := by decide +kernel
theorem dX0_most_83 : decode cX0_most 83 = .ok (.iload 6, 2) := by decide +kernel
theorem dX0_most_85 : decode cX0_most 85 = .ok (.ishr, 1) := by decide +kernel
theorem dX0_most_86 : decode cX0_most 86 = .ok (.iconst 1, 1) := by decide +kernel
theorem dX0_most_87 : decode cX0_most 87 = .ok (.iand, 1) := by decide +kernel
theorem dX0_most_88 : decode cX0_most 88 = .ok (.iconst 1, 1) := by decide +kernel
theorem dX0_most_89 : decode cX0_most 89 = .ok (.if_icmp .ne 58, 3) := by decide +kernel
theorem dX0_most_92 : decode cX0_most 92 = .ok (.aload_n 0, 1) := by decide +kernel
theorem dX0_most_93 : decode cX0_most 93 = .ok (.getfield 74, 3) := by decide +kernel
theorem dX0_most_96 : decode cX0_most 96 = .ok (.iload 6, 2) := by decide +kernel
theorem dX0_most_98 : decode cX0_most 98 = .ok (.aaload, 1) := by decide +kernel
theorem dX0_most_99 : decode cX0_most 99 = .ok (.iload 4, 2) := by decide +kernel
theorem dX0_most_101 : decode cX0_most 101 = .ok (.iaload, 1) := by decide +kernel
theorem dX0_most_102 : decode cX0_most 102 = .ok (.ifCond .le 45, 3) := by decide +kernel
theorem dX0_most_105 : decode cX0_most 105 = .ok (.aload_n 0, 1) := by decide +kernel
theorem dX0_most_106 : decode cX0_most 106 = .ok (.getfield 80, 3) := by decide +kernel
theorem dX0_most_109 : decode cX0_most 109 = .ok (.iload 5, 2) := by decide +kernel
theorem dX0_most_111 : decode cX0_most 111 = .ok (.aload_n 0, 1) := by decide +kernel
theorem dX0_most_112 : decode cX0_most 112 = .ok (.getfield 80, 3) := by decide +kernel
theorem dX0_most_115 : decode cX0_most 115 = .ok (.iload 5, 2) := by decide +kernel
theorem dX0_most_117 : decode cX0_most 117 = .ok (.iaload, 1) := by decide +kernel
theorem dX0_most_118 : decode cX0_most 118 = .ok (.aload_n 0, 1) := by decide +kernel
theorem dX0_most_119 : decode cX0_most 119 = .ok (.getfield 74, 3) := by decide +kernel
theorem dX0_most_122 : decode cX0_most 122 = .ok (.iload 6, 2) := by decide +kernel
theorem dX0_most_124 : decode cX0_most 124 = .ok (.aaload, 1) := by decide +kernel
theorem dX0_most_125 : decode cX0_most 125 = .ok (.iload 4, 2) := by decide +kernel
theorem dX0_most_127 : decode cX0_most 127 = .ok (.iaload, 1) := by decide +kernel
theorem dX0_most_128 : decode cX0_most 128 = .ok (.aload_n 0, 1) := by decide +kernel
theorem dX0_most_129 : decode cX0_most 129 = .ok (.getfield 80, 3) := by decide +kernel
theorem dX0_most_132 : decode cX0_most 132 = .ok (.iload 5, 2) := by decide +kernel
theorem dX0_most_134 : decode cX0_most 134 = .ok (.iconst 1, 1) := by decide +kernel
theorem dX0_most_135 : decode cX0_most 135 = .ok (.iload 6, 2) := by decide +kernel
theorem dX0_most_137 : decode cX0_most 137 = .ok (.ishl, 1) := by decide +kernel
theorem dX0_most_138 : decode cX0_most 138 = .ok (.iconst (-1), 1) := by decide +kernel
theorem dX0_most_139 : decode cX0_most 139 = .ok (.ixor, 1) := by decide +kernel
theorem dX0_most_140 : decode cX0_most 140 = .ok (.iand, 1) := by decide +kernel
theorem dX0_most_141 : decode cX0_most 141 = .ok (.iaload, 1) := by decide +kernel
theorem dX0_most_142 : decode cX0_most 142 = .ok (.iadd, 1) := by decide +kernel
theorem dX0_most_143 : decode cX0_most 143 = .ok (.invokestatic 403, 3) := by decide +kernel
theorem dX0_most_146 : decode cX0_most 146 = .ok (.iastore, 1) := by decide +kernel
theorem dX0_most_147 : decode cX0_most 147 = .ok (.iinc 6 1, 3) := by decide +kernel
theorem dX0_most_150 : decode cX0_most 150 = .ok (.goto (-78), 3) := by decide +kernel
theorem dX0_most_153 : decode cX0_most 153 = .ok (.iinc 5 (-1), 3) := by decide +kernel
theorem dX0_most_156 : decode cX0_most 156 = .ok (.goto (-92), 3) := by decide +kernel
theorem dX0_most_159 : decode cX0_most 159 = .ok (.iinc 4 1, 3) := by decide +kernel
theorem dX0_most_162 : decode cX0_most 162 = .ok (.goto (-131), 3) := by decide +kernel
theorem dX0_most_165 : decode cX0_most 165 = .ok (.aload_n 0, 1) := by decide +kernel
theorem dX0_most_166 : decode cX0_most 166 = .ok (.getfield 80, 3) := by decide +kernel
theorem dX0_most_169 : decode cX0_most 169 = .ok (.iload_n 1, 1) := by decide +kernel
theorem dX0_most_170 : decode cX0_most 170 = .ok (.iaload, 1) := by decide +kernel
theorem dX0_most_171 : decode cX0_most 171 = .ok (.ireturn, 1) := by decide +kernel
section
variable {v : Int32}
noncomputable def x0_most_B3 (F : Nat) (K28 : Int32 × XS → XR Int32) (x1 : Int32) (x2 : Int64) (R : Int32 × XS → XR Int32) (a : Int32 × XS) : XR Int32 :=
  if (1 <<< ((a.2.1.1 21) &&& 31)) ≤ a.1 then (K28 (a.1, a.2)) else (if okI a.1 256 = true then nx (xA a.2 20 a.1.toNatClampNeg 0) (fun τ1 => R (a.1 + 1, τ1)) else none)
theorem kx0_most_B3 (M : XC γ cX0_most 7 RX0 "most" G o B 2 (some .int) (xQi G o B v τr) c0 s0) (x1 : Int32) (x2 : Int64) (K28 : Int32 × XS → XR Int32) (hK28 : ∀ a c s, K28 a = some (v, τr, c, s) → ∀ k n, k + c ≤ c0 ∧ n + s ≤ s0 → J γ (XW G o B a.2) k n 28 [(0, .ref o), (1, .int x1), (2, .long x2)] []) : ∀ R : Int32 × XS → XR Int32, (∀ a c s, R a = some (v, τr, c, s) → ∀ k n, k + c ≤ c0 ∧ n + s ≤ s0 → J γ (XW G o B a.2) k n 3 [(0, .ref o), (1, .int x1), (2, .long x2), (4, .int a.1)] []) → ∀ a c s, x0_most_B3 F K28 x1 x2 R a = some (v, τr, c, s) → ∀ k n, k + c ≤ c0 ∧ n + s ≤ s0 → J γ (XW G o B a.2) k n 3 [(0, .ref o), (1, .int x1), (2, .long x2), (4, .int a.1)] [] := by
  intro R hR a c s hf k n hkn
  unfold x0_most_B3 at hf
  refine j_iload (pc := 3) M.1 dX0_most_3 3 rfl ?_
  refine j_iconst (pc := 5) M.1 dX0_most_5 kc_iconst_1 ?_
  refine j_aload_n (pc := 6) M.1 dX0_most_6 0 rfl ?_
  refine jx_getS (pc := 7) M xfs_400 dX0_most_7 ?_
  refine j_ishl (pc := 10) M.1 dX0_most_10 ?_
  refine j_icmp_ge (pc := 11) M.1 28 dX0_most_11 rfl (fun b1 => ?_) (fun b1 => ?_)
  · replace hf := o_pos b1 hf
    refine j_sub [0, 1, 2] (show lv_pick _ _ = [(0, .ref o), (1, .int x1), (2, .long x2)] from rfl) ?_
    have hy := hK28 _ _ _ hf _ _ hkn
    exact hy
  · replace hf := o_neg b1 hf
    refine j_aload_n (pc := 14) M.1 dX0_most_14 0 rfl ?_
    refine jx_getA (pc := 15) M xfa_80 dX0_most_15 ?_
    refine j_iload (pc := 18) M.1 dX0_most_18 3 rfl ?_
    refine j_iconst (pc := 20) M.1 dX0_most_20 kc_iconst_0 ?_
    obtain ⟨b2, hf⟩ := o_need hf
    obtain ⟨τ1, e1, hf⟩ := o_nx hf
    refine jx_iast (pc := 21) M xax_20 b2 dX0_most_21 e1 ?_
    refine j_iinc (pc := 22) M.1 [(4, .int (a.1 + 1)), (0, .ref o), (1, .int x1), (2, .long x2)] dX0_most_22 3 rfl (congrArg _ kc_iconst_1) rfl rfl ?_
    refine j_goto (pc := 25) M.1 3 dX0_most_25 rfl ?_
    refine j_sub [1, 2, 3, 0] (show lv_pick _ _ = [(0, .ref o), (1, .int x1), (2, .long x2), (4, .int (a.1 + 1))] from rfl) ?_
    have hy := hR _ _ _ hf _ _ hkn
    exact hy
noncomputable def x0_most_B72 (F : Nat) (K153 : Int32 × XS → XR Int32) (x1 : Int32) (x2 : Int64) (x4 : Int32) (x5 : Int32) (R : Int32 × XS → XR Int32) (a : Int32 × XS) : XR Int32 :=
  if (a.2.1.1 21) ≤ a.1 then (K153 (a.1, a.2)) else (if ((x5 >>> (a.1 &&& 31)) &&& 1) = 1 then (if okI a.1 8 = true then if okI a.1 8 = true then if okI x4 60 = true then if (a.2.1.2 (11 + a.1.toNatClampNeg) x4.toNatClampNeg) ≤ 0 then (R (a.1 + 1, a.2)) else (if okI x5 256 = true then if okI a.1 8 = true then if okI a.1 8 = true then if okI x4 60 = true then if okI (x5 &&& ((1 <<< (a.1 &&& 31)) ^^^ ((-1)))) 256 = true then if okI x5 256 = true then nx (xA a.2 20 x5.toNatClampNeg (if (a.2.1.2 20 x5.toNatClampNeg) < ((a.2.1.2 (11 + a.1.toNatClampNeg) x4.toNatClampNeg) + (a.2.1.2 20 (x5 &&& ((1 <<< (a.1 &&& 31)) ^^^ ((-1)))).toNatClampNeg)) then ((a.2.1.2 (11 + a.1.toNatClampNeg) x4.toNatClampNeg) + (a.2.1.2 20 (x5 &&& ((1 <<< (a.1 &&& 31)) ^^^ ((-1)))).toNatClampNeg)) else (a.2.1.2 20 x5.toNatClampNeg))) (fun τ1 => R (a.1 + 1, τ1)) else none else none else none else none else none else none) else none else none else none) else (R (a.1 + 1, a.2)))
theorem kx0_most_B72 (M : XC γ cX0_most 7 RX0 "most" G o B 2 (some .int) (xQi G o B v τr) c0 s0) (x1 : Int32) (x2 : Int64) (x4 : Int32) (x5 : Int32) (K153 : Int32 × XS → XR Int32) (hK153 : ∀ a c s, K153 a = some (v, τr, c, s) → ∀ k n, k + c ≤ c0 ∧ n + s ≤ s0 → J γ (XW G o B a.2) k n 153 [(0, .ref o), (1, .int x1), (2, .long x2), (4, .int x4), (5, .int x5)] []) : ∀ R : Int32 × XS → XR Int32, (∀ a c s, R a = some (v, τr, c, s) → ∀ k n, k + c ≤ c0 ∧ n + s ≤ s0 → J γ (XW G o B a.2) k n 72 [(0, .ref o), (1, .int x1), (2, .long x2), (4, .int x4), (5, .int x5), (6, .int a.1)] []) → ∀ a c s, x0_most_B72 F K153 x1 x2 x4 x5 R a = some (v, τr, c, s) → ∀ k n, k + c ≤ c0 ∧ n + s ≤ s0 → J γ (XW G o B a.2) k n 72 [(0, .ref o), (1, .int x1), (2, .long x2), (4, .int x4), (5, .int x5), (6, .int a.1)] [] := by
  intro R hR a c s hf k n hkn
  unfold x0_most_B72 at hf
  refine j_iload (pc := 72) M.1 dX0_most_72 5 rfl ?_
  refine j_aload_n (pc := 74) M.1 dX0_most_74 0 rfl ?_
  refine jx_getS (pc := 75) M xfs_400 dX0_most_75 ?_
  refine j_icmp_ge (pc := 78) M.1 153 dX0_most_78 rfl (fun b1 => ?_) (fun b1 => ?_)
  · replace hf := o_pos b1 hf
    refine j_sub [0, 1, 2, 3, 4] (show lv_pick _ _ = [(0, .ref o), (1, .int x1), (2, .long x2), (4, .int x4), (5, .int x5)] from rfl) ?_
    have hy := hK153 _ _ _ hf _ _ hkn
    exact hy
  · replace hf := o_neg b1 hf
    refine j_iload (pc := 81) M.1 dX0_most_81 4 rfl ?_
    refine j_iload (pc := 83) M.1 dX0_most_83 5 rfl ?_
    refine j_ishr (pc := 85) M.1 dX0_most_85 ?_
    refine j_iconst (pc := 86) M.1 dX0_most_86 kc_iconst_1 ?_
    refine j_iand (pc := 87) M.1 dX0_most_87 ?_
    refine j_iconst (pc := 88) M.1 dX0_most_88 kc_iconst_1 ?_
    refine j_icmp_ne (pc := 89) M.1 147 dX0_most_89 rfl (fun b2 => ?_) (fun b2 => ?_)
    · replace hf := o_neg b2 hf
      refine j_iinc (pc := 147) M.1 [(6, .int (a.1 + 1)), (0, .ref o), (1, .int x1), (2, .long x2), (4, .int x4), (5, .int x5)] dX0_most_147 5 rfl (congrArg _ kc_iconst_1) rfl rfl ?_
      refine j_goto (pc := 150) M.1 72 dX0_most_150 rfl ?_
      refine j_sub [1, 2, 3, 4, 5, 0] (show lv_pick _ _ = [(0, .ref o), (1, .int x1), (2, .long x2), (4, .int x4), (5, .int x5), (6, .int (a.1 + 1))] from rfl) ?_
      have hy := hR _ _ _ hf _ _ hkn
      exact hy
    · replace hf := o_pos b2 hf
      refine j_aload_n (pc := 92) M.1 dX0_most_92 0 rfl ?_
      refine jx_getA (pc := 93) M xfa_74 dX0_most_93 ?_
      refine j_iload (pc := 96) M.1 dX0_most_96 5 rfl ?_
      obtain ⟨b3, hf⟩ := o_need hf
      refine jx_pairs (pc := 98) M b3 dX0_most_98 ?_
      refine j_iload (pc := 99) M.1 dX0_most_99 3 rfl ?_
      obtain ⟨b4, hf⟩ := o_need hf
      obtain ⟨b5, hf⟩ := o_need hf
      refine jx_iald (pc := 101) M (xAf_pairs b4) b5 dX0_most_101 ?_
      refine j_if_le (pc := 102) M.1 147 dX0_most_102 rfl (fun b6 => ?_) (fun b6 => ?_)
      · replace hf := o_pos b6 hf
        refine j_iinc (pc := 147) M.1 [(6, .int (a.1 + 1)), (0, .ref o), (1, .int x1), (2, .long x2), (4, .int x4), (5, .int x5)] dX0_most_147 5 rfl (congrArg _ kc_iconst_1) rfl rfl ?_
        refine j_goto (pc := 150) M.1 72 dX0_most_150 rfl ?_
        refine j_sub [1, 2, 3, 4, 5, 0] (show lv_pick _ _ = [(0, .ref o), (1, .int x1), (2, .long x2), (4, .int x4), (5, .int x5), (6, .int (a.1 + 1))] from rfl) ?_
        have hy := hR _ _ _ hf _ _ hkn
        exact hy
      · replace hf := o_neg b6 hf
        refine j_aload_n (pc := 105) M.1 dX0_most_105 0 rfl ?_
        refine jx_getA (pc := 106) M xfa_80 dX0_most_106 ?_
        refine j_iload (pc := 109) M.1 dX0_most_109 4 rfl ?_
        refine j_aload_n (pc := 111) M.1 dX0_most_111 0 rfl ?_
        refine jx_getA (pc := 112) M xfa_80 dX0_most_112 ?_
        refine j_iload (pc := 115) M.1 dX0_most_115 4 rfl ?_
        obtain ⟨b7, hf⟩ := o_need hf
        refine jx_iald (pc := 117) M xax_20 b7 dX0_most_117 ?_
        refine j_aload_n (pc := 118) M.1 dX0_most_118 0 rfl ?_
        refine jx_getA (pc := 119) M xfa_74 dX0_most_119 ?_
        refine j_iload (pc := 122) M.1 dX0_most_122 5 rfl ?_
        obtain ⟨b8, hf⟩ := o_need hf
        refine jx_pairs (pc := 124) M b8 dX0_most_124 ?_
        refine j_iload (pc := 125) M.1 dX0_most_125 3 rfl ?_
        obtain ⟨b9, hf⟩ := o_need hf
        obtain ⟨b10, hf⟩ := o_need hf
        refine jx_iald (pc := 127) M (xAf_pairs b9) b10 dX0_most_127 ?_
        refine j_aload_n (pc := 128) M.1 dX0_most_128 0 rfl ?_
        refine jx_getA (pc := 129) M xfa_80 dX0_most_129 ?_
        refine j_iload (pc := 132) M.1 dX0_most_132 4 rfl ?_
        refine j_iconst (pc := 134) M.1 dX0_most_134 kc_iconst_1 ?_
        refine j_iload (pc := 135) M.1 dX0_most_135 5 rfl ?_
        refine j_ishl (pc := 137) M.1 dX0_most_137 ?_
        refine j_iconst (pc := 138) M.1 dX0_most_138 kc_iconst_m1 ?_
        refine j_ixor (pc := 139) M.1 dX0_most_139 ?_
        refine j_iand (pc := 140) M.1 dX0_most_140 ?_
        obtain ⟨b11, hf⟩ := o_need hf
        refine jx_iald (pc := 141) M xax_20 b11 dX0_most_141 ?_
        refine j_iadd (pc := 142) M.1 dX0_most_142 ?_
        refine j_max (pc := 143) M.1 q1135 (M.room (by decide)) (by rw [M.2.2.2.2.1]; exact kn_le0 hkn) rfl dX0_most_143 ?_
        obtain ⟨b12, hf⟩ := o_need hf
        obtain ⟨τ1, e1, hf⟩ := o_nx hf
        refine jx_iast (pc := 146) M xax_20 b12 dX0_most_146 e1 ?_
        refine j_iinc (pc := 147) M.1 [(6, .int (a.1 + 1)), (0, .ref o), (1, .int x1), (2, .long x2), (4, .int x4), (5, .int x5)] dX0_most_147 5 rfl (congrArg _ kc_iconst_1) rfl rfl ?_
        refine j_goto (pc := 150) M.1 72 dX0_most_150 rfl ?_
        refine j_sub [1, 2, 3, 4, 5, 0] (show lv_pick _ _ = [(0, .ref o), (1, .int x1), (2, .long x2), (4, .int x4), (5, .int x5), (6, .int (a.1 + 1))] from rfl) ?_
        have hy := hR _ _ _ hf _ _ hkn
        exact hy
noncomputable def x0_most_B64 (F : Nat) (K159 : Int32 × XS → XR Int32) (x1 : Int32) (x2 : Int64) (x4 : Int32) (R : Int32 × XS → XR Int32) (a : Int32 × XS) : XR Int32 :=
  if a.1 ≤ 0 then (K159 (a.1, a.2)) else (lp (x0_most_B72 F (fun a1 => R (a.1 + (-1), a1.2)) x1 x2 x4 a.1) F (0, a.2))
theorem kx0_most_B64 (M : XC γ cX0_most 7 RX0 "most" G o B 2 (some .int) (xQi G o B v τr) c0 s0) (x1 : Int32) (x2 : Int64) (x4 : Int32) (K159 : Int32 × XS → XR Int32) (hK159 : ∀ a c s, K159 a = some (v, τr, c, s) → ∀ k n, k + c ≤ c0 ∧ n + s ≤ s0 → J γ (XW G o B a.2) k n 159 [(0, .ref o), (1, .int x1), (2, .long x2), (4, .int x4)] []) : ∀ R : Int32 × XS → XR Int32, (∀ a c s, R a = some (v, τr, c, s) → ∀ k n, k + c ≤ c0 ∧ n + s ≤ s0 → J γ (XW G o B a.2) k n 64 [(0, .ref o), (1, .int x1), (2, .long x2), (4, .int x4), (5, .int a.1)] []) → ∀ a c s, x0_most_B64 F K159 x1 x2 x4 R a = some (v, τr, c, s) → ∀ k n, k + c ≤ c0 ∧ n + s ≤ s0 → J γ (XW G o B a.2) k n 64 [(0, .ref o), (1, .int x1), (2, .long x2), (4, .int x4), (5, .int a.1)] [] := by
  intro R hR a c s hf k n hkn
  unfold x0_most_B64 at hf
  refine j_iload (pc := 64) M.1 dX0_most_64 4 rfl ?_
  refine j_if_le (pc := 66) M.1 159 dX0_most_66 rfl (fun b1 => ?_) (fun b1 => ?_)
  · replace hf := o_pos b1 hf
    refine j_sub [0, 1, 2, 3] (show lv_pick _ _ = [(0, .ref o), (1, .int x1), (2, .long x2), (4, .int x4)] from rfl) ?_
    have hy := hK159 _ _ _ hf _ _ hkn
    exact hy
  · replace hf := o_neg b1 hf
    refine j_iconst (pc := 69) M.1 dX0_most_69 kc_iconst_0 ?_
    refine j_istore (pc := 70) M.1 [(6, .int 0), (0, .ref o), (1, .int x1), (2, .long x2), (4, .int x4), (5, .int a.1)] dX0_most_70 rfl rfl ?_
    refine j_sub [1, 2, 3, 4, 5, 0] (show lv_pick _ _ = [(0, .ref o), (1, .int x1), (2, .long x2), (4, .int x4), (5, .int a.1), (6, .int 0)] from rfl) ?_
    refine lp_Wc (kx0_most_B72 M x1 x2 x4 a.1 _ ?_) F (0, a.2) _ _ hf _ _ hkn
    · intro a1 c s hf k n hkn
      refine j_iinc (pc := 153) M.1 [(5, .int (a.1 + (-1))), (0, .ref o), (1, .int x1), (2, .long x2), (4, .int x4)] dX0_most_153 4 rfl (congrArg _ kc_iconst_m1) rfl rfl ?_
      refine j_goto (pc := 156) M.1 64 dX0_most_156 rfl ?_
      refine j_sub [1, 2, 3, 4, 0] (show lv_pick _ _ = [(0, .ref o), (1, .int x1), (2, .long x2), (4, .int x4), (5, .int (a.1 + (-1)))] from rfl) ?_
      have hy := hR _ _ _ hf _ _ hkn
      exact hy
noncomputable def x0_most_B31 (F : Nat) (x1 : Int32) (x2 : Int64) (R : Int32 × XS → XR Int32) (a : Int32 × XS) : XR Int32 :=
  if (a.2.1.1 18) ≤ a.1 then (if okI x1 256 = true then some (a.2.1.2 20 x1.toNatClampNeg, a.2, 0, 0) else none) else (if (lg_cmp ((x2 >>> (a.1.toInt64 &&& 63)) &&& 1) 1) = 0 then (R (a.1 + 1, a.2)) else (nx ((1 <<< ((a.2.1.1 21) &&& 31)) - 1 : Int32) (fun y1 => lp (x0_most_B64 F (fun a1 => R (a.1 + 1, a1.2)) x1 x2 a.1) F (y1, a.2))))
theorem kx0_most_B31 (M : XC γ cX0_most 7 RX0 "most" G o B 2 (some .int) (xQi G o B v τr) c0 s0) (x1 : Int32) (x2 : Int64) : ∀ R : Int32 × XS → XR Int32, (∀ a c s, R a = some (v, τr, c, s) → ∀ k n, k + c ≤ c0 ∧ n + s ≤ s0 → J γ (XW G o B a.2) k n 31 [(0, .ref o), (1, .int x1), (2, .long x2), (4, .int a.1)] []) → ∀ a c s, x0_most_B31 F x1 x2 R a = some (v, τr, c, s) → ∀ k n, k + c ≤ c0 ∧ n + s ≤ s0 → J γ (XW G o B a.2) k n 31 [(0, .ref o), (1, .int x1), (2, .long x2), (4, .int a.1)] [] := by
  intro R hR a c s hf k n hkn
  unfold x0_most_B31 at hf
  refine j_iload (pc := 31) M.1 dX0_most_31 3 rfl ?_
  refine j_aload_n (pc := 33) M.1 dX0_most_33 0 rfl ?_
  refine jx_getS (pc := 34) M xfs_378 dX0_most_34 ?_
  refine j_icmp_ge (pc := 37) M.1 165 dX0_most_37 rfl (fun b1 => ?_) (fun b1 => ?_)
  · replace hf := o_pos b1 hf
    refine j_aload_n (pc := 165) M.1 dX0_most_165 0 rfl ?_
    refine jx_getA (pc := 166) M xfa_80 dX0_most_166 ?_
    refine j_iload_n (pc := 169) M.1 dX0_most_169 1 rfl ?_
    obtain ⟨b2, hf⟩ := o_need hf
    refine jx_iald (pc := 170) M xax_20 b2 dX0_most_170 ?_
    exact jx_iretF (pc := 171) M dX0_most_171 hf hkn
  · replace hf := o_neg b1 hf
    refine j_lload_n (pc := 40) M.1 dX0_most_40 2 rfl ?_
    refine j_iload (pc := 41) M.1 dX0_most_41 3 rfl ?_
    refine j_lshr (pc := 43) M.1 dX0_most_43 ?_
    refine j_lconst (pc := 44) M.1 dX0_most_44 kl_1 ?_
    refine j_land (pc := 45) M.1 dX0_most_45 ?_
    refine j_lconst (pc := 46) M.1 dX0_most_46 kl_1 ?_
    refine j_lcmp (pc := 47) M.1 dX0_most_47 ?_
    refine j_if_ne (pc := 48) M.1 54 dX0_most_48 rfl (fun b3 => ?_) (fun b3 => ?_)
    · replace hf := o_neg b3 hf
      refine j_iconst (pc := 54) M.1 dX0_most_54 kc_iconst_1 ?_
      refine j_aload_n (pc := 55) M.1 dX0_most_55 0 rfl ?_
      refine jx_getS (pc := 56) M xfs_400 dX0_most_56 ?_
      refine j_ishl (pc := 59) M.1 dX0_most_59 ?_
      refine j_iconst (pc := 60) M.1 dX0_most_60 kc_iconst_1 ?_
      refine j_isub (pc := 61) M.1 dX0_most_61 ?_
      obtain ⟨y1, e1, hf⟩ := o_nx hf
      refine j_top e1 ?_
      refine j_istore (pc := 62) M.1 [(5, .int y1), (0, .ref o), (1, .int x1), (2, .long x2), (4, .int a.1)] dX0_most_62 rfl rfl ?_
      refine j_sub [1, 2, 3, 4, 0] (show lv_pick _ _ = [(0, .ref o), (1, .int x1), (2, .long x2), (4, .int a.1), (5, .int y1)] from rfl) ?_
      refine lp_Wc (kx0_most_B64 M x1 x2 a.1 _ ?_) F (y1, a.2) _ _ hf _ _ hkn
      · intro a1 c s hf k n hkn
        refine j_iinc (pc := 159) M.1 [(4, .int (a.1 + 1)), (0, .ref o), (1, .int x1), (2, .long x2)] dX0_most_159 3 rfl (congrArg _ kc_iconst_1) rfl rfl ?_
        refine j_goto (pc := 162) M.1 31 dX0_most_162 rfl ?_
        refine j_sub [1, 2, 3, 0] (show lv_pick _ _ = [(0, .ref o), (1, .int x1), (2, .long x2), (4, .int (a.1 + 1))] from rfl) ?_
        have hy := hR _ _ _ hf _ _ hkn
        exact hy
    · replace hf := o_pos b3 hf
      refine j_goto (pc := 51) M.1 159 dX0_most_51 rfl ?_
      refine j_iinc (pc := 159) M.1 [(4, .int (a.1 + 1)), (0, .ref o), (1, .int x1), (2, .long x2)] dX0_most_159 3 rfl (congrArg _ kc_iconst_1) rfl rfl ?_
      refine j_goto (pc := 162) M.1 31 dX0_most_162 rfl ?_
      refine j_sub [1, 2, 3, 0] (show lv_pick _ _ = [(0, .ref o), (1, .int x1), (2, .long x2), (4, .int (a.1 + 1))] from rfl) ?_
      have hy := hR _ _ _ hf _ _ hkn
      exact hy
noncomputable def x0_most (F : Nat) (x1 : Int32) (x2 : Int64) (τ : XS) : XR Int32 :=
  lp (x0_most_B3 F (fun a1 => lp (x0_most_B31 F x1 x2) F (0, a1.2)) x1 x2) F (0, τ)
theorem met_x0_most {l : Launch} {G : gG} {o B F : Nat} {x1 : Int32} {x2 : Int64} {τ : XS} {r : Int32 × XS × Nat × Nat} (hf : x0_most F x1 x2 τ = some r) : MetX l G o B yX0_most cX0_most 7 (some .int) 2 [.ref o, .int x1, .long x2] τ (xQi G o B r.1 r.2.1) r.2.2.1 r.2.2.2 := by
  obtain ⟨v, τr, c, s⟩ := r
  refine metX_of (own := RX0) (mn := "most") (by decide) rfl rfl rfl (fun γ hγ M => ?_)
  subst hγ
  show J γ (XW G o B τ) 0 0 0 [(0, .ref o), (1, .int x1), (2, .long x2)] []
  have hkn : 0 + c ≤ c ∧ 0 + s ≤ s := ⟨by omega, by omega⟩
  unfold x0_most at hf
  refine j_iconst (pc := 0) M.1 dX0_most_0 kc_iconst_0 ?_
  refine j_istore (pc := 1) M.1 [(4, .int 0), (0, .ref o), (1, .int x1), (2, .long x2)] dX0_most_1 rfl rfl ?_
  refine j_sub [1, 2, 3, 0] (show lv_pick _ _ = [(0, .ref o), (1, .int x1), (2, .long x2), (4, .int 0)] from rfl) ?_
  refine lp_Wc (kx0_most_B3 M x1 x2 _ ?_) F (0, τ) _ _ hf _ _ hkn
  · intro a1 c s hf k n hkn
    refine j_iconst (pc := 28) M.1 dX0_most_28 kc_iconst_0 ?_
    refine j_istore (pc := 29) M.1 [(4, .int 0), (0, .ref o), (1, .int x1), (2, .long x2)] dX0_most_29 rfl rfl ?_
    refine j_sub [1, 2, 3, 0] (show lv_pick _ _ = [(0, .ref o), (1, .int x1), (2, .long x2), (4, .int 0)] from rfl) ?_
    refine lp_Wc (kx0_most_B31 M x1 x2) F (0, a1.2) _ _ hf _ _ hkn
end
theorem dX0_join_0 : decode cX0_join 0 = .ok (.iload_n 1, 1) := by decide +kernel
theorem dX0_join_1 : decode cX0_join 1 = .ok (.ifCond .lt 17, 3) := by decide +kernel
theorem dX0_join_4 : decode cX0_join 4 = .ok (.iload_n 1, 1) := by decide +kernel
theorem dX0_join_5 : decode cX0_join 5 = .ok (.bipush 8, 2) := by decide +kernel
theorem dX0_join_7 : decode cX0_join 7 = .ok (.if_icmp .gt 11, 3) := by decide +kernel
theorem dX0_join_10 : decode cX0_join 10 = .ok (.iload_n 1, 1) := by decide +kernel
theorem dX0_join_11 : decode cX0_join 11 = .ok (.aload_n 0, 1) := by decide +kernel
theorem dX0_join_12 : decode cX0_join 12 = .ok (.getfield 264, 3) := by decide +kernel
theorem dX0_join_15 : decode cX0_join 15 = .ok (.if_icmp .le 5, 3) := by decide +kernel
theorem dX0_join_18 : decode cX0_join 18 = .ok (.iconst (-1), 1) := by decide +kernel
theorem dX0_join_19 : decode cX0_join 19 = .ok (.ireturn, 1) := by decide +kernel
theorem dX0_join_20 : decode cX0_join 20 = .ok (.aload_n 0, 1) := by decide +kernel
theorem dX0_join_21 : decode cX0_join 21 = .ok (.iconst 0, 1) := by decide +kernel
theorem dX0_join_22 : decode cX0_join 22 = .ok (.putfield 264, 3) := by decide +kernel
theorem dX0_join_25 : decode cX0_join 25 = .ok (.aload_n 0, 1) := by decide +kernel
theorem dX0_join_26 : decode cX0_join 26 = .ok (.iload_n 1, 1) := by decide +kernel
theorem dX0_join_27 : decode cX0_join 27 = .ok (.invokevirtual 409, 3) := by decide +kernel
theorem dX0_join_30 : decode cX0_join 30 = .ok (.ifCond .ne 6, 3) := by decide +kernel
theorem dX0_join_33 : decode cX0_join 33 = .ok (.bipush (-2), 2) := by decide +kernel
theorem dX0_join_35 : decode cX0_join 35 = .ok (.ireturn, 1) := by decide +kernel
theorem dX0_join_36 : decode cX0_join 36 = .ok (.iconst 0, 1) := by decide +kernel
theorem dX0_join_37 : decode cX0_join 37 = .ok (.istore_n 2, 1) := by decide +kernel
theorem dX0_join_38 : decode cX0_join 38 = .ok (.iload_n 2, 1) := by decide +kernel
theorem dX0_join_39 : decode cX0_join 39 = .ok (.iload_n 1, 1) := by decide +kernel
theorem dX0_join_40 : decode cX0_join 40 = .ok (.if_icmp .ge 102, 3) := by decide +kernel
theorem dX0_join_43 : decode cX0_join 43 = .ok (.aload_n 0, 1) := by decide +kernel
theorem dX0_join_44 : decode cX0_join 44 = .ok (.getfield 59, 3) := by decide +kernel
theorem dX0_join_47 : decode cX0_join 47 = .ok (.aload_n 0, 1) := by decide +kernel
theorem dX0_join_48 : decode cX0_join 48 = .ok (.getfield 69, 3) := by decide +kernel
theorem dX0_join_51 : decode cX0_join 51 = .ok (.iload_n 2, 1) := by decide +kernel
theorem dX0_join_52 : decode cX0_join 52 = .ok (.iaload, 1) := by decide +kernel
theorem dX0_join_53 : decode cX0_join 53 = .ok (.aaload, 1) := by decide +kernel
theorem dX0_join_54 : decode cX0_join 54 = .ok (.astore_n 3, 1) := by decide +kernel
theorem dX0_join_55 : decode cX0_join 55 = .ok (.aload_n 0, 1) := by decide +kernel
theorem dX0_join_56 : decode cX0_join 56 = .ok (.aload_n 3, 1) := by decide +kernel
theorem dX0_join_57 : decode cX0_join 57 = .ok (.invokevirtual 393, 3) := by decide +kernel
theorem dX0_join_60 : decode cX0_join 60 = .ok (.istore 4, 2) := by decide +kernel
theorem dX0_join_62 : decode cX0_join 62 = .ok (.iconst 0, 1) := by decide +kernel
theorem dX0_join_63 : decode cX0_join 63 = .ok (.istore 5, 2) := by decide +kernel
theorem dX0_join_65 : decode cX0_join 65 = .ok (.iload 5, 2) := by decide +kernel
theorem dX0_join_67 : decode cX0_join 67 = .ok (.aload_n 0, 1) := by decide +kernel
theorem dX0_join_68 : decode cX0_join 68 = .ok (.getfield 378, 3) := by decide +kernel
theorem dX0_join_71 : decode cX0_join 71 = .ok (.if_icmp .ge 65, 3) := by decide +kernel
theorem dX0_join_74 : decode cX0_join 74 = .ok (.aload_n 0, 1) := by decide +kernel
theorem dX0_join_75 : decode cX0_join 75 = .ok (.getfield 74, 3) := by decide +kernel
theorem dX0_join_78 : decode cX0_join 78 = .ok (.iload_n 2, 1) := by decide +kernel
theorem dX0_join_79 : decode cX0_join 79 = .ok (.aaload, 1) := by decide +kernel
theorem dX0_join_80 : decode cX0_join 80 = .ok (.iload 5, 2) := by decide +kernel
theorem dX0_join_82 : decode cX0_join 82 = .ok (.aload_n 0, 1) := by decide +kernel
theorem dX0_join_83 : decode cX0_join 83 = .ok (.getfield 65, 3) := by decide +kernel
theorem dX0_join_86 : decode cX0_join 86 = .ok (.iload 5, 2) := by decide +kernel
theorem dX0_join_88 : decode cX0_join 88 = .ok (.aaload, 1) := by decide +kernel
theorem dX0_join_89 : decode cX0_join 89 = .ok (.getfield 384, 3) := by decide +kernel
theorem dX0_join_92 : decode cX0_join 92 = .ok (.ifCond .ne 36, 3) := by decide +kernel
theorem dX0_join_95 : decode cX0_join 95 = .ok (.aload_n 3, 1) := by decide +kernel
theorem dX0_join_96 : decode cX0_join 96 = .ok (.aload_n 0, 1) := by decide +kernel
theorem dX0_join_97 : decode cX0_join 97 = .ok (.getfield 65, 3) := by decide +kernel
theorem dX0_join_100 : decode cX0_join 100 = .ok (.iload 5, 2) := by decide +kernel
theorem dX0_join_102 : decode cX0_join 102 = .ok (.aaload, 1) := by decide +kernel
theorem dX0_join_103 : decode cX0_join 103 = .ok (.iload 4, 2) := by decide +kernel
theorem dX0_join_105 : decode cX0_join 105 = .ok (.invokestatic 396, 3) := by decide +kernel
theorem dX0_join_108 : decode cX0_join 108 = .ok (.ifCond .eq 20, 3) := by decide +kernel
theorem dX0_join_111 : decode cX0_join 111 = .ok (.bipush 100, 2) := by decide +kernel
theorem dX0_join_113 : decode cX0_join 113 = .ok (.aload_n 0, 1) := by decide +kernel
theorem dX0_join_114 : decode cX0_join 114 = .ok (.getfield 65, 3) := by decide +kernel
theorem dX0_join_117 : decode cX0_join 117 = .ok (.iload 5, 2) := by decide +kernel
theorem dX0_join_119 : decode cX0_join 119 = .ok (.aaload, 1) := by decide +kernel
theorem dX0_join_120 : decode cX0_join 120 = .ok (.aload_n 3, 1) := by decide +kernel
theorem dX0_join_121 : decode cX0_join 121 = .ok (.invokevirtual 389, 3) := by decide +kernel
theorem dX0_join_124 : decode cX0_join 124 = .ok (.iadd, 1) := by decide +kernel
theorem dX0_join_125 : decode cX0_join 125 = .ok (.goto 4, 3) := by decide +kernel
theorem dX0_join_128 : decode cX0_join 128 = .ok (.iconst 0, 1) := by decide +kernel
theorem dX0_join_129 : decode cX0_join 129 = .ok (.iastore, 1) := by decide +kernel
theorem dX0_join_130 : decode cX0_join 130 = .ok (.iinc 5 1, 3) := by decide +kernel
theorem dX0_join_133 : decode cX0_join 133 = .ok (.goto (-68), 3) := by decide +kernel
theorem dX0_join_136 : decode cX0_join 136 = .ok (.iinc 2 1, 3) := by decide +kernel
theorem dX0_join_139 : decode cX0_join 139 = .ok (.goto (-101), 3) := by decide +kernel
theorem dX0_join_142 : decode cX0_join 142 = .ok (.iconst 1, 1) := by decide +kernel
theorem dX0_join_143 : decode cX0_join 143 = .ok (.iload_n 1, 1) := by decide +kernel
theorem dX0_join_144 : decode cX0_join 144 = .ok (.ishl, 1) := by decide +kernel
theorem dX0_join_145 : decode cX0_join 145 = .ok (.iconst 1, 1) := by decide +kernel
theorem dX0_join_146 : decode cX0_join 146 = .ok (.isub, 1) := by decide +kernel
theorem dX0_join_147 : decode cX0_join 147 = .ok (.istore_n 2, 1) := by decide +kernel
theorem dX0_join_148 : decode cX0_join 148 = .ok (.lconst 0, 1) := by decide +kernel
theorem dX0_join_149 : decode cX0_join 149 = .ok (.lstore_n 3, 1) := by decide +kernel
theorem dX0_join_150 : decode cX0_join 150 = .ok (.aload_n 0, 1) := by decide +kernel
theorem dX0_join_151 : decode cX0_join 151 = .ok (.iload_n 2, 1) := by decide +kernel
theorem dX0_join_152 : decode cX0_join 152 = .ok (.lload_n 3, 1) := by decide +kernel
theorem dX0_join_153 : decode cX0_join 153 = .ok (.invokevirtual 412, 3) := by decide +kernel
theorem dX0_join_156 : decode cX0_join 156 = .ok (.istore 5, 2) := by decide +kernel
theorem dX0_join_158 : decode cX0_join 158 = .ok (.iconst 0, 1) := by decide +kernel
theorem dX0_join_159 : decode cX0_join 159 = .ok (.istore 6, 2) := by decide +kernel
theorem dX0_join_161 : decode cX0_join 161 = .ok (.iconst 0, 1) := by decide +kernel
theorem dX0_join_162 : decode cX0_join 162 = .ok (.istore 7, 2) := by decide +kernel
theorem dX0_join_164 : decode cX0_join 164 = .ok (.iload 7, 2) := by decide +kernel
theorem dX0_join_166 : decode cX0_join 166 = .ok (.iload_n 1, 1) := by decide +kernel
theorem dX0_join_167 : decode cX0_join 167 = .ok (.if_icmp .ge 147, 3) := by decide +kernel
theorem dX0_join_170 : decode cX0_join 170 = .ok (.iload_n 2, 1) := by decide +kernel
theorem dX0_join_171 : decode cX0_join 171 = .ok (.iconst 1, 1) := by decide +kernel
theorem dX0_join_172 : decode cX0_join 172 = .ok (.iload 7, 2) := by decide +kernel
theorem dX0_join_174 : decode cX0_join 174 = .ok (.ishl, 1) := by decide +kernel
theorem dX0_join_175 : decode cX0_join 175 = .ok (.iconst (-1), 1) := by decide +kernel
theorem dX0_join_176 : decode cX0_join 176 = .ok (.ixor, 1) := by decide +kernel
theorem dX0_join_177 : decode cX0_join 177 = .ok (.iand, 1) := by decide +kernel
theorem dX0_join_178 : decode cX0_join 178 = .ok (.istore_n 2, 1) := by decide +kernel
theorem dX0_join_179 : decode cX0_join 179 = .ok (.iconst 0, 1) := by decide +kernel
theorem dX0_join_180 : decode cX0_join 180 = .ok (.istore 8, 2) := by decide +kernel
theorem dX0_join_182 : decode cX0_join 182 = .ok (.iload 8, 2) := by decide +kernel
theorem dX0_join_184 : decode cX0_join 184 = .ok (.aload_n 0, 1) := by decide +kernel
theorem dX0_join_185 : decode cX0_join 185 = .ok (.getfield 378, 3) := by decide +kernel
theorem dX0_join_188 : decode cX0_join 188 = .ok (.if_icmp .ge 60, 3) := by decide +kernel
theorem dX0_join_191 : decode cX0_join 191 = .ok (.aload_n 0, 1) := by decide +kernel
theorem dX0_join_192 : decode cX0_join 192 = .ok (.getfield 74, 3) := by decide +kernel
theorem dX0_join_195 : decode cX0_join 195 = .ok (.iload 7, 2) := by decide +kernel
theorem dX0_join_197 : decode cX0_join 197 = .ok (.aaload, 1) := by decide +kernel
theorem dX0_join_198 : decode cX0_join 198 = .ok (.iload 8, 2) := by decide +kernel
theorem dX0_join_200 : decode cX0_join 200 = .ok (.iaload, 1) := by decide +kernel
theorem dX0_join_201 : decode cX0_join 201 = .ok (.ifCond .eq 41, 3) := by decide +kernel
theorem dX0_join_204 : decode cX0_join 204 = .ok (.lload_n 3, 1) := by decide +kernel
theorem dX0_join_205 : decode cX0_join 205 = .ok (.iload 8, 2) := by decide +kernel
theorem dX0_join_207 : decode cX0_join 207 = .ok (.lshr, 1) := by decide +kernel
theorem dX0_join_208 : decode cX0_join 208 = .ok (.lconst 1, 1) := by decide +kernel
theorem dX0_join_209 : decode cX0_join 209 = .ok (.land, 1) := by decide +kernel
theorem dX0_join_210 : decode cX0_join 210 = .ok (.lconst 1, 1) := by decide +kernel
theorem dX0_join_211 : decode cX0_join 211 = .ok (.lcmp, 1) := by decide +kernel
theorem dX0_join_212 : decode cX0_join 212 = .ok (.ifCond .eq 30, 3) := by decide +kernel
theorem dX0_join_215 : decode cX0_join 215 = .ok (.aload_n 0, 1) := by decide +kernel
theorem dX0_join_216 : decode cX0_join 216 = .ok (.getfield 74, 3) := by decide +kernel
theorem dX0_join_219 : decode cX0_join 219 = .ok (.iload 7, 2) := by decide +kernel
theorem dX0_join_221 : decode cX0_join 221 = .ok (.aaload, 1) := by decide +kernel
theorem dX0_join_222 : decode cX0_join 222 = .ok (.iload 8, 2) := by decide +kernel
theorem dX0_join_224 : decode cX0_join 224 = .ok (.iaload, 1) := by decide +kernel
theorem dX0_join_225 : decode cX0_join 225 = .ok (.aload_n 0, 1) := by decide +kernel
theorem dX0_join_226 : decode cX0_join 226 = .ok (.iload_n 2, 1) := by decide +kernel
theorem dX0_join_227 : decode cX0_join 227 = .ok (.lload_n 3, 1) := by decide +kernel
theorem dX0_join_228 : decode cX0_join 228 = .ok (.lconst 1, 1) := by decide +kernel
theorem dX0_join_229 : decode cX0_join 229 = .ok (.iload 8, 2) := by decide +kernel
theorem dX0_join_231 : decode cX0_join 231 = .ok (.lshl, 1) := by decide +kernel
theorem dX0_join_232 : decode cX0_join 232 = .ok (.lor, 1) := by decide +kernel
theorem dX0_join_233 : decode cX0_join 233 = .ok (.invokevirtual 412, 3) := by decide +kernel
theorem dX0_join_236 : decode cX0_join 236 = .ok (.iadd, 1) := by decide +kernel
theorem dX0_join_237 : decode cX0_join 237 = .ok (.iload 5, 2) := by decide +kernel
theorem dX0_join_239 : decode cX0_join 239 = .ok (.if_icmp .ge 9, 3) := by decide +kernel
theorem dX0_join_242 : decode cX0_join 242 = .ok (.iinc 8 1, 3) := by decide +kernel
theorem dX0_join_245 : decode cX0_join 245 = .ok (.goto (-63), 3) := by decide +kernel
theorem dX0_join_248 : decode cX0_join 248 = .ok (.aload_n 0, 1) := by decide +kernel
theorem dX0_join_249 : decode cX0_join 249 = .ok (.getfield 77, 3) := by decide +kernel
theorem dX0_join_252 : decode cX0_join 252 = .ok (.iload 7, 2) := by decide +kernel
theorem dX0_join_254 : decode cX0_join 254 = .ok (.iload 8, 2) := by decide +kernel
theorem dX0_join_256 : decode cX0_join 256 = .ok (.aload_n 0, 1) := by decide +kernel
theorem dX0_join_257 : decode cX0_join 257 = .ok (.getfield 378, 3) := by decide +kernel
theorem dX0_join_260 : decode cX0_join 260 = .ok (.if_icmp .ge 8, 3) := by decide +kernel
theorem dX0_join_263 : decode cX0_join 263 = .ok (.iload 8, 2) := by decide +kernel
theorem dX0_join_265 : decode cX0_join 265 = .ok (.goto 5, 3) := by decide +kernel
theorem dX0_join_268 : decode cX0_join 268 = .ok (.bipush 60, 2) := by decide +kernel
theorem dX0_join_270 : decode cX0_join 270 = .ok (.iastore, 1) := by decide +kernel
theorem dX0_join_271 : decode cX0_join 271 = .ok (.iload 8, 2) := by decide +kernel
theorem dX0_join_273 : decode cX0_join 273 = .ok (.aload_n 0, 1) := by decide +kernel
theorem dX0_join_274 : decode cX0_join 274 = .ok (.getfield 378, 3) := by decide +kernel
theorem dX0_join_277 : decode cX0_join 277 = .ok (.if_icmp .ne 6, 3) := by decide +kernel
theorem dX0_join_280 : decode cX0_join 280 = .ok (.goto 28, 3) := by decide +kernel
theorem dX0_join_283 : decode cX0_join 283 = .ok (.lload_n 3, 1) := by decide +kernel
theorem dX0_join_284 : decode cX0_join 284 = .ok (.lconst 1, 1) := by decide +kernel
theorem dX0_join_285 : decode cX0_join 285 = .ok (.iload 8, 2) := by decide +kernel
theorem dX0_join_287 : decode cX0_join 287 = .ok (.lshl, 1) := by decide +kernel
theorem dX0_join_288 : decode cX0_join 288 = .ok (.lor, 1) := by decide +kernel
theorem dX0_join_289 : decode cX0_join 289 = .ok (.lstore_n 3, 1) := by decide +kernel
theorem dX0_join_290 : decode cX0_join 290 = .ok (.iload 5, 2) := by decide +kernel
theorem dX0_join_292 : decode cX0_join 292 = .ok (.aload_n 0, 1) := by decide +kernel
theorem dX0_join_293 : decode cX0_join 293 = .ok (.getfield 74, 3) := by decide +kernel
theorem dX0_join_296 : decode cX0_join 296 = .ok (.iload 7, 2) := by decide +kernel
theorem dX0_join_298 : decode cX0_join 298 = .ok (.aaload, 1) := by decide +kernel
theorem dX0_join_299 : decode cX0_join 299 = .ok (.iload 8, 2) := by decide +kernel
theorem dX0_join_301 : decode cX0_join 301 = .ok (.iaload, 1) := by decide +kernel
theorem dX0_join_302 : decode cX0_join 302 = .ok (.isub, 1) := by decide +kernel
theorem dX0_join_303 : decode cX0_join 303 = .ok (.istore 5, 2) := by decide +kernel
theorem dX0_join_305 : decode cX0_join 305 = .ok (.iinc 6 1, 3) := by decide +kernel
theorem dX0_join_308 : decode cX0_join 308 = .ok (.iinc 7 1, 3) := by decide +kernel
theorem dX0_join_311 : decode cX0_join 311 = .ok (.goto (-147), 3) := by decide +kernel
theorem dX0_join_314 : decode cX0_join 314 = .ok (.aload_n 0, 1) := by decide +kernel
theorem dX0_join_315 : decode cX0_join 315 = .ok (.iload_n 1, 1) := by decide +kernel
theorem dX0_join_316 : decode cX0_join 316 = .ok (.putfield 416, 3) := by decide +kernel
theorem dX0_join_319 : decode cX0_join 319 = .ok (.iload 6, 2) := by decide +kernel
theorem dX0_join_321 : decode cX0_join 321 = .ok (.ireturn, 1) := by decide +kernel
section
variable {v : Int32}
noncomputable def x0_join_B65 (F : Nat) (K136 : Int32 × XS → XR Int32) (x1 : Int32) (x2 : Int32) (x3 : Nat) (x4 : Int32) (R : Int32 × XS → XR Int32) (a : Int32 × XS) : XR Int32 :=
  if (a.2.1.1 18) ≤ a.1 then (K136 (a.1, a.2)) else (if okI x2 8 = true then if okI a.1 60 = true then (a.2.2.1 8 a.1.toNatClampNeg).bind (fun n1 => (gI a.2 n1 [21] 3).bind (fun v1 => if v1 = 0 then (if okI a.1 60 = true then (a.2.2.1 8 a.1.toNatClampNeg).bind (fun n2 => (x0_fits F x3 n2 x4 a.2).bind (fun r1 => tk r1.2.2.1 r1.2.2.2 (if r1.1 = 0 then (if okI x2 8 = true then if okI a.1 60 = true then nx (xA r1.2.1 (11 + x2.toNatClampNeg) a.1.toNatClampNeg 0) (fun τ2 => R (a.1 + 1, τ2)) else none else none) else (if okI a.1 60 = true then (r1.2.1.2.1 8 a.1.toNatClampNeg).bind (fun n3 => if isC r1.2.1 n3 [21] = true then (x21_agrees F n3 x3 r1.2.1).bind (fun r2 => tk r2.2.2.1 r2.2.2.2 (if okI x2 8 = true then if okI a.1 60 = true then nx (xA r2.2.1 (11 + x2.toNatClampNeg) a.1.toNatClampNeg (100 + r2.1)) (fun τ3 => R (a.1 + 1, τ3)) else none else none)) else none) else none)))) else none) else (if okI x2 8 = true then if okI a.1 60 = true then nx (xA a.2 (11 + x2.toNatClampNeg) a.1.toNatClampNeg 0) (fun τ1 => R (a.1 + 1, τ1)) else none else none))) else none else none)
theorem kx0_join_B65 (M : XC γ cX0_join 9 RX0 "join" G o B 47 (some .int) (xQi G o B v τr) c0 s0) (x1 : Int32) (x2 : Int32) (x3 : Nat) (x4 : Int32) (K136 : Int32 × XS → XR Int32) (hK136 : ∀ a c s, K136 a = some (v, τr, c, s) → ∀ k n, k + c ≤ c0 ∧ n + s ≤ s0 → J γ (XW G o B a.2) k n 136 [(0, .ref o), (1, .int x1), (2, .int x2)] []) : ∀ R : Int32 × XS → XR Int32, (∀ a c s, R a = some (v, τr, c, s) → ∀ k n, k + c ≤ c0 ∧ n + s ≤ s0 → J γ (XW G o B a.2) k n 65 [(0, .ref o), (1, .int x1), (2, .int x2), (3, .ref x3), (4, .int x4), (5, .int a.1)] []) → ∀ a c s, x0_join_B65 F K136 x1 x2 x3 x4 R a = some (v, τr, c, s) → ∀ k n, k + c ≤ c0 ∧ n + s ≤ s0 → J γ (XW G o B a.2) k n 65 [(0, .ref o), (1, .int x1), (2, .int x2), (3, .ref x3), (4, .int x4), (5, .int a.1)] [] := by
  intro R hR a c s hf k n hkn
  unfold x0_join_B65 at hf
  refine j_iload (pc := 65) M.1 dX0_join_65 5 rfl ?_
  refine j_aload_n (pc := 67) M.1 dX0_join_67 0 rfl ?_
  refine jx_getS (pc := 68) M xfs_378 dX0_join_68 ?_
  refine j_icmp_ge (pc := 71) M.1 136 dX0_join_71 rfl (fun b1 => ?_) (fun b1 => ?_)
  · replace hf := o_pos b1 hf
    refine j_sub [0, 1, 2] (show lv_pick _ _ = [(0, .ref o), (1, .int x1), (2, .int x2)] from rfl) ?_
    have hy := hK136 _ _ _ hf _ _ hkn
    exact hy
  · replace hf := o_neg b1 hf
    refine j_aload_n (pc := 74) M.1 dX0_join_74 0 rfl ?_
    refine jx_getA (pc := 75) M xfa_74 dX0_join_75 ?_
    refine j_iload_n (pc := 78) M.1 dX0_join_78 2 rfl ?_
    obtain ⟨b2, hf⟩ := o_need hf
    refine jx_pairs (pc := 79) M b2 dX0_join_79 ?_
    refine j_iload (pc := 80) M.1 dX0_join_80 5 rfl ?_
    refine j_aload_n (pc := 82) M.1 dX0_join_82 0 rfl ?_
    refine jx_getA (pc := 83) M xfa_65 dX0_join_83 ?_
    refine j_iload (pc := 86) M.1 dX0_join_86 5 rfl ?_
    obtain ⟨b3, hf⟩ := o_need hf
    obtain ⟨n1, g1, hf⟩ := o_bind hf
    refine jx_aald (pc := 88) M xax_8 (by decide) xrt_8 b3 g1 dX0_join_88 ?_
    obtain ⟨v1, g2, hf⟩ := o_bind hf
    refine jx_getI (pc := 89) M xfl_X0_384 g2 dX0_join_89 ?_
    refine j_if_ne (pc := 92) M.1 128 dX0_join_92 rfl (fun b4 => ?_) (fun b4 => ?_)
    · replace hf := o_neg b4 hf
      refine j_iconst (pc := 128) M.1 dX0_join_128 kc_iconst_0 ?_
      obtain ⟨b5, hf⟩ := o_need hf
      obtain ⟨b6, hf⟩ := o_need hf
      obtain ⟨τ1, e1, hf⟩ := o_nx hf
      refine jx_iast (pc := 129) M (xAf_pairs b5) b6 dX0_join_129 e1 ?_
      refine j_iinc (pc := 130) M.1 [(5, .int (a.1 + 1)), (0, .ref o), (1, .int x1), (2, .int x2), (3, .ref x3), (4, .int x4)] dX0_join_130 5 rfl (congrArg _ kc_iconst_1) rfl rfl ?_
      refine j_goto (pc := 133) M.1 65 dX0_join_133 rfl ?_
      refine j_sub [1, 2, 3, 4, 5, 0] (show lv_pick _ _ = [(0, .ref o), (1, .int x1), (2, .int x2), (3, .ref x3), (4, .int x4), (5, .int (a.1 + 1))] from rfl) ?_
      have hy := hR _ _ _ hf _ _ hkn
      exact hy
    · replace hf := o_pos b4 hf
      refine j_aload_n (pc := 95) M.1 dX0_join_95 3 rfl ?_
      refine j_aload_n (pc := 96) M.1 dX0_join_96 0 rfl ?_
      refine jx_getA (pc := 97) M xfa_65 dX0_join_97 ?_
      refine j_iload (pc := 100) M.1 dX0_join_100 5 rfl ?_
      obtain ⟨b7, hf⟩ := o_need hf
      obtain ⟨n2, g3, hf⟩ := o_bind hf
      refine jx_aald (pc := 102) M xax_8 (by decide) xrt_8 b7 g3 dX0_join_102 ?_
      refine j_iload (pc := 103) M.1 dX0_join_103 4 rfl ?_
      obtain ⟨r1, g4, hf⟩ := o_bind hf
      obtain ⟨c1, s1, hf, hc1, hs1⟩ := o_tk hf
      replace hkn := kn_step hkn hc1 hs1
      refine jx_i M (x_runS (pc := 105) (As := [.ref x3, .ref n2, .int x4]) (rest := [.int a.1, .ref (o + 1 + (11 + x2.toNatClampNeg))]) M xcs_X0_396 (met_x0_fits g4) (by decide) rfl rfl rfl dX0_join_105 (kn_le hkn)) ?_
      refine j_if_eq (pc := 108) M.1 128 dX0_join_108 rfl (fun b8 => ?_) (fun b8 => ?_)
      · replace hf := o_pos b8 hf
        refine j_iconst (pc := 128) M.1 dX0_join_128 kc_iconst_0 ?_
        obtain ⟨b9, hf⟩ := o_need hf
        obtain ⟨b10, hf⟩ := o_need hf
        obtain ⟨τ2, e2, hf⟩ := o_nx hf
        refine jx_iast (pc := 129) M (xAf_pairs b9) b10 dX0_join_129 e2 ?_
        refine j_iinc (pc := 130) M.1 [(5, .int (a.1 + 1)), (0, .ref o), (1, .int x1), (2, .int x2), (3, .ref x3), (4, .int x4)] dX0_join_130 5 rfl (congrArg _ kc_iconst_1) rfl rfl ?_
        refine j_goto (pc := 133) M.1 65 dX0_join_133 rfl ?_
        refine j_sub [1, 2, 3, 4, 5, 0] (show lv_pick _ _ = [(0, .ref o), (1, .int x1), (2, .int x2), (3, .ref x3), (4, .int x4), (5, .int (a.1 + 1))] from rfl) ?_
        have hy := hR _ _ _ hf _ _ hkn
        exact hy
      · replace hf := o_neg b8 hf
        refine j_bipush (pc := 111) M.1 dX0_join_111 kc_bipush_100 ?_
        refine j_aload_n (pc := 113) M.1 dX0_join_113 0 rfl ?_
        refine jx_getA (pc := 114) M xfa_65 dX0_join_114 ?_
        refine j_iload (pc := 117) M.1 dX0_join_117 5 rfl ?_
        obtain ⟨b11, hf⟩ := o_need hf
        obtain ⟨n3, g5, hf⟩ := o_bind hf
        refine jx_aald (pc := 119) M xax_8 (by decide) xrt_8 b11 g5 dX0_join_119 ?_
        refine j_aload_n (pc := 120) M.1 dX0_join_120 3 rfl ?_
        obtain ⟨b12, hf⟩ := o_need hf
        obtain ⟨r2, g6, hf⟩ := o_bind hf
        obtain ⟨c2, s2, hf, hc2, hs2⟩ := o_tk hf
        replace hkn := kn_step hkn hc2 hs2
        refine jx_i M (x_runW (pc := 121) (As := [.ref x3]) (rest := [.int 100, .int a.1, .ref (o + 1 + (11 + x2.toNatClampNeg))]) M xcw_X0_389 (met_x21_agrees g6) b12 (by decide) rfl rfl rfl dX0_join_121 (kn_le hkn)) ?_
        refine j_iadd (pc := 124) M.1 dX0_join_124 ?_
        refine j_goto (pc := 125) M.1 129 dX0_join_125 rfl ?_
        obtain ⟨b13, hf⟩ := o_need hf
        obtain ⟨b14, hf⟩ := o_need hf
        obtain ⟨τ3, e3, hf⟩ := o_nx hf
        refine jx_iast (pc := 129) M (xAf_pairs b13) b14 dX0_join_129 e3 ?_
        refine j_iinc (pc := 130) M.1 [(5, .int (a.1 + 1)), (0, .ref o), (1, .int x1), (2, .int x2), (3, .ref x3), (4, .int x4)] dX0_join_130 5 rfl (congrArg _ kc_iconst_1) rfl rfl ?_
        refine j_goto (pc := 133) M.1 65 dX0_join_133 rfl ?_
        refine j_sub [1, 2, 3, 4, 5, 0] (show lv_pick _ _ = [(0, .ref o), (1, .int x1), (2, .int x2), (3, .ref x3), (4, .int x4), (5, .int (a.1 + 1))] from rfl) ?_
        have hy := hR _ _ _ hf _ _ hkn
        exact hy
noncomputable def x0_join_B38 (F : Nat) (K142 : Int32 × XS → XR Int32) (x1 : Int32) (R : Int32 × XS → XR Int32) (a : Int32 × XS) : XR Int32 :=
  if x1 ≤ a.1 then (K142 (a.1, a.2)) else (if okI a.1 100 = true then if okI (a.2.1.2 9 a.1.toNatClampNeg) 150 = true then (a.2.2.1 7 (a.2.1.2 9 a.1.toNatClampNeg).toNatClampNeg).bind (fun n1 => (x0_wanted F n1 a.2).bind (fun r1 => tk r1.2.2.1 r1.2.2.2 (lp (x0_join_B65 F (fun a1 => R (a.1 + 1, a1.2)) x1 a.1 n1 r1.1) F (0, r1.2.1)))) else none else none)
theorem kx0_join_B38 (M : XC γ cX0_join 9 RX0 "join" G o B 47 (some .int) (xQi G o B v τr) c0 s0) (x1 : Int32) (K142 : Int32 × XS → XR Int32) (hK142 : ∀ a c s, K142 a = some (v, τr, c, s) → ∀ k n, k + c ≤ c0 ∧ n + s ≤ s0 → J γ (XW G o B a.2) k n 142 [(0, .ref o), (1, .int x1)] []) : ∀ R : Int32 × XS → XR Int32, (∀ a c s, R a = some (v, τr, c, s) → ∀ k n, k + c ≤ c0 ∧ n + s ≤ s0 → J γ (XW G o B a.2) k n 38 [(0, .ref o), (1, .int x1), (2, .int a.1)] []) → ∀ a c s, x0_join_B38 F K142 x1 R a = some (v, τr, c, s) → ∀ k n, k + c ≤ c0 ∧ n + s ≤ s0 → J γ (XW G o B a.2) k n 38 [(0, .ref o), (1, .int x1), (2, .int a.1)] [] := by
  intro R hR a c s hf k n hkn
  unfold x0_join_B38 at hf
  refine j_iload_n (pc := 38) M.1 dX0_join_38 2 rfl ?_
  refine j_iload_n (pc := 39) M.1 dX0_join_39 1 rfl ?_
  refine j_icmp_ge (pc := 40) M.1 142 dX0_join_40 rfl (fun b1 => ?_) (fun b1 => ?_)
  · replace hf := o_pos b1 hf
    refine j_sub [0, 1] (show lv_pick _ _ = [(0, .ref o), (1, .int x1)] from rfl) ?_
    have hy := hK142 _ _ _ hf _ _ hkn
    exact hy
  · replace hf := o_neg b1 hf
    refine j_aload_n (pc := 43) M.1 dX0_join_43 0 rfl ?_
    refine jx_getA (pc := 44) M xfa_59 dX0_join_44 ?_
    refine j_aload_n (pc := 47) M.1 dX0_join_47 0 rfl ?_
    refine jx_getA (pc := 48) M xfa_69 dX0_join_48 ?_
    refine j_iload_n (pc := 51) M.1 dX0_join_51 2 rfl ?_
    obtain ⟨b2, hf⟩ := o_need hf
    refine jx_iald (pc := 52) M xax_9 b2 dX0_join_52 ?_
    obtain ⟨b3, hf⟩ := o_need hf
    obtain ⟨n1, g1, hf⟩ := o_bind hf
    refine jx_aald (pc := 53) M xax_7 (by decide) xrt_7 b3 g1 dX0_join_53 ?_
    refine j_astore_n (pc := 54) M.1 [(3, .ref n1), (0, .ref o), (1, .int x1), (2, .int a.1)] dX0_join_54 rfl rfl ?_
    refine j_aload_n (pc := 55) M.1 dX0_join_55 1 rfl ?_
    refine j_aload_n (pc := 56) M.1 dX0_join_56 0 rfl ?_
    obtain ⟨r1, g2, hf⟩ := o_bind hf
    obtain ⟨c1, s1, hf, hc1, hs1⟩ := o_tk hf
    replace hkn := kn_step hkn hc1 hs1
    refine jx_i M (x_runV (pc := 57) (As := [.ref n1]) (rest := []) (V := xV o a.2) M xcw_X0_393 (met_x0_wanted g2) (fun H h => h.1 o _ xH_o) (by decide) rfl rfl rfl dX0_join_57 (kn_le hkn)) ?_
    refine j_istore (pc := 60) M.1 [(4, .int r1.1), (3, .ref n1), (0, .ref o), (1, .int x1), (2, .int a.1)] dX0_join_60 rfl rfl ?_
    refine j_iconst (pc := 62) M.1 dX0_join_62 kc_iconst_0 ?_
    refine j_istore (pc := 63) M.1 [(5, .int 0), (4, .int r1.1), (3, .ref n1), (0, .ref o), (1, .int x1), (2, .int a.1)] dX0_join_63 rfl rfl ?_
    refine j_sub [3, 4, 5, 2, 1, 0] (show lv_pick _ _ = [(0, .ref o), (1, .int x1), (2, .int a.1), (3, .ref n1), (4, .int r1.1), (5, .int 0)] from rfl) ?_
    refine lp_Wc (kx0_join_B65 M x1 a.1 n1 r1.1 _ ?_) F (0, r1.2.1) _ _ hf _ _ hkn
    · intro a1 c s hf k n hkn
      refine j_iinc (pc := 136) M.1 [(2, .int (a.1 + 1)), (0, .ref o), (1, .int x1)] dX0_join_136 2 rfl (congrArg _ kc_iconst_1) rfl rfl ?_
      refine j_goto (pc := 139) M.1 38 dX0_join_139 rfl ?_
      refine j_sub [1, 2, 0] (show lv_pick _ _ = [(0, .ref o), (1, .int x1), (2, .int (a.1 + 1))] from rfl) ?_
      have hy := hR _ _ _ hf _ _ hkn
      exact hy
noncomputable def x0_join_B182 (F : Nat) (K248 : Int32 × XS → XR Int32) (x1 : Int32) (x2 : Int32) (x3 : Int64) (x5 : Int32) (x6 : Int32) (x7 : Int32) (R : Int32 × XS → XR Int32) (a : Int32 × XS) : XR Int32 :=
  if (a.2.1.1 18) ≤ a.1 then (K248 (a.1, a.2)) else (if okI x7 8 = true then if okI x7 8 = true then if okI a.1 60 = true then if (a.2.1.2 (11 + x7.toNatClampNeg) a.1.toNatClampNeg) = 0 then (R (a.1 + 1, a.2)) else (if (lg_cmp ((x3 >>> (a.1.toInt64 &&& 63)) &&& 1) 1) = 0 then (R (a.1 + 1, a.2)) else (if okI x7 8 = true then if okI x7 8 = true then if okI a.1 60 = true then (x0_most F x2 (x3 ||| ((1 : Int64) <<< (a.1.toInt64 &&& 63))) a.2).bind (fun r1 => tk r1.2.2.1 r1.2.2.2 (if x5 ≤ ((a.2.1.2 (11 + x7.toNatClampNeg) a.1.toNatClampNeg) + r1.1) then (K248 (a.1, r1.2.1)) else (R (a.1 + 1, r1.2.1)))) else none else none else none)) else none else none else none)
theorem kx0_join_B182 (M : XC γ cX0_join 9 RX0 "join" G o B 47 (some .int) (xQi G o B v τr) c0 s0) (x1 : Int32) (x2 : Int32) (x3 : Int64) (x5 : Int32) (x6 : Int32) (x7 : Int32) (K248 : Int32 × XS → XR Int32) (hK248 : ∀ a c s, K248 a = some (v, τr, c, s) → ∀ k n, k + c ≤ c0 ∧ n + s ≤ s0 → J γ (XW G o B a.2) k n 248 [(0, .ref o), (1, .int x1), (2, .int x2), (3, .long x3), (5, .int x5), (6, .int x6), (7, .int x7), (8, .int a.1)] []) : ∀ R : Int32 × XS → XR Int32, (∀ a c s, R a = some (v, τr, c, s) → ∀ k n, k + c ≤ c0 ∧ n + s ≤ s0 → J γ (XW G o B a.2) k n 182 [(0, .ref o), (1, .int x1), (2, .int x2), (3, .long x3), (5, .int x5), (6, .int x6), (7, .int x7), (8, .int a.1)] []) → ∀ a c s, x0_join_B182 F K248 x1 x2 x3 x5 x6 x7 R a = some (v, τr, c, s) → ∀ k n, k + c ≤ c0 ∧ n + s ≤ s0 → J γ (XW G o B a.2) k n 182 [(0, .ref o), (1, .int x1), (2, .int x2), (3, .long x3), (5, .int x5), (6, .int x6), (7, .int x7), (8, .int a.1)] [] := by
  intro R hR a c s hf k n hkn
  unfold x0_join_B182 at hf
  refine j_iload (pc := 182) M.1 dX0_join_182 7 rfl ?_
  refine j_aload_n (pc := 184) M.1 dX0_join_184 0 rfl ?_
  refine jx_getS (pc := 185) M xfs_378 dX0_join_185 ?_
  refine j_icmp_ge (pc := 188) M.1 248 dX0_join_188 rfl (fun b1 => ?_) (fun b1 => ?_)
  · replace hf := o_pos b1 hf
    have hy := hK248 _ _ _ hf _ _ hkn
    exact hy
  · replace hf := o_neg b1 hf
    refine j_aload_n (pc := 191) M.1 dX0_join_191 0 rfl ?_
    refine jx_getA (pc := 192) M xfa_74 dX0_join_192 ?_
    refine j_iload (pc := 195) M.1 dX0_join_195 6 rfl ?_
    obtain ⟨b2, hf⟩ := o_need hf
    refine jx_pairs (pc := 197) M b2 dX0_join_197 ?_
    refine j_iload (pc := 198) M.1 dX0_join_198 7 rfl ?_
    obtain ⟨b3, hf⟩ := o_need hf
    obtain ⟨b4, hf⟩ := o_need hf
    refine jx_iald (pc := 200) M (xAf_pairs b3) b4 dX0_join_200 ?_
    refine j_if_eq (pc := 201) M.1 242 dX0_join_201 rfl (fun b5 => ?_) (fun b5 => ?_)
    · replace hf := o_pos b5 hf
      refine j_iinc (pc := 242) M.1 [(8, .int (a.1 + 1)), (0, .ref o), (1, .int x1), (2, .int x2), (3, .long x3), (5, .int x5), (6, .int x6), (7, .int x7)] dX0_join_242 7 rfl (congrArg _ kc_iconst_1) rfl rfl ?_
      refine j_goto (pc := 245) M.1 182 dX0_join_245 rfl ?_
      refine j_sub [1, 2, 3, 4, 5, 6, 7, 0] (show lv_pick _ _ = [(0, .ref o), (1, .int x1), (2, .int x2), (3, .long x3), (5, .int x5), (6, .int x6), (7, .int x7), (8, .int (a.1 + 1))] from rfl) ?_
      have hy := hR _ _ _ hf _ _ hkn
      exact hy
    · replace hf := o_neg b5 hf
      refine j_lload_n (pc := 204) M.1 dX0_join_204 3 rfl ?_
      refine j_iload (pc := 205) M.1 dX0_join_205 7 rfl ?_
      refine j_lshr (pc := 207) M.1 dX0_join_207 ?_
      refine j_lconst (pc := 208) M.1 dX0_join_208 kl_1 ?_
      refine j_land (pc := 209) M.1 dX0_join_209 ?_
      refine j_lconst (pc := 210) M.1 dX0_join_210 kl_1 ?_
      refine j_lcmp (pc := 211) M.1 dX0_join_211 ?_
      refine j_if_eq (pc := 212) M.1 242 dX0_join_212 rfl (fun b6 => ?_) (fun b6 => ?_)
      · replace hf := o_pos b6 hf
        refine j_iinc (pc := 242) M.1 [(8, .int (a.1 + 1)), (0, .ref o), (1, .int x1), (2, .int x2), (3, .long x3), (5, .int x5), (6, .int x6), (7, .int x7)] dX0_join_242 7 rfl (congrArg _ kc_iconst_1) rfl rfl ?_
        refine j_goto (pc := 245) M.1 182 dX0_join_245 rfl ?_
        refine j_sub [1, 2, 3, 4, 5, 6, 7, 0] (show lv_pick _ _ = [(0, .ref o), (1, .int x1), (2, .int x2), (3, .long x3), (5, .int x5), (6, .int x6), (7, .int x7), (8, .int (a.1 + 1))] from rfl) ?_
        have hy := hR _ _ _ hf _ _ hkn
        exact hy
      · replace hf := o_neg b6 hf
        refine j_aload_n (pc := 215) M.1 dX0_join_215 0 rfl ?_
        refine jx_getA (pc := 216) M xfa_74 dX0_join_216 ?_
        refine j_iload (pc := 219) M.1 dX0_join_219 6 rfl ?_
        obtain ⟨b7, hf⟩ := o_need hf
        refine jx_pairs (pc := 221) M b7 dX0_join_221 ?_
        refine j_iload (pc := 222) M.1 dX0_join_222 7 rfl ?_
        obtain ⟨b8, hf⟩ := o_need hf
        obtain ⟨b9, hf⟩ := o_need hf
        refine jx_iald (pc := 224) M (xAf_pairs b8) b9 dX0_join_224 ?_
        refine j_aload_n (pc := 225) M.1 dX0_join_225 0 rfl ?_
        refine j_iload_n (pc := 226) M.1 dX0_join_226 2 rfl ?_
        refine j_lload_n (pc := 227) M.1 dX0_join_227 3 rfl ?_
        refine j_lconst (pc := 228) M.1 dX0_join_228 kl_1 ?_
        refine j_iload (pc := 229) M.1 dX0_join_229 7 rfl ?_
        refine j_lshl (pc := 231) M.1 dX0_join_231 ?_
        refine j_lor (pc := 232) M.1 dX0_join_232 ?_
        obtain ⟨r1, g1, hf⟩ := o_bind hf
        obtain ⟨c1, s1, hf, hc1, hs1⟩ := o_tk hf
        replace hkn := kn_step hkn hc1 hs1
        refine jx_i M (x_runV (pc := 233) (As := [.int x2, .long (x3 ||| ((1 : Int64) <<< (a.1.toInt64 &&& 63)))]) (rest := [.int (a.2.1.2 (11 + x7.toNatClampNeg) a.1.toNatClampNeg)]) (V := xV o a.2) M xcw_X0_412 (met_x0_most g1) (fun H h => h.1 o _ xH_o) (by decide) rfl rfl rfl dX0_join_233 (kn_le hkn)) ?_
        refine j_iadd (pc := 236) M.1 dX0_join_236 ?_
        refine j_iload (pc := 237) M.1 dX0_join_237 4 rfl ?_
        refine j_icmp_ge (pc := 239) M.1 248 dX0_join_239 rfl (fun b10 => ?_) (fun b10 => ?_)
        · replace hf := o_pos b10 hf
          have hy := hK248 _ _ _ hf _ _ hkn
          exact hy
        · replace hf := o_neg b10 hf
          refine j_iinc (pc := 242) M.1 [(8, .int (a.1 + 1)), (0, .ref o), (1, .int x1), (2, .int x2), (3, .long x3), (5, .int x5), (6, .int x6), (7, .int x7)] dX0_join_242 7 rfl (congrArg _ kc_iconst_1) rfl rfl ?_
          refine j_goto (pc := 245) M.1 182 dX0_join_245 rfl ?_
          refine j_sub [1, 2, 3, 4, 5, 6, 7, 0] (show lv_pick _ _ = [(0, .ref o), (1, .int x1), (2, .int x2), (3, .long x3), (5, .int x5), (6, .int x6), (7, .int x7), (8, .int (a.1 + 1))] from rfl) ?_
          have hy := hR _ _ _ hf _ _ hkn
          exact hy
noncomputable def x0_join_270 (F : Nat) (R : Int32 × Int64 × Int32 × Int32 × Int32 × XS → XR Int32) (x1 : Int32) (x2 : Int32) (x3 : Int64) (x5 : Int32) (x6 : Int32) (x7 : Int32) (x8 : Int32) (u0 : Int32) (u1 : Int32) (τ : XS) : XR Int32 :=
  if okI u1 8 = true then nx (xA τ 19 u1.toNatClampNeg u0) (fun τ1 => if x8 = (τ1.1.1 18) then (R (x2, x3, x5, x6, x7 + 1, τ1)) else (nx (x3 ||| ((1 : Int64) <<< (x8.toInt64 &&& 63)) : Int64) (fun y1 => if okI x7 8 = true then if okI x7 8 = true then if okI x8 60 = true then nx (x5 - (τ1.1.2 (11 + x7.toNatClampNeg) x8.toNatClampNeg) : Int32) (fun y2 => R (x2, y1, y2, x6 + 1, x7 + 1, τ1)) else none else none else none))) else none
theorem kx0_join_270 (M : XC γ cX0_join 9 RX0 "join" G o B 47 (some .int) (xQi G o B v τr) c0 s0) (x1 : Int32) (x2 : Int32) (x3 : Int64) (x5 : Int32) (x6 : Int32) (x7 : Int32) (x8 : Int32) (u0 : Int32) (u1 : Int32) (R : Int32 × Int64 × Int32 × Int32 × Int32 × XS → XR Int32) (hR : ∀ a c s, R a = some (v, τr, c, s) → ∀ k n, k + c ≤ c0 ∧ n + s ≤ s0 → J γ (XW G o B a.2.2.2.2.2) k n 164 [(0, .ref o), (1, .int x1), (2, .int a.1), (3, .long a.2.1), (5, .int a.2.2.1), (6, .int a.2.2.2.1), (7, .int a.2.2.2.2.1)] []) (τ : XS) {c s k n : Nat} (hf : x0_join_270 F R x1 x2 x3 x5 x6 x7 x8 u0 u1 τ = some (v, τr, c, s)) (hkn : k + c ≤ c0 ∧ n + s ≤ s0) : J γ (XW G o B τ) k n 270 [(0, .ref o), (1, .int x1), (2, .int x2), (3, .long x3), (5, .int x5), (6, .int x6), (7, .int x7), (8, .int x8)] [.int u0, .int u1, .ref (o + 1 + 19)] := by
  unfold x0_join_270 at hf
  obtain ⟨b1, hf⟩ := o_need hf
  obtain ⟨τ1, e1, hf⟩ := o_nx hf
  refine jx_iast (pc := 270) M xax_19 b1 dX0_join_270 e1 ?_
  refine j_iload (pc := 271) M.1 dX0_join_271 7 rfl ?_
  refine j_aload_n (pc := 273) M.1 dX0_join_273 0 rfl ?_
  refine jx_getS (pc := 274) M xfs_378 dX0_join_274 ?_
  refine j_icmp_ne (pc := 277) M.1 283 dX0_join_277 rfl (fun b2 => ?_) (fun b2 => ?_)
  · replace hf := o_neg b2 hf
    refine j_lload_n (pc := 283) M.1 dX0_join_283 3 rfl ?_
    refine j_lconst (pc := 284) M.1 dX0_join_284 kl_1 ?_
    refine j_iload (pc := 285) M.1 dX0_join_285 7 rfl ?_
    refine j_lshl (pc := 287) M.1 dX0_join_287 ?_
    refine j_lor (pc := 288) M.1 dX0_join_288 ?_
    obtain ⟨y1, e2, hf⟩ := o_nx hf
    refine j_topl e2 ?_
    refine j_lstore_n (pc := 289) M.1 [(3, .long y1), (0, .ref o), (1, .int x1), (2, .int x2), (5, .int x5), (6, .int x6), (7, .int x7), (8, .int x8)] dX0_join_289 rfl rfl ?_
    refine j_iload (pc := 290) M.1 dX0_join_290 4 rfl ?_
    refine j_aload_n (pc := 292) M.1 dX0_join_292 1 rfl ?_
    refine jx_getA (pc := 293) M xfa_74 dX0_join_293 ?_
    refine j_iload (pc := 296) M.1 dX0_join_296 6 rfl ?_
    obtain ⟨b3, hf⟩ := o_need hf
    refine jx_pairs (pc := 298) M b3 dX0_join_298 ?_
    refine j_iload (pc := 299) M.1 dX0_join_299 7 rfl ?_
    obtain ⟨b4, hf⟩ := o_need hf
    obtain ⟨b5, hf⟩ := o_need hf
    refine jx_iald (pc := 301) M (xAf_pairs b4) b5 dX0_join_301 ?_
    refine j_isub (pc := 302) M.1 dX0_join_302 ?_
    obtain ⟨y2, e3, hf⟩ := o_nx hf
    refine j_top e3 ?_
    refine j_istore (pc := 303) M.1 [(5, .int y2), (3, .long y1), (0, .ref o), (1, .int x1), (2, .int x2), (6, .int x6), (7, .int x7), (8, .int x8)] dX0_join_303 rfl rfl ?_
    refine j_iinc (pc := 305) M.1 [(6, .int (x6 + 1)), (5, .int y2), (3, .long y1), (0, .ref o), (1, .int x1), (2, .int x2), (7, .int x7), (8, .int x8)] dX0_join_305 5 rfl (congrArg _ kc_iconst_1) rfl rfl ?_
    refine j_iinc (pc := 308) M.1 [(7, .int (x7 + 1)), (6, .int (x6 + 1)), (5, .int y2), (3, .long y1), (0, .ref o), (1, .int x1), (2, .int x2), (8, .int x8)] dX0_join_308 6 rfl (congrArg _ kc_iconst_1) rfl rfl ?_
    refine j_goto (pc := 311) M.1 164 dX0_join_311 rfl ?_
    refine j_sub [4, 5, 6, 3, 2, 1, 0] (show lv_pick _ _ = [(0, .ref o), (1, .int x1), (2, .int x2), (3, .long y1), (5, .int y2), (6, .int (x6 + 1)), (7, .int (x7 + 1))] from rfl) ?_
    have hy := hR _ _ _ hf _ _ hkn
    exact hy
  · replace hf := o_pos b2 hf
    refine j_goto (pc := 280) M.1 308 dX0_join_280 rfl ?_
    refine j_iinc (pc := 308) M.1 [(7, .int (x7 + 1)), (0, .ref o), (1, .int x1), (2, .int x2), (3, .long x3), (5, .int x5), (6, .int x6), (8, .int x8)] dX0_join_308 6 rfl (congrArg _ kc_iconst_1) rfl rfl ?_
    refine j_goto (pc := 311) M.1 164 dX0_join_311 rfl ?_
    refine j_sub [1, 2, 3, 4, 5, 6, 0] (show lv_pick _ _ = [(0, .ref o), (1, .int x1), (2, .int x2), (3, .long x3), (5, .int x5), (6, .int x6), (7, .int (x7 + 1))] from rfl) ?_
    have hy := hR _ _ _ hf _ _ hkn
    exact hy
noncomputable def x0_join_248 (F : Nat) (R : Int32 × Int64 × Int32 × Int32 × Int32 × XS → XR Int32) (x1 : Int32) (x2 : Int32) (x3 : Int64) (x5 : Int32) (x6 : Int32) (x7 : Int32) (x8 : Int32) (τ : XS) : XR Int32 :=
  if (τ.1.1 18) ≤ x8 then (x0_join_270 F R x1 x2 x3 x5 x6 x7 x8 60 x7 τ) else (x0_join_270 F R x1 x2 x3 x5 x6 x7 x8 x8 x7 τ)
theorem kx0_join_248 (M : XC γ cX0_join 9 RX0 "join" G o B 47 (some .int) (xQi G o B v τr) c0 s0) (x1 : Int32) (x2 : Int32) (x3 : Int64) (x5 : Int32) (x6 : Int32) (x7 : Int32) (x8 : Int32) (R : Int32 × Int64 × Int32 × Int32 × Int32 × XS → XR Int32) (hR : ∀ a c s, R a = some (v, τr, c, s) → ∀ k n, k + c ≤ c0 ∧ n + s ≤ s0 → J γ (XW G o B a.2.2.2.2.2) k n 164 [(0, .ref o), (1, .int x1), (2, .int a.1), (3, .long a.2.1), (5, .int a.2.2.1), (6, .int a.2.2.2.1), (7, .int a.2.2.2.2.1)] []) (τ : XS) {c s k n : Nat} (hf : x0_join_248 F R x1 x2 x3 x5 x6 x7 x8 τ = some (v, τr, c, s)) (hkn : k + c ≤ c0 ∧ n + s ≤ s0) : J γ (XW G o B τ) k n 248 [(0, .ref o), (1, .int x1), (2, .int x2), (3, .long x3), (5, .int x5), (6, .int x6), (7, .int x7), (8, .int x8)] [] := by
  unfold x0_join_248 at hf
  refine j_aload_n (pc := 248) M.1 dX0_join_248 0 rfl ?_
  refine jx_getA (pc := 249) M xfa_77 dX0_join_249 ?_
  refine j_iload (pc := 252) M.1 dX0_join_252 6 rfl ?_
  refine j_iload (pc := 254) M.1 dX0_join_254 7 rfl ?_
  refine j_aload_n (pc := 256) M.1 dX0_join_256 0 rfl ?_
  refine jx_getS (pc := 257) M xfs_378 dX0_join_257 ?_
  refine j_icmp_ge (pc := 260) M.1 268 dX0_join_260 rfl (fun b1 => ?_) (fun b1 => ?_)
  · replace hf := o_pos b1 hf
    refine j_bipush (pc := 268) M.1 dX0_join_268 kc_bipush_60 ?_
    exact kx0_join_270 M x1 x2 x3 x5 x6 x7 x8 60 x7 R hR τ hf hkn
  · replace hf := o_neg b1 hf
    refine j_iload (pc := 263) M.1 dX0_join_263 7 rfl ?_
    refine j_goto (pc := 265) M.1 270 dX0_join_265 rfl ?_
    exact kx0_join_270 M x1 x2 x3 x5 x6 x7 x8 x8 x7 R hR τ hf hkn
noncomputable def x0_join_B164 (F : Nat) (x1 : Int32) (R : Int32 × Int64 × Int32 × Int32 × Int32 × XS → XR Int32) (a : Int32 × Int64 × Int32 × Int32 × Int32 × XS) : XR Int32 :=
  if x1 ≤ a.2.2.2.2.1 then (nx (xS a.2.2.2.2.2 22 x1) (fun τ1 => some (a.2.2.2.1, τ1, 0, 0))) else (nx (a.1 &&& ((1 <<< (a.2.2.2.2.1 &&& 31)) ^^^ ((-1))) : Int32) (fun y1 => lp (x0_join_B182 F (fun a1 => x0_join_248 F R x1 y1 a.2.1 a.2.2.1 a.2.2.2.1 a.2.2.2.2.1 a1.1 a1.2) x1 y1 a.2.1 a.2.2.1 a.2.2.2.1 a.2.2.2.2.1) F (0, a.2.2.2.2.2)))
theorem kx0_join_B164 (M : XC γ cX0_join 9 RX0 "join" G o B 47 (some .int) (xQi G o B v τr) c0 s0) (x1 : Int32) : ∀ R : Int32 × Int64 × Int32 × Int32 × Int32 × XS → XR Int32, (∀ a c s, R a = some (v, τr, c, s) → ∀ k n, k + c ≤ c0 ∧ n + s ≤ s0 → J γ (XW G o B a.2.2.2.2.2) k n 164 [(0, .ref o), (1, .int x1), (2, .int a.1), (3, .long a.2.1), (5, .int a.2.2.1), (6, .int a.2.2.2.1), (7, .int a.2.2.2.2.1)] []) → ∀ a c s, x0_join_B164 F x1 R a = some (v, τr, c, s) → ∀ k n, k + c ≤ c0 ∧ n + s ≤ s0 → J γ (XW G o B a.2.2.2.2.2) k n 164 [(0, .ref o), (1, .int x1), (2, .int a.1), (3, .long a.2.1), (5, .int a.2.2.1), (6, .int a.2.2.2.1), (7, .int a.2.2.2.2.1)] [] := by
  intro R hR a c s hf k n hkn
  unfold x0_join_B164 at hf
  refine j_iload (pc := 164) M.1 dX0_join_164 6 rfl ?_
  refine j_iload_n (pc := 166) M.1 dX0_join_166 1 rfl ?_
  refine j_icmp_ge (pc := 167) M.1 314 dX0_join_167 rfl (fun b1 => ?_) (fun b1 => ?_)
  · replace hf := o_pos b1 hf
    refine j_aload_n (pc := 314) M.1 dX0_join_314 0 rfl ?_
    refine j_iload_n (pc := 315) M.1 dX0_join_315 1 rfl ?_
    obtain ⟨τ1, e1, hf⟩ := o_nx hf
    refine jx_putS (pc := 316) M xfs_416 dX0_join_316 e1 ?_
    refine j_iload (pc := 319) M.1 dX0_join_319 5 rfl ?_
    exact jx_iretF (pc := 321) M dX0_join_321 hf hkn
  · replace hf := o_neg b1 hf
    refine j_iload_n (pc := 170) M.1 dX0_join_170 2 rfl ?_
    refine j_iconst (pc := 171) M.1 dX0_join_171 kc_iconst_1 ?_
    refine j_iload (pc := 172) M.1 dX0_join_172 6 rfl ?_
    refine j_ishl (pc := 174) M.1 dX0_join_174 ?_
    refine j_iconst (pc := 175) M.1 dX0_join_175 kc_iconst_m1 ?_
    refine j_ixor (pc := 176) M.1 dX0_join_176 ?_
    refine j_iand (pc := 177) M.1 dX0_join_177 ?_
    obtain ⟨y1, e2, hf⟩ := o_nx hf
    refine j_top e2 ?_
    refine j_istore_n (pc := 178) M.1 [(2, .int y1), (0, .ref o), (1, .int x1), (3, .long a.2.1), (5, .int a.2.2.1), (6, .int a.2.2.2.1), (7, .int a.2.2.2.2.1)] dX0_join_178 rfl rfl ?_
    refine j_iconst (pc := 179) M.1 dX0_join_179 kc_iconst_0 ?_
    refine j_istore (pc := 180) M.1 [(8, .int 0), (2, .int y1), (0, .ref o), (1, .int x1), (3, .long a.2.1), (5, .int a.2.2.1), (6, .int a.2.2.2.1), (7, .int a.2.2.2.2.1)] dX0_join_180 rfl rfl ?_
    refine j_sub [2, 3, 1, 4, 5, 6, 7, 0] (show lv_pick _ _ = [(0, .ref o), (1, .int x1), (2, .int y1), (3, .long a.2.1), (5, .int a.2.2.1), (6, .int a.2.2.2.1), (7, .int a.2.2.2.2.1), (8, .int 0)] from rfl) ?_
    refine lp_Wc (kx0_join_B182 M x1 y1 a.2.1 a.2.2.1 a.2.2.2.1 a.2.2.2.2.1 _ ?_) F (0, a.2.2.2.2.2) _ _ hf _ _ hkn
    · intro a1 c s hf k n hkn
      exact kx0_join_248 M x1 y1 a.2.1 a.2.2.1 a.2.2.2.1 a.2.2.2.2.1 a1.1 R hR a1.2 hf hkn
noncomputable def x0_join (F : Nat) (x1 : Int32) (τ : XS) : XR Int32 :=
  if x1 < 0 then (some ((-1), τ, 0, 0)) else (if 8 < x1 then (some ((-1), τ, 0, 0)) else (if x1 ≤ (τ.1.1 5) then (nx (xS τ 5 0) (fun τ1 => (x0_asks F x1 τ1).bind (fun r1 => tk r1.2.2.1 r1.2.2.2 (if r1.1 = 0 then (some ((-2), r1.2.1, 0, 0)) else (lp (x0_join_B38 F (fun a1 => nx ((1 <<< (x1 &&& 31)) - 1 : Int32) (fun y1 => (x0_most F y1 0 a1.2).bind (fun r2 => tk r2.2.2.1 r2.2.2.2 (lp (x0_join_B164 F x1) F (y1, 0, r2.1, 0, 0, r2.2.1))))) x1) F (0, r1.2.1)))))) else (some ((-1), τ, 0, 0))))
theorem met_x0_join {l : Launch} {G : gG} {o B F : Nat} {x1 : Int32} {τ : XS} {r : Int32 × XS × Nat × Nat} (hf : x0_join F x1 τ = some r) : MetX l G o B yX0_join cX0_join 9 (some .int) 47 [.ref o, .int x1] τ (xQi G o B r.1 r.2.1) r.2.2.1 r.2.2.2 := by
  obtain ⟨v, τr, c, s⟩ := r
  refine metX_of (own := RX0) (mn := "join") (by decide) rfl rfl rfl (fun γ hγ M => ?_)
  subst hγ
  show J γ (XW G o B τ) 0 0 0 [(0, .ref o), (1, .int x1)] []
  have hkn : 0 + c ≤ c ∧ 0 + s ≤ s := ⟨by omega, by omega⟩
  unfold x0_join at hf
  refine j_iload_n (pc := 0) M.1 dX0_join_0 1 rfl ?_
  refine j_if_lt (pc := 1) M.1 18 dX0_join_1 rfl (fun b1 => ?_) (fun b1 => ?_)
  · replace hf := o_pos b1 hf
    refine j_iconst (pc := 18) M.1 dX0_join_18 kc_iconst_m1 ?_
    exact jx_iretF (pc := 19) M dX0_join_19 hf hkn
  · replace hf := o_neg b1 hf
    refine j_iload_n (pc := 4) M.1 dX0_join_4 1 rfl ?_
    refine j_bipush (pc := 5) M.1 dX0_join_5 kc_bipush_8 ?_
    refine j_icmp_gt (pc := 7) M.1 18 dX0_join_7 rfl (fun b2 => ?_) (fun b2 => ?_)
    · replace hf := o_pos b2 hf
      refine j_iconst (pc := 18) M.1 dX0_join_18 kc_iconst_m1 ?_
      exact jx_iretF (pc := 19) M dX0_join_19 hf hkn
    · replace hf := o_neg b2 hf
      refine j_iload_n (pc := 10) M.1 dX0_join_10 1 rfl ?_
      refine j_aload_n (pc := 11) M.1 dX0_join_11 0 rfl ?_
      refine jx_getS (pc := 12) M xfs_264 dX0_join_12 ?_
      refine j_icmp_le (pc := 15) M.1 20 dX0_join_15 rfl (fun b3 => ?_) (fun b3 => ?_)
      · replace hf := o_pos b3 hf
        refine j_aload_n (pc := 20) M.1 dX0_join_20 0 rfl ?_
        refine j_iconst (pc := 21) M.1 dX0_join_21 kc_iconst_0 ?_
        obtain ⟨τ1, e1, hf⟩ := o_nx hf
        refine jx_putS (pc := 22) M xfs_264 dX0_join_22 e1 ?_
        refine j_aload_n (pc := 25) M.1 dX0_join_25 0 rfl ?_
        refine j_iload_n (pc := 26) M.1 dX0_join_26 1 rfl ?_
        obtain ⟨r1, g1, hf⟩ := o_bind hf
        obtain ⟨c1, s1, hf, hc1, hs1⟩ := o_tk hf
        replace hkn := kn_step hkn hc1 hs1
        refine jx_i M (x_runV (pc := 27) (As := [.int x1]) (rest := []) (V := xV o τ1) M xcw_X0_409 (met_x0_asks g1) (fun H h => h.1 o _ xH_o) (by decide) rfl rfl rfl dX0_join_27 (kn_le hkn)) ?_
        refine j_if_ne (pc := 30) M.1 36 dX0_join_30 rfl (fun b4 => ?_) (fun b4 => ?_)
        · replace hf := o_neg b4 hf
          refine j_iconst (pc := 36) M.1 dX0_join_36 kc_iconst_0 ?_
          refine j_istore_n (pc := 37) M.1 [(2, .int 0), (0, .ref o), (1, .int x1)] dX0_join_37 rfl rfl ?_
          refine j_sub [1, 2, 0] (show lv_pick _ _ = [(0, .ref o), (1, .int x1), (2, .int 0)] from rfl) ?_
          refine lp_Wc (kx0_join_B38 M x1 _ ?_) F (0, r1.2.1) _ _ hf _ _ hkn
          · intro a1 c s hf k n hkn
            refine j_iconst (pc := 142) M.1 dX0_join_142 kc_iconst_1 ?_
            refine j_iload_n (pc := 143) M.1 dX0_join_143 1 rfl ?_
            refine j_ishl (pc := 144) M.1 dX0_join_144 ?_
            refine j_iconst (pc := 145) M.1 dX0_join_145 kc_iconst_1 ?_
            refine j_isub (pc := 146) M.1 dX0_join_146 ?_
            obtain ⟨y1, e2, hf⟩ := o_nx hf
            refine j_top e2 ?_
            refine j_istore_n (pc := 147) M.1 [(2, .int y1), (0, .ref o), (1, .int x1)] dX0_join_147 rfl rfl ?_
            refine j_lconst (pc := 148) M.1 dX0_join_148 kl_0 ?_
            refine j_lstore_n (pc := 149) M.1 [(3, .long 0), (2, .int y1), (0, .ref o), (1, .int x1)] dX0_join_149 rfl rfl ?_
            refine j_aload_n (pc := 150) M.1 dX0_join_150 2 rfl ?_
            refine j_iload_n (pc := 151) M.1 dX0_join_151 1 rfl ?_
            refine j_lload_n (pc := 152) M.1 dX0_join_152 0 rfl ?_
            obtain ⟨r2, g2, hf⟩ := o_bind hf
            obtain ⟨c2, s2, hf, hc2, hs2⟩ := o_tk hf
            replace hkn := kn_step hkn hc2 hs2
            refine jx_i M (x_runV (pc := 153) (As := [.int y1, .long 0]) (rest := []) (V := xV o a1.2) M xcw_X0_412 (met_x0_most g2) (fun H h => h.1 o _ xH_o) (by decide) rfl rfl rfl dX0_join_153 (kn_le hkn)) ?_
            refine j_istore (pc := 156) M.1 [(5, .int r2.1), (3, .long 0), (2, .int y1), (0, .ref o), (1, .int x1)] dX0_join_156 rfl rfl ?_
            refine j_iconst (pc := 158) M.1 dX0_join_158 kc_iconst_0 ?_
            refine j_istore (pc := 159) M.1 [(6, .int 0), (5, .int r2.1), (3, .long 0), (2, .int y1), (0, .ref o), (1, .int x1)] dX0_join_159 rfl rfl ?_
            refine j_iconst (pc := 161) M.1 dX0_join_161 kc_iconst_0 ?_
            refine j_istore (pc := 162) M.1 [(7, .int 0), (6, .int 0), (5, .int r2.1), (3, .long 0), (2, .int y1), (0, .ref o), (1, .int x1)] dX0_join_162 rfl rfl ?_
            refine j_sub [5, 6, 4, 3, 2, 1, 0] (show lv_pick _ _ = [(0, .ref o), (1, .int x1), (2, .int y1), (3, .long 0), (5, .int r2.1), (6, .int 0), (7, .int 0)] from rfl) ?_
            refine lp_Wc (kx0_join_B164 M x1) F (y1, 0, r2.1, 0, 0, r2.2.1) _ _ hf _ _ hkn
        · replace hf := o_pos b4 hf
          refine j_bipush (pc := 33) M.1 dX0_join_33 kc_bipush_m2 ?_
          exact jx_iretF (pc := 35) M dX0_join_35 hf hkn
      · replace hf := o_neg b3 hf
        refine j_iconst (pc := 18) M.1 dX0_join_18 kc_iconst_m1 ?_
        exact jx_iretF (pc := 19) M dX0_join_19 hf hkn
end
theorem dX0_joined_0 : decode cX0_joined 0 = .ok (.iload_n 1, 1) := by decide +kernel
theorem dX0_joined_1 : decode cX0_joined 1 = .ok (.aload_n 0, 1) := by decide +kernel
theorem dX0_joined_2 : decode cX0_joined 2 = .ok (.getfield 416, 3) := by decide +kernel
theorem dX0_joined_5 : decode cX0_joined 5 = .ok (.invokestatic 137, 3) := by decide +kernel
theorem dX0_joined_8 : decode cX0_joined 8 = .ok (.ifCond .eq 12, 3) := by decide +kernel
theorem dX0_joined_11 : decode cX0_joined 11 = .ok (.aload_n 0, 1) := by decide +kernel
theorem dX0_joined_12 : decode cX0_joined 12 = .ok (.getfield 77, 3) := by decide +kernel
theorem dX0_joined_15 : decode cX0_joined 15 = .ok (.iload_n 1, 1) := by decide +kernel
theorem dX0_joined_16 : decode cX0_joined 16 = .ok (.iaload, 1) := by decide +kernel
theorem dX0_joined_17 : decode cX0_joined 17 = .ok (.goto 4, 3) := by decide +kernel
theorem dX0_joined_20 : decode cX0_joined 20 = .ok (.iconst (-1), 1) := by decide +kernel
theorem dX0_joined_21 : decode cX0_joined 21 = .ok (.ireturn, 1) := by decide +kernel
section
variable {v : Int32}
noncomputable def x0_joined (F : Nat) (x1 : Int32) (τ : XS) : XR Int32 :=
  (x0_in F x1 (τ.1.1 22)).bind (fun r1 => if r1 = 0 then (some ((-1), τ, 0, 0)) else (if okI x1 8 = true then some (τ.1.2 19 x1.toNatClampNeg, τ, 0, 0) else none))
theorem met_x0_joined {l : Launch} {G : gG} {o B F : Nat} {x1 : Int32} {τ : XS} {r : Int32 × XS × Nat × Nat} (hf : x0_joined F x1 τ = some r) : MetX l G o B yX0_joined cX0_joined 2 (some .int) 2 [.ref o, .int x1] τ (xQi G o B r.1 r.2.1) r.2.2.1 r.2.2.2 := by
  obtain ⟨v, τr, c, s⟩ := r
  refine metX_of (own := RX0) (mn := "joined") (by decide) rfl rfl rfl (fun γ hγ M => ?_)
  subst hγ
  show J γ (XW G o B τ) 0 0 0 [(0, .ref o), (1, .int x1)] []
  have hkn : 0 + c ≤ c ∧ 0 + s ≤ s := ⟨by omega, by omega⟩
  unfold x0_joined at hf
  refine j_iload_n (pc := 0) M.1 dX0_joined_0 1 rfl ?_
  refine j_aload_n (pc := 1) M.1 dX0_joined_1 0 rfl ?_
  refine jx_getS (pc := 2) M xfs_416 dX0_joined_2 ?_
  obtain ⟨r1, g1, hf⟩ := o_bind hf
  refine jx_calls (pc := 5) (As := [.int x1, .int (τ.1.1 22)]) (rest := []) M xcs_X0_137 (met_x0_in g1) rfl rfl rfl rfl dX0_joined_5 (kn_le0 hkn) ?_
  refine j_if_eq (pc := 8) M.1 20 dX0_joined_8 rfl (fun b1 => ?_) (fun b1 => ?_)
  · replace hf := o_pos b1 hf
    refine j_iconst (pc := 20) M.1 dX0_joined_20 kc_iconst_m1 ?_
    exact jx_iretF (pc := 21) M dX0_joined_21 hf hkn
  · replace hf := o_neg b1 hf
    refine j_aload_n (pc := 11) M.1 dX0_joined_11 0 rfl ?_
    refine jx_getA (pc := 12) M xfa_77 dX0_joined_12 ?_
    refine j_iload_n (pc := 15) M.1 dX0_joined_15 1 rfl ?_
    obtain ⟨b2, hf⟩ := o_need hf
    refine jx_iald (pc := 16) M xax_19 b2 dX0_joined_16 ?_
    refine j_goto (pc := 17) M.1 21 dX0_joined_17 rfl ?_
    exact jx_iretF (pc := 21) M dX0_joined_21 hf hkn
end
theorem dX0_isLost_0 : decode cX0_isLost 0 = .ok (.aload_n 0, 1) := by decide +kernel
theorem dX0_isLost_1 : decode cX0_isLost 1 = .ok (.aload_n 1, 1) := by decide +kernel
theorem dX0_isLost_2 : decode cX0_isLost 2 = .ok (.invokevirtual 393, 3) := by decide +kernel
theorem dX0_isLost_5 : decode cX0_isLost 5 = .ok (.istore_n 2, 1) := by decide +kernel
theorem dX0_isLost_6 : decode cX0_isLost 6 = .ok (.iconst 0, 1) := by decide +kernel
theorem dX0_isLost_7 : decode cX0_isLost 7 = .ok (.istore_n 3, 1) := by decide +kernel
theorem dX0_isLost_8 : decode cX0_isLost 8 = .ok (.iload_n 3, 1) := by decide +kernel
theorem dX0_isLost_9 : decode cX0_isLost 9 = .ok (.aload_n 0, 1) := by decide +kernel
theorem dX0_isLost_10 : decode cX0_isLost 10 = .ok (.getfield 378, 3) := by decide +kernel
theorem dX0_isLost_13 : decode cX0_isLost 13 = .ok (.if_icmp .ge 37, 3) := by decide +kernel
theorem dX0_isLost_16 : decode cX0_isLost 16 = .ok (.aload_n 0, 1) := by decide +kernel
theorem dX0_isLost_17 : decode cX0_isLost 17 = .ok (.getfield 65, 3) := by decide +kernel
theorem dX0_isLost_20 : decode cX0_isLost 20 = .ok (.iload_n 3, 1) := by decide +kernel
theorem dX0_isLost_21 : decode cX0_isLost 21 = .ok (.aaload, 1) := by decide +kernel
theorem dX0_isLost_22 : decode cX0_isLost 22 = .ok (.getfield 384, 3) := by decide +kernel
theorem dX0_isLost_25 : decode cX0_isLost 25 = .ok (.ifCond .ne 19, 3) := by decide +kernel
theorem dX0_isLost_28 : decode cX0_isLost 28 = .ok (.aload_n 1, 1) := by decide +kernel
theorem dX0_isLost_29 : decode cX0_isLost 29 = .ok (.aload_n 0, 1) := by decide +kernel
theorem dX0_isLost_30 : decode cX0_isLost 30 = .ok (.getfield 65, 3) := by decide +kernel
theorem dX0_isLost_33 : decode cX0_isLost 33 = .ok (.iload_n 3, 1) := by decide +kernel
theorem dX0_isLost_34 : decode cX0_isLost 34 = .ok (.aaload, 1) := by decide +kernel
theorem dX0_isLost_35 : decode cX0_isLost 35 = .ok (.iload_n 2, 1) := by decide +kernel
theorem dX0_isLost_36 : decode cX0_isLost 36 = .ok (.invokestatic 396, 3) := by decide +kernel
theorem dX0_isLost_39 : decode cX0_isLost 39 = .ok (.ifCond .eq 5, 3) := by decide +kernel
theorem dX0_isLost_42 : decode cX0_isLost 42 = .ok (.iconst 0, 1) := by decide +kernel
theorem dX0_isLost_43 : decode cX0_isLost 43 = .ok (.ireturn, 1) := by decide +kernel
theorem dX0_isLost_44 : decode cX0_isLost 44 = .ok (.iinc 3 1, 3) := by decide +kernel
theorem dX0_isLost_47 : decode cX0_isLost 47 = .ok (.goto (-39), 3) := by decide +kernel
theorem dX0_isLost_50 : decode cX0_isLost 50 = .ok (.iconst 1, 1) := by decide +kernel
theorem dX0_isLost_51 : decode cX0_isLost 51 = .ok (.ireturn, 1) := by decide +kernel
section
variable {v : Int32}
noncomputable def x0_isLost_B8 (F : Nat) (x1 : Nat) (x2 : Int32) (R : Int32 × XS → XR Int32) (a : Int32 × XS) : XR Int32 :=
  if (a.2.1.1 18) ≤ a.1 then (some (1, a.2, 0, 0)) else (if okI a.1 60 = true then (a.2.2.1 8 a.1.toNatClampNeg).bind (fun n1 => (gI a.2 n1 [21] 3).bind (fun v1 => if v1 = 0 then (if okI a.1 60 = true then (a.2.2.1 8 a.1.toNatClampNeg).bind (fun n2 => (x0_fits F x1 n2 x2 a.2).bind (fun r1 => tk r1.2.2.1 r1.2.2.2 (if r1.1 = 0 then (R (a.1 + 1, r1.2.1)) else (some (0, r1.2.1, 0, 0))))) else none) else (R (a.1 + 1, a.2)))) else none)
theorem kx0_isLost_B8 (M : XC γ cX0_isLost 4 RX0 "isLost" G o B 47 (some .boolean) (xQi G o B v τr) c0 s0) (x1 : Nat) (x2 : Int32) : ∀ R : Int32 × XS → XR Int32, (∀ a c s, R a = some (v, τr, c, s) → ∀ k n, k + c ≤ c0 ∧ n + s ≤ s0 → J γ (XW G o B a.2) k n 8 [(0, .ref o), (1, .ref x1), (2, .int x2), (3, .int a.1)] []) → ∀ a c s, x0_isLost_B8 F x1 x2 R a = some (v, τr, c, s) → ∀ k n, k + c ≤ c0 ∧ n + s ≤ s0 → J γ (XW G o B a.2) k n 8 [(0, .ref o), (1, .ref x1), (2, .int x2), (3, .int a.1)] [] := by
  intro R hR a c s hf k n hkn
  unfold x0_isLost_B8 at hf
  refine j_iload_n (pc := 8) M.1 dX0_isLost_8 3 rfl ?_
  refine j_aload_n (pc := 9) M.1 dX0_isLost_9 0 rfl ?_
  refine jx_getS (pc := 10) M xfs_378 dX0_isLost_10 ?_
  refine j_icmp_ge (pc := 13) M.1 50 dX0_isLost_13 rfl (fun b1 => ?_) (fun b1 => ?_)
  · replace hf := o_pos b1 hf
    refine j_iconst (pc := 50) M.1 dX0_isLost_50 kc_iconst_1 ?_
    exact jx_zretF (pc := 51) M dX0_isLost_51 rfl hf hkn
  · replace hf := o_neg b1 hf
    refine j_aload_n (pc := 16) M.1 dX0_isLost_16 0 rfl ?_
    refine jx_getA (pc := 17) M xfa_65 dX0_isLost_17 ?_
    refine j_iload_n (pc := 20) M.1 dX0_isLost_20 3 rfl ?_
    obtain ⟨b2, hf⟩ := o_need hf
    obtain ⟨n1, g1, hf⟩ := o_bind hf
    refine jx_aald (pc := 21) M xax_8 (by decide) xrt_8 b2 g1 dX0_isLost_21 ?_
    obtain ⟨v1, g2, hf⟩ := o_bind hf
    refine jx_getI (pc := 22) M xfl_X0_384 g2 dX0_isLost_22 ?_
    refine j_if_ne (pc := 25) M.1 44 dX0_isLost_25 rfl (fun b3 => ?_) (fun b3 => ?_)
    · replace hf := o_neg b3 hf
      refine j_iinc (pc := 44) M.1 [(3, .int (a.1 + 1)), (0, .ref o), (1, .ref x1), (2, .int x2)] dX0_isLost_44 3 rfl (congrArg _ kc_iconst_1) rfl rfl ?_
      refine j_goto (pc := 47) M.1 8 dX0_isLost_47 rfl ?_
      refine j_sub [1, 2, 3, 0] (show lv_pick _ _ = [(0, .ref o), (1, .ref x1), (2, .int x2), (3, .int (a.1 + 1))] from rfl) ?_
      have hy := hR _ _ _ hf _ _ hkn
      exact hy
    · replace hf := o_pos b3 hf
      refine j_aload_n (pc := 28) M.1 dX0_isLost_28 1 rfl ?_
      refine j_aload_n (pc := 29) M.1 dX0_isLost_29 0 rfl ?_
      refine jx_getA (pc := 30) M xfa_65 dX0_isLost_30 ?_
      refine j_iload_n (pc := 33) M.1 dX0_isLost_33 3 rfl ?_
      obtain ⟨b4, hf⟩ := o_need hf
      obtain ⟨n2, g3, hf⟩ := o_bind hf
      refine jx_aald (pc := 34) M xax_8 (by decide) xrt_8 b4 g3 dX0_isLost_34 ?_
      refine j_iload_n (pc := 35) M.1 dX0_isLost_35 2 rfl ?_
      obtain ⟨r1, g4, hf⟩ := o_bind hf
      obtain ⟨c1, s1, hf, hc1, hs1⟩ := o_tk hf
      replace hkn := kn_step hkn hc1 hs1
      refine jx_i M (x_runS (pc := 36) (As := [.ref x1, .ref n2, .int x2]) (rest := []) M xcs_X0_396 (met_x0_fits g4) (by decide) rfl rfl rfl dX0_isLost_36 (kn_le hkn)) ?_
      refine j_if_eq (pc := 39) M.1 44 dX0_isLost_39 rfl (fun b5 => ?_) (fun b5 => ?_)
      · replace hf := o_pos b5 hf
        refine j_iinc (pc := 44) M.1 [(3, .int (a.1 + 1)), (0, .ref o), (1, .ref x1), (2, .int x2)] dX0_isLost_44 3 rfl (congrArg _ kc_iconst_1) rfl rfl ?_
        refine j_goto (pc := 47) M.1 8 dX0_isLost_47 rfl ?_
        refine j_sub [1, 2, 3, 0] (show lv_pick _ _ = [(0, .ref o), (1, .ref x1), (2, .int x2), (3, .int (a.1 + 1))] from rfl) ?_
        have hy := hR _ _ _ hf _ _ hkn
        exact hy
      · replace hf := o_neg b5 hf
        refine j_iconst (pc := 42) M.1 dX0_isLost_42 kc_iconst_0 ?_
        exact jx_zretF (pc := 43) M dX0_isLost_43 rfl hf hkn
noncomputable def x0_isLost (F : Nat) (x1 : Nat) (τ : XS) : XR Int32 :=
  (x0_wanted F x1 τ).bind (fun r1 => tk r1.2.2.1 r1.2.2.2 (lp (x0_isLost_B8 F x1 r1.1) F (0, r1.2.1)))
theorem met_x0_isLost {l : Launch} {G : gG} {o B F : Nat} {x1 : Nat} {τ : XS} {r : Int32 × XS × Nat × Nat} (hf : x0_isLost F x1 τ = some r) : MetX l G o B yX0_isLost cX0_isLost 4 (some .boolean) 47 [.ref o, .ref x1] τ (xQi G o B r.1 r.2.1) r.2.2.1 r.2.2.2 := by
  obtain ⟨v, τr, c, s⟩ := r
  refine metX_of (own := RX0) (mn := "isLost") (by decide) rfl rfl rfl (fun γ hγ M => ?_)
  subst hγ
  show J γ (XW G o B τ) 0 0 0 [(0, .ref o), (1, .ref x1)] []
  have hkn : 0 + c ≤ c ∧ 0 + s ≤ s := ⟨by omega, by omega⟩
  unfold x0_isLost at hf
  refine j_aload_n (pc := 0) M.1 dX0_isLost_0 0 rfl ?_
  refine j_aload_n (pc := 1) M.1 dX0_isLost_1 1 rfl ?_
  obtain ⟨r1, g1, hf⟩ := o_bind hf
  obtain ⟨c1, s1, hf, hc1, hs1⟩ := o_tk hf
  replace hkn := kn_step hkn hc1 hs1
  refine jx_i M (x_runV (pc := 2) (As := [.ref x1]) (rest := []) (V := xV o τ) M xcw_X0_393 (met_x0_wanted g1) (fun H h => h.1 o _ xH_o) (by decide) rfl rfl rfl dX0_isLost_2 (kn_le hkn)) ?_
  refine j_istore_n (pc := 5) M.1 [(2, .int r1.1), (0, .ref o), (1, .ref x1)] dX0_isLost_5 rfl rfl ?_
  refine j_iconst (pc := 6) M.1 dX0_isLost_6 kc_iconst_0 ?_
  refine j_istore_n (pc := 7) M.1 [(3, .int 0), (2, .int r1.1), (0, .ref o), (1, .ref x1)] dX0_isLost_7 rfl rfl ?_
  refine j_sub [2, 3, 1, 0] (show lv_pick _ _ = [(0, .ref o), (1, .ref x1), (2, .int r1.1), (3, .int 0)] from rfl) ?_
  refine lp_Wc (kx0_isLost_B8 M x1 r1.1) F (0, r1.2.1) _ _ hf _ _ hkn
end
theorem dX0_wouldBe_0 : decode cX0_wouldBe 0 = .ok (.aload_n 0, 1) := by decide +kernel
theorem dX0_wouldBe_1 : decode cX0_wouldBe 1 = .ok (.aload_n 1, 1) := by decide +kernel
theorem dX0_wouldBe_2 : decode cX0_wouldBe 2 = .ok (.invokevirtual 393, 3) := by decide +kernel
theorem dX0_wouldBe_5 : decode cX0_wouldBe 5 = .ok (.istore_n 3, 1) := by decide +kernel
theorem dX0_wouldBe_6 : decode cX0_wouldBe 6 = .ok (.iconst 0, 1) := by decide +kernel
theorem dX0_wouldBe_7 : decode cX0_wouldBe 7 = .ok (.istore 4, 2) := by decide +kernel
theorem dX0_wouldBe_9 : decode cX0_wouldBe 9 = .ok (.iload 4, 2) := by decide +kernel
theorem dX0_wouldBe_11 : decode cX0_wouldBe 11 = .ok (.aload_n 0, 1) := by decide +kernel
theorem dX0_wouldBe_12 : decode cX0_wouldBe 12 = .ok (.getfield 378, 3) := by decide +kernel
theorem dX0_wouldBe_15 : decode cX0_wouldBe 15 = .ok (.if_icmp .ge 40, 3) := by decide +kernel
theorem dX0_wouldBe_18 : decode cX0_wouldBe 18 = .ok (.aload_n 0, 1) := by decide +kernel
theorem dX0_wouldBe_19 : decode cX0_wouldBe 19 = .ok (.getfield 65, 3) := by decide +kernel
theorem dX0_wouldBe_22 : decode cX0_wouldBe 22 = .ok (.iload 4, 2) := by decide +kernel
theorem dX0_wouldBe_24 : decode cX0_wouldBe 24 = .ok (.aaload, 1) := by decide +kernel
theorem dX0_wouldBe_25 : decode cX0_wouldBe 25 = .ok (.getfield 419, 3) := by decide +kernel
theorem dX0_wouldBe_28 : decode cX0_wouldBe 28 = .ok (.iload_n 2, 1) := by decide +kernel
theorem dX0_wouldBe_29 : decode cX0_wouldBe 29 = .ok (.if_icmp .ne 20, 3) := by decide +kernel
theorem dX0_wouldBe_32 : decode cX0_wouldBe 32 = .ok (.aload_n 1, 1) := by decide +kernel
theorem dX0_wouldBe_33 : decode cX0_wouldBe 33 = .ok (.aload_n 0, 1) := by decide +kernel
theorem dX0_wouldBe_34 : decode cX0_wouldBe 34 = .ok (.getfield 65, 3) := by decide +kernel
theorem dX0_wouldBe_37 : decode cX0_wouldBe 37 = .ok (.iload 4, 2) := by decide +kernel
theorem dX0_wouldBe_39 : decode cX0_wouldBe 39 = .ok (.aaload, 1) := by decide +kernel
theorem dX0_wouldBe_40 : decode cX0_wouldBe 40 = .ok (.iload_n 3, 1) := by decide +kernel
theorem dX0_wouldBe_41 : decode cX0_wouldBe 41 = .ok (.invokestatic 396, 3) := by decide +kernel
theorem dX0_wouldBe_44 : decode cX0_wouldBe 44 = .ok (.ifCond .eq 5, 3) := by decide +kernel
theorem dX0_wouldBe_47 : decode cX0_wouldBe 47 = .ok (.iconst 1, 1) := by decide +kernel
theorem dX0_wouldBe_48 : decode cX0_wouldBe 48 = .ok (.ireturn, 1) := by decide +kernel
theorem dX0_wouldBe_49 : decode cX0_wouldBe 49 = .ok (.iinc 4 1, 3) := by decide +kernel
theorem dX0_wouldBe_52 : decode cX0_wouldBe 52 = .ok (.goto (-43), 3) := by decide +kernel
theorem dX0_wouldBe_55 : decode cX0_wouldBe 55 = .ok (.iconst 0, 1) := by decide +kernel
theorem dX0_wouldBe_56 : decode cX0_wouldBe 56 = .ok (.ireturn, 1) := by decide +kernel
section
variable {v : Int32}
noncomputable def x0_wouldBe_B9 (F : Nat) (x1 : Nat) (x2 : Int32) (x3 : Int32) (R : Int32 × XS → XR Int32) (a : Int32 × XS) : XR Int32 :=
  if (a.2.1.1 18) ≤ a.1 then (some (0, a.2, 0, 0)) else (if okI a.1 60 = true then (a.2.2.1 8 a.1.toNatClampNeg).bind (fun n1 => (gI a.2 n1 [21] 0).bind (fun v1 => if v1 = x2 then (if okI a.1 60 = true then (a.2.2.1 8 a.1.toNatClampNeg).bind (fun n2 => (x0_fits F x1 n2 x3 a.2).bind (fun r1 => tk r1.2.2.1 r1.2.2.2 (if r1.1 = 0 then (R (a.1 + 1, r1.2.1)) else (some (1, r1.2.1, 0, 0))))) else none) else (R (a.1 + 1, a.2)))) else none)
theorem kx0_wouldBe_B9 (M : XC γ cX0_wouldBe 5 RX0 "wouldBe" G o B 47 (some .boolean) (xQi G o B v τr) c0 s0) (x1 : Nat) (x2 : Int32) (x3 : Int32) : ∀ R : Int32 × XS → XR Int32, (∀ a c s, R a = some (v, τr, c, s) → ∀ k n, k + c ≤ c0 ∧ n + s ≤ s0 → J γ (XW G o B a.2) k n 9 [(0, .ref o), (1, .ref x1), (2, .int x2), (3, .int x3), (4, .int a.1)] []) → ∀ a c s, x0_wouldBe_B9 F x1 x2 x3 R a = some (v, τr, c, s) → ∀ k n, k + c ≤ c0 ∧ n + s ≤ s0 → J γ (XW G o B a.2) k n 9 [(0, .ref o), (1, .ref x1), (2, .int x2), (3, .int x3), (4, .int a.1)] [] := by
  intro R hR a c s hf k n hkn
  unfold x0_wouldBe_B9 at hf
  refine j_iload (pc := 9) M.1 dX0_wouldBe_9 4 rfl ?_
  refine j_aload_n (pc := 11) M.1 dX0_wouldBe_11 0 rfl ?_
  refine jx_getS (pc := 12) M xfs_378 dX0_wouldBe_12 ?_
  refine j_icmp_ge (pc := 15) M.1 55 dX0_wouldBe_15 rfl (fun b1 => ?_) (fun b1 => ?_)
  · replace hf := o_pos b1 hf
    refine j_iconst (pc := 55) M.1 dX0_wouldBe_55 kc_iconst_0 ?_
    exact jx_zretF (pc := 56) M dX0_wouldBe_56 rfl hf hkn
  · replace hf := o_neg b1 hf
    refine j_aload_n (pc := 18) M.1 dX0_wouldBe_18 0 rfl ?_
    refine jx_getA (pc := 19) M xfa_65 dX0_wouldBe_19 ?_
    refine j_iload (pc := 22) M.1 dX0_wouldBe_22 4 rfl ?_
    obtain ⟨b2, hf⟩ := o_need hf
    obtain ⟨n1, g1, hf⟩ := o_bind hf
    refine jx_aald (pc := 24) M xax_8 (by decide) xrt_8 b2 g1 dX0_wouldBe_24 ?_
    obtain ⟨v1, g2, hf⟩ := o_bind hf
    refine jx_getI (pc := 25) M xfl_X0_419 g2 dX0_wouldBe_25 ?_
    refine j_iload_n (pc := 28) M.1 dX0_wouldBe_28 2 rfl ?_
    refine j_icmp_ne (pc := 29) M.1 49 dX0_wouldBe_29 rfl (fun b3 => ?_) (fun b3 => ?_)
    · replace hf := o_neg b3 hf
      refine j_iinc (pc := 49) M.1 [(4, .int (a.1 + 1)), (0, .ref o), (1, .ref x1), (2, .int x2), (3, .int x3)] dX0_wouldBe_49 4 rfl (congrArg _ kc_iconst_1) rfl rfl ?_
      refine j_goto (pc := 52) M.1 9 dX0_wouldBe_52 rfl ?_
      refine j_sub [1, 2, 3, 4, 0] (show lv_pick _ _ = [(0, .ref o), (1, .ref x1), (2, .int x2), (3, .int x3), (4, .int (a.1 + 1))] from rfl) ?_
      have hy := hR _ _ _ hf _ _ hkn
      exact hy
    · replace hf := o_pos b3 hf
      refine j_aload_n (pc := 32) M.1 dX0_wouldBe_32 1 rfl ?_
      refine j_aload_n (pc := 33) M.1 dX0_wouldBe_33 0 rfl ?_
      refine jx_getA (pc := 34) M xfa_65 dX0_wouldBe_34 ?_
      refine j_iload (pc := 37) M.1 dX0_wouldBe_37 4 rfl ?_
      obtain ⟨b4, hf⟩ := o_need hf
      obtain ⟨n2, g3, hf⟩ := o_bind hf
      refine jx_aald (pc := 39) M xax_8 (by decide) xrt_8 b4 g3 dX0_wouldBe_39 ?_
      refine j_iload_n (pc := 40) M.1 dX0_wouldBe_40 3 rfl ?_
      obtain ⟨r1, g4, hf⟩ := o_bind hf
      obtain ⟨c1, s1, hf, hc1, hs1⟩ := o_tk hf
      replace hkn := kn_step hkn hc1 hs1
      refine jx_i M (x_runS (pc := 41) (As := [.ref x1, .ref n2, .int x3]) (rest := []) M xcs_X0_396 (met_x0_fits g4) (by decide) rfl rfl rfl dX0_wouldBe_41 (kn_le hkn)) ?_
      refine j_if_eq (pc := 44) M.1 49 dX0_wouldBe_44 rfl (fun b5 => ?_) (fun b5 => ?_)
      · replace hf := o_pos b5 hf
        refine j_iinc (pc := 49) M.1 [(4, .int (a.1 + 1)), (0, .ref o), (1, .ref x1), (2, .int x2), (3, .int x3)] dX0_wouldBe_49 4 rfl (congrArg _ kc_iconst_1) rfl rfl ?_
        refine j_goto (pc := 52) M.1 9 dX0_wouldBe_52 rfl ?_
        refine j_sub [1, 2, 3, 4, 0] (show lv_pick _ _ = [(0, .ref o), (1, .ref x1), (2, .int x2), (3, .int x3), (4, .int (a.1 + 1))] from rfl) ?_
        have hy := hR _ _ _ hf _ _ hkn
        exact hy
      · replace hf := o_neg b5 hf
        refine j_iconst (pc := 47) M.1 dX0_wouldBe_47 kc_iconst_1 ?_
        exact jx_zretF (pc := 48) M dX0_wouldBe_48 rfl hf hkn
noncomputable def x0_wouldBe (F : Nat) (x1 : Nat) (x2 : Int32) (τ : XS) : XR Int32 :=
  (x0_wanted F x1 τ).bind (fun r1 => tk r1.2.2.1 r1.2.2.2 (lp (x0_wouldBe_B9 F x1 x2 r1.1) F (0, r1.2.1)))
theorem met_x0_wouldBe {l : Launch} {G : gG} {o B F : Nat} {x1 : Nat} {x2 : Int32} {τ : XS} {r : Int32 × XS × Nat × Nat} (hf : x0_wouldBe F x1 x2 τ = some r) : MetX l G o B yX0_wouldBe cX0_wouldBe 5 (some .boolean) 47 [.ref o, .ref x1, .int x2] τ (xQi G o B r.1 r.2.1) r.2.2.1 r.2.2.2 := by
  obtain ⟨v, τr, c, s⟩ := r
  refine metX_of (own := RX0) (mn := "wouldBe") (by decide) rfl rfl rfl (fun γ hγ M => ?_)
  subst hγ
  show J γ (XW G o B τ) 0 0 0 [(0, .ref o), (1, .ref x1), (2, .int x2)] []
  have hkn : 0 + c ≤ c ∧ 0 + s ≤ s := ⟨by omega, by omega⟩
  unfold x0_wouldBe at hf
  refine j_aload_n (pc := 0) M.1 dX0_wouldBe_0 0 rfl ?_
  refine j_aload_n (pc := 1) M.1 dX0_wouldBe_1 1 rfl ?_
  obtain ⟨r1, g1, hf⟩ := o_bind hf
  obtain ⟨c1, s1, hf, hc1, hs1⟩ := o_tk hf
  replace hkn := kn_step hkn hc1 hs1
  refine jx_i M (x_runV (pc := 2) (As := [.ref x1]) (rest := []) (V := xV o τ) M xcw_X0_393 (met_x0_wanted g1) (fun H h => h.1 o _ xH_o) (by decide) rfl rfl rfl dX0_wouldBe_2 (kn_le hkn)) ?_
  refine j_istore_n (pc := 5) M.1 [(3, .int r1.1), (0, .ref o), (1, .ref x1), (2, .int x2)] dX0_wouldBe_5 rfl rfl ?_
  refine j_iconst (pc := 6) M.1 dX0_wouldBe_6 kc_iconst_0 ?_
  refine j_istore (pc := 7) M.1 [(4, .int 0), (3, .int r1.1), (0, .ref o), (1, .ref x1), (2, .int x2)] dX0_wouldBe_7 rfl rfl ?_
  refine j_sub [2, 3, 4, 1, 0] (show lv_pick _ _ = [(0, .ref o), (1, .ref x1), (2, .int x2), (3, .int r1.1), (4, .int 0)] from rfl) ?_
  refine lp_Wc (kx0_wouldBe_B9 M x1 x2 r1.1) F (0, r1.2.1) _ _ hf _ _ hkn
end
theorem dX0_lost_0 : decode cX0_lost 0 = .ok (.iload_n 1, 1) := by decide +kernel
theorem dX0_lost_1 : decode cX0_lost 1 = .ok (.ifCond .lt 25, 3) := by decide +kernel
theorem dX0_lost_4 : decode cX0_lost 4 = .ok (.iload_n 1, 1) := by decide +kernel
theorem dX0_lost_5 : decode cX0_lost 5 = .ok (.bipush 100, 2) := by decide +kernel
theorem dX0_lost_7 : decode cX0_lost 7 = .ok (.if_icmp .gt 19, 3) := by decide +kernel
theorem dX0_lost_10 : decode cX0_lost 10 = .ok (.iload_n 2, 1) := by decide +kernel
theorem dX0_lost_11 : decode cX0_lost 11 = .ok (.iconst 2, 1) := by decide +kernel
theorem dX0_lost_12 : decode cX0_lost 12 = .ok (.invokestatic 137, 3) := by decide +kernel
theorem dX0_lost_15 : decode cX0_lost 15 = .ok (.ifCond .eq 11, 3) := by decide +kernel
theorem dX0_lost_18 : decode cX0_lost 18 = .ok (.iload_n 1, 1) := by decide +kernel
theorem dX0_lost_19 : decode cX0_lost 19 = .ok (.aload_n 0, 1) := by decide +kernel
theorem dX0_lost_20 : decode cX0_lost 20 = .ok (.getfield 264, 3) := by decide +kernel
theorem dX0_lost_23 : decode cX0_lost 23 = .ok (.if_icmp .le 5, 3) := by decide +kernel
theorem dX0_lost_26 : decode cX0_lost 26 = .ok (.iconst (-1), 1) := by decide +kernel
theorem dX0_lost_27 : decode cX0_lost 27 = .ok (.ireturn, 1) := by decide +kernel
theorem dX0_lost_28 : decode cX0_lost 28 = .ok (.aload_n 0, 1) := by decide +kernel
theorem dX0_lost_29 : decode cX0_lost 29 = .ok (.iconst 0, 1) := by decide +kernel
theorem dX0_lost_30 : decode cX0_lost 30 = .ok (.putfield 264, 3) := by decide +kernel
theorem dX0_lost_33 : decode cX0_lost 33 = .ok (.aload_n 0, 1) := by decide +kernel
theorem dX0_lost_34 : decode cX0_lost 34 = .ok (.iload_n 1, 1) := by decide +kernel
theorem dX0_lost_35 : decode cX0_lost 35 = .ok (.invokevirtual 409, 3) := by decide +kernel
theorem dX0_lost_38 : decode cX0_lost 38 = .ok (.ifCond .ne 6, 3) := by decide +kernel
theorem dX0_lost_41 : decode cX0_lost 41 = .ok (.bipush (-2), 2) := by decide +kernel
theorem dX0_lost_43 : decode cX0_lost 43 = .ok (.ireturn, 1) := by decide +kernel
theorem dX0_lost_44 : decode cX0_lost 44 = .ok (.iconst 0, 1) := by decide +kernel
theorem dX0_lost_45 : decode cX0_lost 45 = .ok (.istore_n 3, 1) := by decide +kernel
theorem dX0_lost_46 : decode cX0_lost 46 = .ok (.bipush 10, 2) := by decide +kernel
theorem dX0_lost_48 : decode cX0_lost 48 = .ok (.newarray .int, 2) := by decide +kernel
theorem dX0_lost_50 : decode cX0_lost 50 = .ok (.astore 4, 2) := by decide +kernel
theorem dX0_lost_52 : decode cX0_lost 52 = .ok (.iconst 0, 1) := by decide +kernel
theorem dX0_lost_53 : decode cX0_lost 53 = .ok (.istore 5, 2) := by decide +kernel
theorem dX0_lost_55 : decode cX0_lost 55 = .ok (.iload 5, 2) := by decide +kernel
theorem dX0_lost_57 : decode cX0_lost 57 = .ok (.iload_n 1, 1) := by decide +kernel
theorem dX0_lost_58 : decode cX0_lost 58 = .ok (.if_icmp .ge 78, 3) := by decide +kernel
theorem dX0_lost_61 : decode cX0_lost 61 = .ok (.aload_n 0, 1) := by decide +kernel
theorem dX0_lost_62 : decode cX0_lost 62 = .ok (.getfield 59, 3) := by decide +kernel
theorem dX0_lost_65 : decode cX0_lost 65 = .ok (.aload_n 0, 1) := by decide +kernel
theorem dX0_lost_66 : decode cX0_lost 66 = .ok (.getfield 69, 3) := by decide +kernel
theorem dX0_lost_69 : decode cX0_lost 69 = .ok (.iload 5, 2) := by decide +kernel
theorem dX0_lost_71 : decode cX0_lost 71 = .ok (.iaload, 1) := by decide +kernel
theorem dX0_lost_72 : decode cX0_lost 72 = .ok (.aaload, 1) := by decide +kernel
theorem dX0_lost_73 : decode cX0_lost 73 = .ok (.astore 6, 2) := by decide +kernel
theorem dX0_lost_75 : decode cX0_lost 75 = .ok (.aload_n 0, 1) := by decide +kernel
theorem dX0_lost_76 : decode cX0_lost 76 = .ok (.aload 6, 2) := by decide +kernel
theorem dX0_lost_78 : decode cX0_lost 78 = .ok (.invokevirtual 422, 3) := by decide +kernel
theorem dX0_lost_81 : decode cX0_lost 81 = .ok (.ifCond .ne 6, 3) := by decide +kernel
theorem dX0_lost_84 : decode cX0_lost 84 = .ok (.goto 46, 3) := by decide +kernel
theorem dX0_lost_87 : decode cX0_lost 87 = .ok (.iinc 3 1, 3) := by decide +kernel
theorem dX0_lost_90 : decode cX0_lost 90 = .ok (.iconst 0, 1) := by decide +kernel
theorem dX0_lost_91 : decode cX0_lost 91 = .ok (.istore 7, 2) := by decide +kernel
theorem dX0_lost_93 : decode cX0_lost 93 = .ok (.iload 7, 2) := by decide +kernel
theorem dX0_lost_95 : decode cX0_lost 95 = .ok (.bipush 10, 2) := by decide +kernel
theorem dX0_lost_97 : decode cX0_lost 97 = .ok (.if_icmp .ge 33, 3) := by decide +kernel
theorem dX0_lost_100 : decode cX0_lost 100 = .ok (.aload 4, 2) := by decide +kernel
theorem dX0_lost_102 : decode cX0_lost 102 = .ok (.iload 7, 2) := by decide +kernel
theorem dX0_lost_104 : decode cX0_lost 104 = .ok (.dup2, 1) := by decide +kernel
theorem dX0_lost_105 : decode cX0_lost 105 = .ok (.iaload, 1) := by decide +kernel
theorem dX0_lost_106 : decode cX0_lost 106 = .ok (.aload_n 0, 1) := by decide +kernel
theorem dX0_lost_107 : decode cX0_lost 107 = .ok (.aload 6, 2) := by decide +kernel
theorem dX0_lost_109 : decode cX0_lost 109 = .ok (.iload 7, 2) := by decide +kernel
theorem dX0_lost_111 : decode cX0_lost 111 = .ok (.invokevirtual 426, 3) := by decide +kernel
theorem dX0_lost_114 : decode cX0_lost 114 = .ok (.ifCond .eq 7, 3) := by decide +kernel
theorem dX0_lost_117 : decode cX0_lost 117 = .ok (.iconst 1, 1) := by decide +kernel
theorem dX0_lost_118 : decode cX0_lost 118 = .ok (.goto 4, 3) := by decide +kernel
theorem dX0_lost_121 : decode cX0_lost 121 = .ok (.iconst 0, 1) := by decide +kernel
theorem dX0_lost_122 : decode cX0_lost 122 = .ok (.iadd, 1) := by decide +kernel
theorem dX0_lost_123 : decode cX0_lost 123 = .ok (.iastore, 1) := by decide +kernel
theorem dX0_lost_124 : decode cX0_lost 124 = .ok (.iinc 7 1, 3) := by decide +kernel
theorem dX0_lost_127 : decode cX0_lost 127 = .ok (.goto (-34), 3) := by decide +kernel
theorem dX0_lost_130 : decode cX0_lost 130 = .ok (.iinc 5 1, 3) := by decide +kernel
theorem dX0_lost_133 : decode cX0_lost 133 = .ok (.goto (-78), 3) := by decide +kernel
theorem dX0_lost_136 : decode cX0_lost 136 = .ok (.iload_n 2, 1) := by decide +kernel
theorem dX0_lost_137 : decode cX0_lost 137 = .ok (.ifCond .ne 5, 3) := by decide +kernel
theorem dX0_lost_140 : decode cX0_lost 140 = .ok (.iload_n 3, 1) := by decide +kernel
theorem dX0_lost_141 : decode cX0_lost 141 = .ok (.ireturn, 1) := by decide +kernel
theorem dX0_lost_142 : decode cX0_lost 142 = .ok (.iconst (-1), 1) := by decide +kernel
theorem dX0_lost_143 : decode cX0_lost 143 = .ok (.istore 5, 2) := by decide +kernel
theorem dX0_lost_145 : decode cX0_lost 145 = .ok (.iconst 0, 1) := by decide +kernel
theorem dX0_lost_146 : decode cX0_lost 146 = .ok (.istore 6, 2) := by decide +kernel
theorem dX0_lost_148 : decode cX0_lost 148 = .ok (.iload 6, 2) := by decide +kernel
theorem dX0_lost_150 : decode cX0_lost 150 = .ok (.bipush 10, 2) := by decide +kernel
theorem dX0_lost_152 : decode cX0_lost 152 = .ok (.if_icmp .ge 40, 3) := by decide +kernel
theorem dX0_lost_155 : decode cX0_lost 155 = .ok (.aload 4, 2) := by decide +kernel
theorem dX0_lost_157 : decode cX0_lost 157 = .ok (.iload 6, 2) := by decide +kernel
theorem dX0_lost_159 : decode cX0_lost 159 = .ok (.iaload, 1) := by decide +kernel
theorem dX0_lost_160 : decode cX0_lost 160 = .ok (.ifCond .le 26, 3) := by decide +kernel
theorem dX0_lost_163 : decode cX0_lost 163 = .ok (.iload 5, 2) := by decide +kernel
theorem dX0_lost_165 : decode cX0_lost 165 = .ok (.iconst (-1), 1) := by decide +kernel
theorem dX0_lost_166 : decode cX0_lost 166 = .ok (.if_icmp .eq 16, 3) := by decide +kernel
theorem dX0_lost_169 : decode cX0_lost 169 = .ok (.aload 4, 2) := by decide +kernel
theorem dX0_lost_171 : decode cX0_lost 171 = .ok (.iload 6, 2) := by decide +kernel
theorem dX0_lost_173 : decode cX0_lost 173 = .ok (.iaload, 1) := by decide +kernel
theorem dX0_lost_174 : decode cX0_lost 174 = .ok (.aload 4, 2) := by decide +kernel
theorem dX0_lost_176 : decode cX0_lost 176 = .ok (.iload 5, 2) := by decide +kernel
theorem dX0_lost_178 : decode cX0_lost 178 = .ok (.iaload, 1) := by decide +kernel
theorem dX0_lost_179 : decode cX0_lost 179 = .ok (.if_icmp .le 7, 3) := by decide +kernel
theorem dX0_lost_182 : decode cX0_lost 182 = .ok (.iload 6, 2) := by decide +kernel
theorem dX0_lost_184 : decode cX0_lost 184 = .ok (.istore 5, 2) := by decide +kernel
theorem dX0_lost_186 : decode cX0_lost 186 = .ok (.iinc 6 1, 3) := by decide +kernel
theorem dX0_lost_189 : decode cX0_lost 189 = .ok (.goto (-41), 3) := by decide +kernel
theorem dX0_lost_192 : decode cX0_lost 192 = .ok (.iload 5, 2) := by decide +kernel
theorem dX0_lost_194 : decode cX0_lost 194 = .ok (.ireturn, 1) := by decide +kernel
section
variable {v : Int32}
noncomputable def x0_lost_B93 (F : Nat) (K130 : Int32 × XS → XR Int32) (x1 : Int32) (x2 : Int32) (x3 : Int32) (x4 : Nat) (x5 : Int32) (x6 : Nat) (R : Int32 × XS → XR Int32) (a : Int32 × XS) : XR Int32 :=
  if 10 ≤ a.1 then (K130 (a.1, a.2)) else ((gA a.2 x4 0).bind (fun A1 => if okI a.1 A1.1 = true then (x0_wouldBe F x6 a.1 a.2).bind (fun r1 => tk r1.2.2.1 r1.2.2.2 (if r1.1 = 0 then ((gA r1.2.1 x4 0).bind (fun A2 => if okI a.1 A2.1 = true then nx (xP r1.2.1 x4 (.inl (0, A2.1, .inl (upd A2.2 a.1.toNatClampNeg ((A1.2 a.1.toNatClampNeg) + 0))))) (fun τ1 => R (a.1 + 1, τ1)) else none)) else ((gA r1.2.1 x4 0).bind (fun A3 => if okI a.1 A3.1 = true then nx (xP r1.2.1 x4 (.inl (0, A3.1, .inl (upd A3.2 a.1.toNatClampNeg ((A1.2 a.1.toNatClampNeg) + 1))))) (fun τ2 => R (a.1 + 1, τ2)) else none)))) else none))
theorem kx0_lost_B93 (M : XC γ cX0_lost 8 RX0 "lost" G o B 48 (some .int) (xQi G o B v τr) c0 s0) (x1 : Int32) (x2 : Int32) (x3 : Int32) (x4 : Nat) (x5 : Int32) (x6 : Nat) (K130 : Int32 × XS → XR Int32) (hK130 : ∀ a c s, K130 a = some (v, τr, c, s) → ∀ k n, k + c ≤ c0 ∧ n + s ≤ s0 → J γ (XW G o B a.2) k n 130 [(0, .ref o), (1, .int x1), (2, .int x2), (3, .int x3), (4, .ref x4), (5, .int x5)] []) : ∀ R : Int32 × XS → XR Int32, (∀ a c s, R a = some (v, τr, c, s) → ∀ k n, k + c ≤ c0 ∧ n + s ≤ s0 → J γ (XW G o B a.2) k n 93 [(0, .ref o), (1, .int x1), (2, .int x2), (3, .int x3), (4, .ref x4), (5, .int x5), (6, .ref x6), (7, .int a.1)] []) → ∀ a c s, x0_lost_B93 F K130 x1 x2 x3 x4 x5 x6 R a = some (v, τr, c, s) → ∀ k n, k + c ≤ c0 ∧ n + s ≤ s0 → J γ (XW G o B a.2) k n 93 [(0, .ref o), (1, .int x1), (2, .int x2), (3, .int x3), (4, .ref x4), (5, .int x5), (6, .ref x6), (7, .int a.1)] [] := by
  intro R hR a c s hf k n hkn
  unfold x0_lost_B93 at hf
  refine j_iload (pc := 93) M.1 dX0_lost_93 7 rfl ?_
  refine j_bipush (pc := 95) M.1 dX0_lost_95 kc_bipush_10 ?_
  refine j_icmp_ge (pc := 97) M.1 130 dX0_lost_97 rfl (fun b1 => ?_) (fun b1 => ?_)
  · replace hf := o_pos b1 hf
    refine j_sub [0, 1, 2, 3, 4, 5] (show lv_pick _ _ = [(0, .ref o), (1, .int x1), (2, .int x2), (3, .int x3), (4, .ref x4), (5, .int x5)] from rfl) ?_
    have hy := hK130 _ _ _ hf _ _ hkn
    exact hy
  · replace hf := o_neg b1 hf
    refine j_aload (pc := 100) M.1 dX0_lost_100 4 rfl ?_
    refine j_iload (pc := 102) M.1 dX0_lost_102 7 rfl ?_
    refine j_dup2 (pc := 104) M.1 dX0_lost_104 rfl rfl ?_
    obtain ⟨A1, g1, hf⟩ := o_bind hf
    obtain ⟨b2, hf⟩ := o_need hf
    refine jx_pald0 (pc := 105) M g1 b2 dX0_lost_105 ?_
    refine j_aload_n (pc := 106) M.1 dX0_lost_106 0 rfl ?_
    refine j_aload (pc := 107) M.1 dX0_lost_107 6 rfl ?_
    refine j_iload (pc := 109) M.1 dX0_lost_109 7 rfl ?_
    obtain ⟨r1, g2, hf⟩ := o_bind hf
    obtain ⟨c1, s1, hf, hc1, hs1⟩ := o_tk hf
    replace hkn := kn_step hkn hc1 hs1
    refine jx_i M (x_runV (pc := 111) (As := [.ref x6, .int a.1]) (rest := [.int (A1.2 a.1.toNatClampNeg), .int a.1, .ref x4]) (V := xV o a.2) M xcw_X0_426 (met_x0_wouldBe g2) (fun H h => h.1 o _ xH_o) (by decide) rfl rfl rfl dX0_lost_111 (kn_le hkn)) ?_
    refine j_if_eq (pc := 114) M.1 121 dX0_lost_114 rfl (fun b3 => ?_) (fun b3 => ?_)
    · replace hf := o_pos b3 hf
      refine j_iconst (pc := 121) M.1 dX0_lost_121 kc_iconst_0 ?_
      refine j_iadd (pc := 122) M.1 dX0_lost_122 ?_
      obtain ⟨A2, g3, hf⟩ := o_bind hf
      obtain ⟨b4, hf⟩ := o_need hf
      obtain ⟨τ1, e1, hf⟩ := o_nx hf
      refine jx_past0 (pc := 123) M g3 b4 dX0_lost_123 e1 ?_
      refine j_iinc (pc := 124) M.1 [(7, .int (a.1 + 1)), (0, .ref o), (1, .int x1), (2, .int x2), (3, .int x3), (4, .ref x4), (5, .int x5), (6, .ref x6)] dX0_lost_124 7 rfl (congrArg _ kc_iconst_1) rfl rfl ?_
      refine j_goto (pc := 127) M.1 93 dX0_lost_127 rfl ?_
      refine j_sub [1, 2, 3, 4, 5, 6, 7, 0] (show lv_pick _ _ = [(0, .ref o), (1, .int x1), (2, .int x2), (3, .int x3), (4, .ref x4), (5, .int x5), (6, .ref x6), (7, .int (a.1 + 1))] from rfl) ?_
      have hy := hR _ _ _ hf _ _ hkn
      exact hy
    · replace hf := o_neg b3 hf
      refine j_iconst (pc := 117) M.1 dX0_lost_117 kc_iconst_1 ?_
      refine j_goto (pc := 118) M.1 122 dX0_lost_118 rfl ?_
      refine j_iadd (pc := 122) M.1 dX0_lost_122 ?_
      obtain ⟨A3, g4, hf⟩ := o_bind hf
      obtain ⟨b5, hf⟩ := o_need hf
      obtain ⟨τ2, e2, hf⟩ := o_nx hf
      refine jx_past0 (pc := 123) M g4 b5 dX0_lost_123 e2 ?_
      refine j_iinc (pc := 124) M.1 [(7, .int (a.1 + 1)), (0, .ref o), (1, .int x1), (2, .int x2), (3, .int x3), (4, .ref x4), (5, .int x5), (6, .ref x6)] dX0_lost_124 7 rfl (congrArg _ kc_iconst_1) rfl rfl ?_
      refine j_goto (pc := 127) M.1 93 dX0_lost_127 rfl ?_
      refine j_sub [1, 2, 3, 4, 5, 6, 7, 0] (show lv_pick _ _ = [(0, .ref o), (1, .int x1), (2, .int x2), (3, .int x3), (4, .ref x4), (5, .int x5), (6, .ref x6), (7, .int (a.1 + 1))] from rfl) ?_
      have hy := hR _ _ _ hf _ _ hkn
      exact hy
noncomputable def x0_lost_B55 (F : Nat) (K136 : Int32 × Int32 × XS → XR Int32) (x1 : Int32) (x2 : Int32) (x4 : Nat) (R : Int32 × Int32 × XS → XR Int32) (a : Int32 × Int32 × XS) : XR Int32 :=
  if x1 ≤ a.2.1 then (K136 (a.1, a.2.1, a.2.2)) else (if okI a.2.1 100 = true then if okI (a.2.2.1.2 9 a.2.1.toNatClampNeg) 150 = true then (a.2.2.2.1 7 (a.2.2.1.2 9 a.2.1.toNatClampNeg).toNatClampNeg).bind (fun n1 => (x0_isLost F n1 a.2.2).bind (fun r1 => tk r1.2.2.1 r1.2.2.2 (if r1.1 = 0 then (R (a.1, a.2.1 + 1, r1.2.1)) else (lp (x0_lost_B93 F (fun a1 => R (a.1 + 1, a.2.1 + 1, a1.2)) x1 x2 (a.1 + 1) x4 a.2.1 n1) F (0, r1.2.1))))) else none else none)
theorem kx0_lost_B55 (M : XC γ cX0_lost 8 RX0 "lost" G o B 48 (some .int) (xQi G o B v τr) c0 s0) (x1 : Int32) (x2 : Int32) (x4 : Nat) (K136 : Int32 × Int32 × XS → XR Int32) (hK136 : ∀ a c s, K136 a = some (v, τr, c, s) → ∀ k n, k + c ≤ c0 ∧ n + s ≤ s0 → J γ (XW G o B a.2.2) k n 136 [(2, .int x2), (3, .int a.1), (4, .ref x4)] []) : ∀ R : Int32 × Int32 × XS → XR Int32, (∀ a c s, R a = some (v, τr, c, s) → ∀ k n, k + c ≤ c0 ∧ n + s ≤ s0 → J γ (XW G o B a.2.2) k n 55 [(0, .ref o), (1, .int x1), (2, .int x2), (3, .int a.1), (4, .ref x4), (5, .int a.2.1)] []) → ∀ a c s, x0_lost_B55 F K136 x1 x2 x4 R a = some (v, τr, c, s) → ∀ k n, k + c ≤ c0 ∧ n + s ≤ s0 → J γ (XW G o B a.2.2) k n 55 [(0, .ref o), (1, .int x1), (2, .int x2), (3, .int a.1), (4, .ref x4), (5, .int a.2.1)] [] := by
  intro R hR a c s hf k n hkn
  unfold x0_lost_B55 at hf
  refine j_iload (pc := 55) M.1 dX0_lost_55 5 rfl ?_
  refine j_iload_n (pc := 57) M.1 dX0_lost_57 1 rfl ?_
  refine j_icmp_ge (pc := 58) M.1 136 dX0_lost_58 rfl (fun b1 => ?_) (fun b1 => ?_)
  · replace hf := o_pos b1 hf
    refine j_sub [2, 3, 4] (show lv_pick _ _ = [(2, .int x2), (3, .int a.1), (4, .ref x4)] from rfl) ?_
    have hy := hK136 _ _ _ hf _ _ hkn
    exact hy
  · replace hf := o_neg b1 hf
    refine j_aload_n (pc := 61) M.1 dX0_lost_61 0 rfl ?_
    refine jx_getA (pc := 62) M xfa_59 dX0_lost_62 ?_
    refine j_aload_n (pc := 65) M.1 dX0_lost_65 0 rfl ?_
    refine jx_getA (pc := 66) M xfa_69 dX0_lost_66 ?_
    refine j_iload (pc := 69) M.1 dX0_lost_69 5 rfl ?_
    obtain ⟨b2, hf⟩ := o_need hf
    refine jx_iald (pc := 71) M xax_9 b2 dX0_lost_71 ?_
    obtain ⟨b3, hf⟩ := o_need hf
    obtain ⟨n1, g1, hf⟩ := o_bind hf
    refine jx_aald (pc := 72) M xax_7 (by decide) xrt_7 b3 g1 dX0_lost_72 ?_
    refine j_astore (pc := 73) M.1 [(6, .ref n1), (0, .ref o), (1, .int x1), (2, .int x2), (3, .int a.1), (4, .ref x4), (5, .int a.2.1)] dX0_lost_73 rfl rfl ?_
    refine j_aload_n (pc := 75) M.1 dX0_lost_75 1 rfl ?_
    refine j_aload (pc := 76) M.1 dX0_lost_76 0 rfl ?_
    obtain ⟨r1, g2, hf⟩ := o_bind hf
    obtain ⟨c1, s1, hf, hc1, hs1⟩ := o_tk hf
    replace hkn := kn_step hkn hc1 hs1
    refine jx_i M (x_runV (pc := 78) (As := [.ref n1]) (rest := []) (V := xV o a.2.2) M xcw_X0_422 (met_x0_isLost g2) (fun H h => h.1 o _ xH_o) (by decide) rfl rfl rfl dX0_lost_78 (kn_le hkn)) ?_
    refine j_if_ne (pc := 81) M.1 87 dX0_lost_81 rfl (fun b4 => ?_) (fun b4 => ?_)
    · replace hf := o_neg b4 hf
      refine j_iinc (pc := 87) M.1 [(3, .int (a.1 + 1)), (6, .ref n1), (0, .ref o), (1, .int x1), (2, .int x2), (4, .ref x4), (5, .int a.2.1)] dX0_lost_87 4 rfl (congrArg _ kc_iconst_1) rfl rfl ?_
      refine j_iconst (pc := 90) M.1 dX0_lost_90 kc_iconst_0 ?_
      refine j_istore (pc := 91) M.1 [(7, .int 0), (3, .int (a.1 + 1)), (6, .ref n1), (0, .ref o), (1, .int x1), (2, .int x2), (4, .ref x4), (5, .int a.2.1)] dX0_lost_91 rfl rfl ?_
      refine j_sub [3, 4, 5, 1, 6, 7, 2, 0] (show lv_pick _ _ = [(0, .ref o), (1, .int x1), (2, .int x2), (3, .int (a.1 + 1)), (4, .ref x4), (5, .int a.2.1), (6, .ref n1), (7, .int 0)] from rfl) ?_
      refine lp_Wc (kx0_lost_B93 M x1 x2 (a.1 + 1) x4 a.2.1 n1 _ ?_) F (0, r1.2.1) _ _ hf _ _ hkn
      · intro a1 c s hf k n hkn
        refine j_iinc (pc := 130) M.1 [(5, .int (a.2.1 + 1)), (0, .ref o), (1, .int x1), (2, .int x2), (3, .int (a.1 + 1)), (4, .ref x4)] dX0_lost_130 5 rfl (congrArg _ kc_iconst_1) rfl rfl ?_
        refine j_goto (pc := 133) M.1 55 dX0_lost_133 rfl ?_
        refine j_sub [1, 2, 3, 4, 5, 0] (show lv_pick _ _ = [(0, .ref o), (1, .int x1), (2, .int x2), (3, .int (a.1 + 1)), (4, .ref x4), (5, .int (a.2.1 + 1))] from rfl) ?_
        have hy := hR _ _ _ hf _ _ hkn
        exact hy
    · replace hf := o_pos b4 hf
      refine j_goto (pc := 84) M.1 130 dX0_lost_84 rfl ?_
      refine j_iinc (pc := 130) M.1 [(5, .int (a.2.1 + 1)), (6, .ref n1), (0, .ref o), (1, .int x1), (2, .int x2), (3, .int a.1), (4, .ref x4)] dX0_lost_130 6 rfl (congrArg _ kc_iconst_1) rfl rfl ?_
      refine j_goto (pc := 133) M.1 55 dX0_lost_133 rfl ?_
      refine j_sub [2, 3, 4, 5, 6, 0] (show lv_pick _ _ = [(0, .ref o), (1, .int x1), (2, .int x2), (3, .int a.1), (4, .ref x4), (5, .int (a.2.1 + 1))] from rfl) ?_
      have hy := hR _ _ _ hf _ _ hkn
      exact hy
noncomputable def x0_lost_B148 (F : Nat) (x4 : Nat) (R : Int32 × Int32 × XS → XR Int32) (a : Int32 × Int32 × XS) : XR Int32 :=
  if 10 ≤ a.2.1 then (some (a.1, a.2.2, 0, 0)) else ((gA a.2.2 x4 0).bind (fun A1 => if okI a.2.1 A1.1 = true then if (A1.2 a.2.1.toNatClampNeg) ≤ 0 then (R (a.1, a.2.1 + 1, a.2.2)) else (if a.1 = ((-1)) then (R (a.2.1, a.2.1 + 1, a.2.2)) else ((gA a.2.2 x4 0).bind (fun A2 => if okI a.2.1 A2.1 = true then (gA a.2.2 x4 0).bind (fun A3 => if okI a.1 A3.1 = true then if (A2.2 a.2.1.toNatClampNeg) ≤ (A3.2 a.1.toNatClampNeg) then (R (a.1, a.2.1 + 1, a.2.2)) else (R (a.2.1, a.2.1 + 1, a.2.2)) else none) else none))) else none))
theorem kx0_lost_B148 (M : XC γ cX0_lost 8 RX0 "lost" G o B 48 (some .int) (xQi G o B v τr) c0 s0) (x4 : Nat) : ∀ R : Int32 × Int32 × XS → XR Int32, (∀ a c s, R a = some (v, τr, c, s) → ∀ k n, k + c ≤ c0 ∧ n + s ≤ s0 → J γ (XW G o B a.2.2) k n 148 [(4, .ref x4), (5, .int a.1), (6, .int a.2.1)] []) → ∀ a c s, x0_lost_B148 F x4 R a = some (v, τr, c, s) → ∀ k n, k + c ≤ c0 ∧ n + s ≤ s0 → J γ (XW G o B a.2.2) k n 148 [(4, .ref x4), (5, .int a.1), (6, .int a.2.1)] [] := by
  intro R hR a c s hf k n hkn
  unfold x0_lost_B148 at hf
  refine j_iload (pc := 148) M.1 dX0_lost_148 2 rfl ?_
  refine j_bipush (pc := 150) M.1 dX0_lost_150 kc_bipush_10 ?_
  refine j_icmp_ge (pc := 152) M.1 192 dX0_lost_152 rfl (fun b1 => ?_) (fun b1 => ?_)
  · replace hf := o_pos b1 hf
    refine j_iload (pc := 192) M.1 dX0_lost_192 1 rfl ?_
    exact jx_iretF (pc := 194) M dX0_lost_194 hf hkn
  · replace hf := o_neg b1 hf
    refine j_aload (pc := 155) M.1 dX0_lost_155 0 rfl ?_
    refine j_iload (pc := 157) M.1 dX0_lost_157 2 rfl ?_
    obtain ⟨A1, g1, hf⟩ := o_bind hf
    obtain ⟨b2, hf⟩ := o_need hf
    refine jx_pald0 (pc := 159) M g1 b2 dX0_lost_159 ?_
    refine j_if_le (pc := 160) M.1 186 dX0_lost_160 rfl (fun b3 => ?_) (fun b3 => ?_)
    · replace hf := o_pos b3 hf
      refine j_iinc (pc := 186) M.1 [(6, .int (a.2.1 + 1)), (4, .ref x4), (5, .int a.1)] dX0_lost_186 2 rfl (congrArg _ kc_iconst_1) rfl rfl ?_
      refine j_goto (pc := 189) M.1 148 dX0_lost_189 rfl ?_
      refine j_sub [1, 2, 0] (show lv_pick _ _ = [(4, .ref x4), (5, .int a.1), (6, .int (a.2.1 + 1))] from rfl) ?_
      have hy := hR _ _ _ hf _ _ hkn
      exact hy
    · replace hf := o_neg b3 hf
      refine j_iload (pc := 163) M.1 dX0_lost_163 1 rfl ?_
      refine j_iconst (pc := 165) M.1 dX0_lost_165 kc_iconst_m1 ?_
      refine j_icmp_eq (pc := 166) M.1 182 dX0_lost_166 rfl (fun b4 => ?_) (fun b4 => ?_)
      · replace hf := o_pos b4 hf
        refine j_iload (pc := 182) M.1 dX0_lost_182 2 rfl ?_
        refine j_istore (pc := 184) M.1 [(5, .int a.2.1), (4, .ref x4), (6, .int a.2.1)] dX0_lost_184 rfl rfl ?_
        refine j_iinc (pc := 186) M.1 [(6, .int (a.2.1 + 1)), (5, .int a.2.1), (4, .ref x4)] dX0_lost_186 2 rfl (congrArg _ kc_iconst_1) rfl rfl ?_
        refine j_goto (pc := 189) M.1 148 dX0_lost_189 rfl ?_
        refine j_sub [2, 1, 0] (show lv_pick _ _ = [(4, .ref x4), (5, .int a.2.1), (6, .int (a.2.1 + 1))] from rfl) ?_
        have hy := hR _ _ _ hf _ _ hkn
        exact hy
      · replace hf := o_neg b4 hf
        refine j_aload (pc := 169) M.1 dX0_lost_169 0 rfl ?_
        refine j_iload (pc := 171) M.1 dX0_lost_171 2 rfl ?_
        obtain ⟨A2, g2, hf⟩ := o_bind hf
        obtain ⟨b5, hf⟩ := o_need hf
        refine jx_pald0 (pc := 173) M g2 b5 dX0_lost_173 ?_
        refine j_aload (pc := 174) M.1 dX0_lost_174 0 rfl ?_
        refine j_iload (pc := 176) M.1 dX0_lost_176 1 rfl ?_
        obtain ⟨A3, g3, hf⟩ := o_bind hf
        obtain ⟨b6, hf⟩ := o_need hf
        refine jx_pald0 (pc := 178) M g3 b6 dX0_lost_178 ?_
        refine j_icmp_le (pc := 179) M.1 186 dX0_lost_179 rfl (fun b7 => ?_) (fun b7 => ?_)
        · replace hf := o_pos b7 hf
          refine j_iinc (pc := 186) M.1 [(6, .int (a.2.1 + 1)), (4, .ref x4), (5, .int a.1)] dX0_lost_186 2 rfl (congrArg _ kc_iconst_1) rfl rfl ?_
          refine j_goto (pc := 189) M.1 148 dX0_lost_189 rfl ?_
          refine j_sub [1, 2, 0] (show lv_pick _ _ = [(4, .ref x4), (5, .int a.1), (6, .int (a.2.1 + 1))] from rfl) ?_
          have hy := hR _ _ _ hf _ _ hkn
          exact hy
        · replace hf := o_neg b7 hf
          refine j_iload (pc := 182) M.1 dX0_lost_182 2 rfl ?_
          refine j_istore (pc := 184) M.1 [(5, .int a.2.1), (4, .ref x4), (6, .int a.2.1)] dX0_lost_184 rfl rfl ?_
          refine j_iinc (pc := 186) M.1 [(6, .int (a.2.1 + 1)), (5, .int a.2.1), (4, .ref x4)] dX0_lost_186 2 rfl (congrArg _ kc_iconst_1) rfl rfl ?_
          refine j_goto (pc := 189) M.1 148 dX0_lost_189 rfl ?_
          refine j_sub [2, 1, 0] (show lv_pick _ _ = [(4, .ref x4), (5, .int a.2.1), (6, .int (a.2.1 + 1))] from rfl) ?_
          have hy := hR _ _ _ hf _ _ hkn
          exact hy
noncomputable def x0_lost (F : Nat) (x1 : Int32) (x2 : Int32) (τ : XS) : XR Int32 :=
  if x1 < 0 then (some ((-1), τ, 0, 0)) else (if 100 < x1 then (some ((-1), τ, 0, 0)) else ((x0_in F x2 2).bind (fun r1 => if r1 = 0 then (some ((-1), τ, 0, 0)) else (if x1 ≤ (τ.1.1 5) then (nx (xS τ 5 0) (fun τ1 => (x0_asks F x1 τ1).bind (fun r2 => tk r2.2.2.1 r2.2.2.2 (if r2.1 = 0 then (some ((-2), r2.2.1, 0, 0)) else (nx (xN r2.2.1 (.inl (0, 10, .inl (fun _ => 0)))) (fun τ2 => tk 1 10 (lp (x0_lost_B55 F (fun a1 => if x2 = 0 then (some (a1.1, a1.2.2, 0, 0)) else (lp (x0_lost_B148 F r2.2.1.2.2.2.2) F ((-1), 0, a1.2.2))) x1 x2 r2.2.1.2.2.2.2) F (0, 0, τ2)))))))) else (some ((-1), τ, 0, 0))))))
theorem met_x0_lost {l : Launch} {G : gG} {o B F : Nat} {x1 : Int32} {x2 : Int32} {τ : XS} {r : Int32 × XS × Nat × Nat} (hf : x0_lost F x1 x2 τ = some r) : MetX l G o B yX0_lost cX0_lost 8 (some .int) 48 [.ref o, .int x1, .int x2] τ (xQi G o B r.1 r.2.1) r.2.2.1 r.2.2.2 := by
  obtain ⟨v, τr, c, s⟩ := r
  refine metX_of (own := RX0) (mn := "lost") (by decide) rfl rfl rfl (fun γ hγ M => ?_)
  subst hγ
  show J γ (XW G o B τ) 0 0 0 [(0, .ref o), (1, .int x1), (2, .int x2)] []
  have hkn : 0 + c ≤ c ∧ 0 + s ≤ s := ⟨by omega, by omega⟩
  unfold x0_lost at hf
  refine j_iload_n (pc := 0) M.1 dX0_lost_0 1 rfl ?_
  refine j_if_lt (pc := 1) M.1 26 dX0_lost_1 rfl (fun b1 => ?_) (fun b1 => ?_)
  · replace hf := o_pos b1 hf
    refine j_iconst (pc := 26) M.1 dX0_lost_26 kc_iconst_m1 ?_
    exact jx_iretF (pc := 27) M dX0_lost_27 hf hkn
  · replace hf := o_neg b1 hf
    refine j_iload_n (pc := 4) M.1 dX0_lost_4 1 rfl ?_
    refine j_bipush (pc := 5) M.1 dX0_lost_5 kc_bipush_100 ?_
    refine j_icmp_gt (pc := 7) M.1 26 dX0_lost_7 rfl (fun b2 => ?_) (fun b2 => ?_)
    · replace hf := o_pos b2 hf
      refine j_iconst (pc := 26) M.1 dX0_lost_26 kc_iconst_m1 ?_
      exact jx_iretF (pc := 27) M dX0_lost_27 hf hkn
    · replace hf := o_neg b2 hf
      refine j_iload_n (pc := 10) M.1 dX0_lost_10 2 rfl ?_
      refine j_iconst (pc := 11) M.1 dX0_lost_11 kc_iconst_2 ?_
      obtain ⟨r1, g1, hf⟩ := o_bind hf
      refine jx_calls (pc := 12) (As := [.int x2, .int 2]) (rest := []) M xcs_X0_137 (met_x0_in g1) rfl rfl rfl rfl dX0_lost_12 (kn_le0 hkn) ?_
      refine j_if_eq (pc := 15) M.1 26 dX0_lost_15 rfl (fun b3 => ?_) (fun b3 => ?_)
      · replace hf := o_pos b3 hf
        refine j_iconst (pc := 26) M.1 dX0_lost_26 kc_iconst_m1 ?_
        exact jx_iretF (pc := 27) M dX0_lost_27 hf hkn
      · replace hf := o_neg b3 hf
        refine j_iload_n (pc := 18) M.1 dX0_lost_18 1 rfl ?_
        refine j_aload_n (pc := 19) M.1 dX0_lost_19 0 rfl ?_
        refine jx_getS (pc := 20) M xfs_264 dX0_lost_20 ?_
        refine j_icmp_le (pc := 23) M.1 28 dX0_lost_23 rfl (fun b4 => ?_) (fun b4 => ?_)
        · replace hf := o_pos b4 hf
          refine j_aload_n (pc := 28) M.1 dX0_lost_28 0 rfl ?_
          refine j_iconst (pc := 29) M.1 dX0_lost_29 kc_iconst_0 ?_
          obtain ⟨τ1, e1, hf⟩ := o_nx hf
          refine jx_putS (pc := 30) M xfs_264 dX0_lost_30 e1 ?_
          refine j_aload_n (pc := 33) M.1 dX0_lost_33 0 rfl ?_
          refine j_iload_n (pc := 34) M.1 dX0_lost_34 1 rfl ?_
          obtain ⟨r2, g2, hf⟩ := o_bind hf
          obtain ⟨c1, s1, hf, hc1, hs1⟩ := o_tk hf
          replace hkn := kn_step hkn hc1 hs1
          refine jx_i M (x_runV (pc := 35) (As := [.int x1]) (rest := []) (V := xV o τ1) M xcw_X0_409 (met_x0_asks g2) (fun H h => h.1 o _ xH_o) (by decide) rfl rfl rfl dX0_lost_35 (kn_le hkn)) ?_
          refine j_if_ne (pc := 38) M.1 44 dX0_lost_38 rfl (fun b5 => ?_) (fun b5 => ?_)
          · replace hf := o_neg b5 hf
            refine j_iconst (pc := 44) M.1 dX0_lost_44 kc_iconst_0 ?_
            refine j_istore_n (pc := 45) M.1 [(3, .int 0), (0, .ref o), (1, .int x1), (2, .int x2)] dX0_lost_45 rfl rfl ?_
            refine j_bipush (pc := 46) M.1 dX0_lost_46 kc_bipush_10 ?_
            obtain ⟨τ2, e2, hf⟩ := o_nx hf
            obtain ⟨c2, s2, hf, hc2, hs2⟩ := o_tk hf
            replace hkn := kn_step hkn hc2 hs2
            refine jx_newa (atype := .int) (pc := 48) M q304 rfl (fun _ => rfl) ra_int rfl (by decide) rfl (by decide) dX0_lost_48 (kn_le hkn) e2 ?_
            refine j_astore (pc := 50) M.1 [(4, .ref r2.2.1.2.2.2.2), (3, .int 0), (0, .ref o), (1, .int x1), (2, .int x2)] dX0_lost_50 rfl rfl ?_
            refine j_iconst (pc := 52) M.1 dX0_lost_52 kc_iconst_0 ?_
            refine j_istore (pc := 53) M.1 [(5, .int 0), (4, .ref r2.2.1.2.2.2.2), (3, .int 0), (0, .ref o), (1, .int x1), (2, .int x2)] dX0_lost_53 rfl rfl ?_
            refine j_sub [3, 4, 5, 2, 1, 0] (show lv_pick _ _ = [(0, .ref o), (1, .int x1), (2, .int x2), (3, .int 0), (4, .ref r2.2.1.2.2.2.2), (5, .int 0)] from rfl) ?_
            refine lp_Wc (kx0_lost_B55 M x1 x2 r2.2.1.2.2.2.2 _ ?_) F (0, 0, τ2) _ _ hf _ _ hkn
            · intro a1 c s hf k n hkn
              refine j_iload_n (pc := 136) M.1 dX0_lost_136 0 rfl ?_
              refine j_if_ne (pc := 137) M.1 142 dX0_lost_137 rfl (fun b6 => ?_) (fun b6 => ?_)
              · replace hf := o_neg b6 hf
                refine j_iconst (pc := 142) M.1 dX0_lost_142 kc_iconst_m1 ?_
                refine j_istore (pc := 143) M.1 [(5, .int ((-1))), (2, .int x2), (3, .int a1.1), (4, .ref r2.2.1.2.2.2.2)] dX0_lost_143 rfl rfl ?_
                refine j_iconst (pc := 145) M.1 dX0_lost_145 kc_iconst_0 ?_
                refine j_istore (pc := 146) M.1 [(6, .int 0), (5, .int ((-1))), (2, .int x2), (3, .int a1.1), (4, .ref r2.2.1.2.2.2.2)] dX0_lost_146 rfl rfl ?_
                refine j_sub [4, 1, 0] (show lv_pick _ _ = [(4, .ref r2.2.1.2.2.2.2), (5, .int ((-1))), (6, .int 0)] from rfl) ?_
                refine lp_Wc (kx0_lost_B148 M r2.2.1.2.2.2.2) F ((-1), 0, a1.2.2) _ _ hf _ _ hkn
              · replace hf := o_pos b6 hf
                refine j_iload_n (pc := 140) M.1 dX0_lost_140 1 rfl ?_
                exact jx_iretF (pc := 141) M dX0_lost_141 hf hkn
          · replace hf := o_pos b5 hf
            refine j_bipush (pc := 41) M.1 dX0_lost_41 kc_bipush_m2 ?_
            exact jx_iretF (pc := 43) M dX0_lost_43 hf hkn
        · replace hf := o_neg b4 hf
          refine j_iconst (pc := 26) M.1 dX0_lost_26 kc_iconst_m1 ?_
          exact jx_iretF (pc := 27) M dX0_lost_27 hf hkn
end
theorem dX22_init_0 : decode cX22_init 0 = .ok (.aload_n 0, 1) := by decide +kernel
theorem dX22_init_1 : decode cX22_init 1 = .ok (.invokespecial 1, 3) := by decide +kernel
theorem dX22_init_4 : decode cX22_init 4 = .ok (.aload_n 0, 1) := by decide +kernel
theorem dX22_init_5 : decode cX22_init 5 = .ok (.iload_n 1, 1) := by decide +kernel
theorem dX22_init_6 : decode cX22_init 6 = .ok (.putfield 7, 3) := by decide +kernel
theorem dX22_init_9 : decode cX22_init 9 = .ok (.aload_n 0, 1) := by decide +kernel
theorem dX22_init_10 : decode cX22_init 10 = .ok (.iload_n 2, 1) := by decide +kernel
theorem dX22_init_11 : decode cX22_init 11 = .ok (.putfield 13, 3) := by decide +kernel
theorem dX22_init_14 : decode cX22_init 14 = .ok (.return_, 1) := by decide +kernel
section
variable {v : Int32}
noncomputable def x22_init (F : Nat) (x0 : Nat) (x1 : Int32) (x2 : Int32) (τ : XS) : XR Int32 :=
  (pF τ x0 [22] 0 (.int x1)).bind (fun τ1 => (pF τ1 x0 [22] 1 (.int x2)).bind (fun τ2 => some (0, τ2, 0, 0)))
theorem met_x22_init {l : Launch} {G : gG} {o B F : Nat} {x0 : Nat} {x1 : Int32} {x2 : Int32} {τ : XS} {r : Int32 × XS × Nat × Nat} (hf : x22_init F x0 x1 x2 τ = some r) : MetX l G o B yX22_init cX22_init 3 none 2 [.ref x0, .int x1, .int x2] τ (xQv G o B r.1 r.2.1) r.2.2.1 r.2.2.2 := by
  obtain ⟨v, τr, c, s⟩ := r
  refine metX_of (own := RX22) (mn := "<init>") (by decide) rfl rfl rfl (fun γ hγ M => ?_)
  subst hγ
  show J γ (XW G o B τ) 0 0 0 [(0, .ref x0), (1, .int x1), (2, .int x2)] []
  have hkn : 0 + c ≤ c ∧ 0 + s ≤ s := ⟨by omega, by omega⟩
  unfold x22_init at hf
  refine j_aload_n (pc := 0) M.1 dX22_init_0 0 rfl ?_
  refine j_objInit (pc := 1) M.1 q1160 dX22_init_1 (M.room (by decide)) rfl ?_
  refine j_aload_n (pc := 4) M.1 dX22_init_4 0 rfl ?_
  refine j_iload_n (pc := 5) M.1 dX22_init_5 1 rfl ?_
  obtain ⟨τ1, g1, hf⟩ := o_bind hf
  refine jx_putW (pc := 6) M q1161 xfw_X22_7 rfl rfl g1 dX22_init_6 ?_
  refine j_aload_n (pc := 9) M.1 dX22_init_9 0 rfl ?_
  refine j_iload_n (pc := 10) M.1 dX22_init_10 2 rfl ?_
  obtain ⟨τ2, g2, hf⟩ := o_bind hf
  refine jx_putW (pc := 11) M q1162 xfw_X22_13 rfl rfl g2 dX22_init_11 ?_
  exact jx_vretF (pc := 14) M dX22_init_14 hf hkn
end
theorem dX0_wall_0 : decode cX0_wall 0 = .ok (.aload_n 0, 1) := by decide +kernel
theorem dX0_wall_1 : decode cX0_wall 1 = .ok (.iload_n 1, 1) := by decide +kernel
theorem dX0_wall_2 : decode cX0_wall 2 = .ok (.invokevirtual 240, 3) := by decide +kernel
theorem dX0_wall_5 : decode cX0_wall 5 = .ok (.ifCond .eq 22, 3) := by decide +kernel
theorem dX0_wall_8 : decode cX0_wall 8 = .ok (.iload_n 2, 1) := by decide +kernel
theorem dX0_wall_9 : decode cX0_wall 9 = .ok (.sipush 10001, 3) := by decide +kernel
theorem dX0_wall_12 : decode cX0_wall 12 = .ok (.invokestatic 137, 3) := by decide +kernel
theorem dX0_wall_15 : decode cX0_wall 15 = .ok (.ifCond .eq 12, 3) := by decide +kernel
theorem dX0_wall_18 : decode cX0_wall 18 = .ok (.aload_n 0, 1) := by decide +kernel
theorem dX0_wall_19 : decode cX0_wall 19 = .ok (.getfield 430, 3) := by decide +kernel
theorem dX0_wall_22 : decode cX0_wall 22 = .ok (.bipush 30, 2) := by decide +kernel
theorem dX0_wall_24 : decode cX0_wall 24 = .ok (.if_icmp .ne 5, 3) := by decide +kernel
theorem dX0_wall_27 : decode cX0_wall 27 = .ok (.iconst (-1), 1) := by decide +kernel
theorem dX0_wall_28 : decode cX0_wall 28 = .ok (.ireturn, 1) := by decide +kernel
theorem dX0_wall_29 : decode cX0_wall 29 = .ok (.aload_n 0, 1) := by decide +kernel
theorem dX0_wall_30 : decode cX0_wall 30 = .ok (.getfield 85, 3) := by decide +kernel
theorem dX0_wall_33 : decode cX0_wall 33 = .ok (.aload_n 0, 1) := by decide +kernel
theorem dX0_wall_34 : decode cX0_wall 34 = .ok (.getfield 430, 3) := by decide +kernel
theorem dX0_wall_37 : decode cX0_wall 37 = .ok (.new 83, 3) := by decide +kernel
theorem dX0_wall_40 : decode cX0_wall 40 = .ok (.dup, 1) := by decide +kernel
theorem dX0_wall_41 : decode cX0_wall 41 = .ok (.iload_n 1, 1) := by decide +kernel
theorem dX0_wall_42 : decode cX0_wall 42 = .ok (.iload_n 2, 1) := by decide +kernel
theorem dX0_wall_43 : decode cX0_wall 43 = .ok (.invokespecial 433, 3) := by decide +kernel
theorem dX0_wall_46 : decode cX0_wall 46 = .ok (.aastore, 1) := by decide +kernel
theorem dX0_wall_47 : decode cX0_wall 47 = .ok (.aload_n 0, 1) := by decide +kernel
theorem dX0_wall_48 : decode cX0_wall 48 = .ok (.dup, 1) := by decide +kernel
theorem dX0_wall_49 : decode cX0_wall 49 = .ok (.getfield 430, 3) := by decide +kernel
theorem dX0_wall_52 : decode cX0_wall 52 = .ok (.iconst 1, 1) := by decide +kernel
theorem dX0_wall_53 : decode cX0_wall 53 = .ok (.iadd, 1) := by decide +kernel
theorem dX0_wall_54 : decode cX0_wall 54 = .ok (.putfield 430, 3) := by decide +kernel
theorem dX0_wall_57 : decode cX0_wall 57 = .ok (.aload_n 0, 1) := by decide +kernel
theorem dX0_wall_58 : decode cX0_wall 58 = .ok (.getfield 430, 3) := by decide +kernel
theorem dX0_wall_61 : decode cX0_wall 61 = .ok (.iconst 1, 1) := by decide +kernel
theorem dX0_wall_62 : decode cX0_wall 62 = .ok (.isub, 1) := by decide +kernel
theorem dX0_wall_63 : decode cX0_wall 63 = .ok (.ireturn, 1) := by decide +kernel
section
variable {v : Int32}
noncomputable def x0_wall (F : Nat) (x1 : Int32) (x2 : Int32) (τ : XS) : XR Int32 :=
  (x0_isPlace F x1 τ).bind (fun r1 => tk r1.2.2.1 r1.2.2.2 (if r1.1 = 0 then (some ((-1), r1.2.1, 0, 0)) else ((x0_in F x2 10001).bind (fun r2 => if r2 = 0 then (some ((-1), r1.2.1, 0, 0)) else (if (r1.2.1.1.1 26) = 30 then (some ((-1), r1.2.1, 0, 0)) else (nx (xN r1.2.1 (.inr (22, fun q => defaultValue (tyX22 q)))) (fun τ1 => tk 1 2 ((x22_init F r1.2.1.2.2.2.2 x1 x2 τ1).bind (fun r3 => tk r3.2.2.1 r3.2.2.2 (if isC r3.2.1 r1.2.1.2.2.2.2 [22] = true then if okI (r1.2.1.1.1 26) 30 = true then nx (xR r3.2.1 21 (r1.2.1.1.1 26).toNatClampNeg (some r1.2.1.2.2.2.2)) (fun τ2 => nx (xS τ2 26 ((τ2.1.1 26) + 1)) (fun τ3 => some ((τ3.1.1 26) - 1, τ3, 0, 0))) else none else none))))))))))
theorem met_x0_wall {l : Launch} {G : gG} {o B F : Nat} {x1 : Int32} {x2 : Int32} {τ : XS} {r : Int32 × XS × Nat × Nat} (hf : x0_wall F x1 x2 τ = some r) : MetX l G o B yX0_wall cX0_wall 3 (some .int) 3 [.ref o, .int x1, .int x2] τ (xQi G o B r.1 r.2.1) r.2.2.1 r.2.2.2 := by
  obtain ⟨v, τr, c, s⟩ := r
  refine metX_of (own := RX0) (mn := "wall") (by decide) rfl rfl rfl (fun γ hγ M => ?_)
  subst hγ
  show J γ (XW G o B τ) 0 0 0 [(0, .ref o), (1, .int x1), (2, .int x2)] []
  have hkn : 0 + c ≤ c ∧ 0 + s ≤ s := ⟨by omega, by omega⟩
  unfold x0_wall at hf
  refine j_aload_n (pc := 0) M.1 dX0_wall_0 0 rfl ?_
  refine j_iload_n (pc := 1) M.1 dX0_wall_1 1 rfl ?_
  obtain ⟨r1, g1, hf⟩ := o_bind hf
  obtain ⟨c1, s1, hf, hc1, hs1⟩ := o_tk hf
  replace hkn := kn_step hkn hc1 hs1
  refine jx_i M (x_runV (pc := 2) (As := [.int x1]) (rest := []) (V := xV o τ) M xcw_X0_240 (met_x0_isPlace g1) (fun H h => h.1 o _ xH_o) (by decide) rfl rfl rfl dX0_wall_2 (kn_le hkn)) ?_
  refine j_if_eq (pc := 5) M.1 27 dX0_wall_5 rfl (fun b1 => ?_) (fun b1 => ?_)
  · replace hf := o_pos b1 hf
    refine j_iconst (pc := 27) M.1 dX0_wall_27 kc_iconst_m1 ?_
    exact jx_iretF (pc := 28) M dX0_wall_28 hf hkn
  · replace hf := o_neg b1 hf
    refine j_iload_n (pc := 8) M.1 dX0_wall_8 2 rfl ?_
    refine j_sipush (pc := 9) M.1 dX0_wall_9 kc_sipush_10001 ?_
    obtain ⟨r2, g2, hf⟩ := o_bind hf
    refine jx_calls (pc := 12) (As := [.int x2, .int 10001]) (rest := []) M xcs_X0_137 (met_x0_in g2) rfl rfl rfl rfl dX0_wall_12 (kn_le0 hkn) ?_
    refine j_if_eq (pc := 15) M.1 27 dX0_wall_15 rfl (fun b2 => ?_) (fun b2 => ?_)
    · replace hf := o_pos b2 hf
      refine j_iconst (pc := 27) M.1 dX0_wall_27 kc_iconst_m1 ?_
      exact jx_iretF (pc := 28) M dX0_wall_28 hf hkn
    · replace hf := o_neg b2 hf
      refine j_aload_n (pc := 18) M.1 dX0_wall_18 0 rfl ?_
      refine jx_getS (pc := 19) M xfs_430 dX0_wall_19 ?_
      refine j_bipush (pc := 22) M.1 dX0_wall_22 kc_bipush_30 ?_
      refine j_icmp_ne (pc := 24) M.1 29 dX0_wall_24 rfl (fun b3 => ?_) (fun b3 => ?_)
      · replace hf := o_neg b3 hf
        refine j_aload_n (pc := 29) M.1 dX0_wall_29 0 rfl ?_
        refine jx_getA (pc := 30) M xfa_85 dX0_wall_30 ?_
        refine j_aload_n (pc := 33) M.1 dX0_wall_33 0 rfl ?_
        refine jx_getS (pc := 34) M xfs_430 dX0_wall_34 ?_
        obtain ⟨τ1, e1, hf⟩ := o_nx hf
        obtain ⟨c2, s2, hf, hc2, hs2⟩ := o_tk hf
        replace hkn := kn_step hkn hc2 hs2
        refine jx_new (pc := 37) M xnew_X0_83 dX0_wall_37 (kn_le hkn) e1 ?_
        refine j_dup (pc := 40) M.1 dX0_wall_40 rfl ?_
        refine j_iload_n (pc := 41) M.1 dX0_wall_41 1 rfl ?_
        refine j_iload_n (pc := 42) M.1 dX0_wall_42 2 rfl ?_
        obtain ⟨r3, g3, hf⟩ := o_bind hf
        obtain ⟨c3, s3, hf, hc3, hs3⟩ := o_tk hf
        replace hkn := kn_step hkn hc3 hs3
        refine jx_v (r := r3.1) M (x_runI (pc := 43) (As := [.int x1, .int x2]) (rest := [.ref r1.2.1.2.2.2.2, .int (r1.2.1.1.1 26), .ref (o + 1 + 21)]) M xci_X0_433 (met_x22_init g3) (by decide) rfl rfl rfl dX0_wall_43 (kn_le hkn)) ?_
        obtain ⟨b4, hf⟩ := o_need hf
        obtain ⟨b5, hf⟩ := o_need hf
        obtain ⟨τ2, e2, hf⟩ := o_nx hf
        refine jx_aast (pc := 46) M xax_21 (by decide) (by decide) xel_10 b4 b5 dX0_wall_46 e2 ?_
        refine j_aload_n (pc := 47) M.1 dX0_wall_47 0 rfl ?_
        refine j_dup (pc := 48) M.1 dX0_wall_48 rfl ?_
        refine jx_getS (pc := 49) M xfs_430 dX0_wall_49 ?_
        refine j_iconst (pc := 52) M.1 dX0_wall_52 kc_iconst_1 ?_
        refine j_iadd (pc := 53) M.1 dX0_wall_53 ?_
        obtain ⟨τ3, e3, hf⟩ := o_nx hf
        refine jx_putS (pc := 54) M xfs_430 dX0_wall_54 e3 ?_
        refine j_aload_n (pc := 57) M.1 dX0_wall_57 0 rfl ?_
        refine jx_getS (pc := 58) M xfs_430 dX0_wall_58 ?_
        refine j_iconst (pc := 61) M.1 dX0_wall_61 kc_iconst_1 ?_
        refine j_isub (pc := 62) M.1 dX0_wall_62 ?_
        exact jx_iretF (pc := 63) M dX0_wall_63 hf hkn
      · replace hf := o_pos b3 hf
        refine j_iconst (pc := 27) M.1 dX0_wall_27 kc_iconst_m1 ?_
        exact jx_iretF (pc := 28) M dX0_wall_28 hf hkn
end
theorem dX23_init_0 : decode cX23_init 0 = .ok (.aload_n 0, 1) := by decide +kernel
theorem dX23_init_1 : decode cX23_init 1 = .ok (.invokespecial 1, 3) := by decide +kernel
theorem dX23_init_4 : decode cX23_init 4 = .ok (.aload_n 0, 1) := by decide +kernel
theorem dX23_init_5 : decode cX23_init 5 = .ok (.iload_n 1, 1) := by decide +kernel
theorem dX23_init_6 : decode cX23_init 6 = .ok (.putfield 7, 3) := by decide +kernel
theorem dX23_init_9 : decode cX23_init 9 = .ok (.aload_n 0, 1) := by decide +kernel
theorem dX23_init_10 : decode cX23_init 10 = .ok (.iload_n 2, 1) := by decide +kernel
theorem dX23_init_11 : decode cX23_init 11 = .ok (.putfield 13, 3) := by decide +kernel
theorem dX23_init_14 : decode cX23_init 14 = .ok (.aload_n 0, 1) := by decide +kernel
theorem dX23_init_15 : decode cX23_init 15 = .ok (.iload_n 3, 1) := by decide +kernel
theorem dX23_init_16 : decode cX23_init 16 = .ok (.putfield 16, 3) := by decide +kernel
theorem dX23_init_19 : decode cX23_init 19 = .ok (.aload_n 0, 1) := by decide +kernel
theorem dX23_init_20 : decode cX23_init 20 = .ok (.iload 4, 2) := by decide +kernel
theorem dX23_init_22 : decode cX23_init 22 = .ok (.putfield 19, 3) := by decide +kernel
theorem dX23_init_25 : decode cX23_init 25 = .ok (.aload_n 0, 1) := by decide +kernel
theorem dX23_init_26 : decode cX23_init 26 = .ok (.iload 5, 2) := by decide +kernel
theorem dX23_init_28 : decode cX23_init 28 = .ok (.putfield 22, 3) := by decide +kernel
theorem dX23_init_31 : decode cX23_init 31 = .ok (.aload_n 0, 1) := by decide +kernel
theorem dX23_init_32 : decode cX23_init 32 = .ok (.iload 6, 2) := by decide +kernel
theorem dX23_init_34 : decode cX23_init 34 = .ok (.putfield 26, 3) := by decide +kernel
theorem dX23_init_37 : decode cX23_init 37 = .ok (.return_, 1) := by decide +kernel
section
variable {v : Int32}
noncomputable def x23_init (F : Nat) (x0 : Nat) (x1 : Int32) (x2 : Int32) (x3 : Int32) (x4 : Int32) (x5 : Int32) (x6 : Int32) (τ : XS) : XR Int32 :=
  (pF τ x0 [23] 0 (.int x1)).bind (fun τ1 => (pF τ1 x0 [23] 1 (.int x2)).bind (fun τ2 => (pF τ2 x0 [23] 2 (.int x3)).bind (fun τ3 => (pF τ3 x0 [23] 3 (.int x4)).bind (fun τ4 => if okB x5 = true then (pF τ4 x0 [23] 5 (.int x5)).bind (fun τ5 => (pF τ5 x0 [23] 4 (.int x6)).bind (fun τ6 => some (0, τ6, 0, 0))) else none))))
theorem met_x23_init {l : Launch} {G : gG} {o B F : Nat} {x0 : Nat} {x1 : Int32} {x2 : Int32} {x3 : Int32} {x4 : Int32} {x5 : Int32} {x6 : Int32} {τ : XS} {r : Int32 × XS × Nat × Nat} (hf : x23_init F x0 x1 x2 x3 x4 x5 x6 τ = some r) : MetX l G o B yX23_init cX23_init 7 none 2 [.ref x0, .int x1, .int x2, .int x3, .int x4, .int x5, .int x6] τ (xQv G o B r.1 r.2.1) r.2.2.1 r.2.2.2 := by
  obtain ⟨v, τr, c, s⟩ := r
  refine metX_of (own := RX23) (mn := "<init>") (by decide) rfl rfl rfl (fun γ hγ M => ?_)
  subst hγ
  show J γ (XW G o B τ) 0 0 0 [(0, .ref x0), (1, .int x1), (2, .int x2), (3, .int x3), (4, .int x4), (5, .int x5), (6, .int x6)] []
  have hkn : 0 + c ≤ c ∧ 0 + s ≤ s := ⟨by omega, by omega⟩
  unfold x23_init at hf
  refine j_aload_n (pc := 0) M.1 dX23_init_0 0 rfl ?_
  refine j_objInit (pc := 1) M.1 q1181 dX23_init_1 (M.room (by decide)) rfl ?_
  refine j_aload_n (pc := 4) M.1 dX23_init_4 0 rfl ?_
  refine j_iload_n (pc := 5) M.1 dX23_init_5 1 rfl ?_
  obtain ⟨τ1, g1, hf⟩ := o_bind hf
  refine jx_putW (pc := 6) M q1182 xfw_X23_7 rfl rfl g1 dX23_init_6 ?_
  refine j_aload_n (pc := 9) M.1 dX23_init_9 0 rfl ?_
  refine j_iload_n (pc := 10) M.1 dX23_init_10 2 rfl ?_
  obtain ⟨τ2, g2, hf⟩ := o_bind hf
  refine jx_putW (pc := 11) M q1184 xfw_X23_13 rfl rfl g2 dX23_init_11 ?_
  refine j_aload_n (pc := 14) M.1 dX23_init_14 0 rfl ?_
  refine j_iload_n (pc := 15) M.1 dX23_init_15 3 rfl ?_
  obtain ⟨τ3, g3, hf⟩ := o_bind hf
  refine jx_putW (pc := 16) M q1186 xfw_X23_16 rfl rfl g3 dX23_init_16 ?_
  refine j_aload_n (pc := 19) M.1 dX23_init_19 0 rfl ?_
  refine j_iload (pc := 20) M.1 dX23_init_20 4 rfl ?_
  obtain ⟨τ4, g4, hf⟩ := o_bind hf
  refine jx_putW (pc := 22) M q1188 xfw_X23_19 rfl rfl g4 dX23_init_22 ?_
  refine j_aload_n (pc := 25) M.1 dX23_init_25 0 rfl ?_
  refine j_iload (pc := 26) M.1 dX23_init_26 5 rfl ?_
  obtain ⟨b1, hf⟩ := o_need hf
  obtain ⟨τ5, g5, hf⟩ := o_bind hf
  refine jx_putW (pc := 28) M q1192 xfw_X23_22 (okB_nar b1) (okB_fit b1) g5 dX23_init_28 ?_
  refine j_aload_n (pc := 31) M.1 dX23_init_31 0 rfl ?_
  refine j_iload (pc := 32) M.1 dX23_init_32 6 rfl ?_
  obtain ⟨τ6, g6, hf⟩ := o_bind hf
  refine jx_putW (pc := 34) M q1190 xfw_X23_26 rfl rfl g6 dX23_init_34 ?_
  exact jx_vretF (pc := 37) M dX23_init_37 hf hkn
end
theorem dX0_draws_0 : decode cX0_draws 0 = .ok (.aload_n 0, 1) := by decide +kernel
theorem dX0_draws_1 : decode cX0_draws 1 = .ok (.getfield 91, 3) := by decide +kernel
theorem dX0_draws_4 : decode cX0_draws 4 = .ok (.aload_n 0, 1) := by decide +kernel
theorem dX0_draws_5 : decode cX0_draws 5 = .ok (.getfield 436, 3) := by decide +kernel
theorem dX0_draws_8 : decode cX0_draws 8 = .ok (.new 89, 3) := by decide +kernel
theorem dX0_draws_11 : decode cX0_draws 11 = .ok (.dup, 1) := by decide +kernel
theorem dX0_draws_12 : decode cX0_draws 12 = .ok (.aload_n 0, 1) := by decide +kernel
theorem dX0_draws_13 : decode cX0_draws 13 = .ok (.getfield 436, 3) := by decide +kernel
theorem dX0_draws_16 : decode cX0_draws 16 = .ok (.iload_n 1, 1) := by decide +kernel
theorem dX0_draws_17 : decode cX0_draws 17 = .ok (.iload_n 2, 1) := by decide +kernel
theorem dX0_draws_18 : decode cX0_draws 18 = .ok (.iload_n 3, 1) := by decide +kernel
theorem dX0_draws_19 : decode cX0_draws 19 = .ok (.iload 4, 2) := by decide +kernel
theorem dX0_draws_21 : decode cX0_draws 21 = .ok (.aload_n 0, 1) := by decide +kernel
theorem dX0_draws_22 : decode cX0_draws 22 = .ok (.getfield 158, 3) := by decide +kernel
theorem dX0_draws_25 : decode cX0_draws 25 = .ok (.invokespecial 439, 3) := by decide +kernel
theorem dX0_draws_28 : decode cX0_draws 28 = .ok (.aastore, 1) := by decide +kernel
theorem dX0_draws_29 : decode cX0_draws 29 = .ok (.aload_n 0, 1) := by decide +kernel
theorem dX0_draws_30 : decode cX0_draws 30 = .ok (.dup, 1) := by decide +kernel
theorem dX0_draws_31 : decode cX0_draws 31 = .ok (.getfield 436, 3) := by decide +kernel
theorem dX0_draws_34 : decode cX0_draws 34 = .ok (.iconst 1, 1) := by decide +kernel
theorem dX0_draws_35 : decode cX0_draws 35 = .ok (.iadd, 1) := by decide +kernel
theorem dX0_draws_36 : decode cX0_draws 36 = .ok (.putfield 436, 3) := by decide +kernel
theorem dX0_draws_39 : decode cX0_draws 39 = .ok (.aload_n 0, 1) := by decide +kernel
theorem dX0_draws_40 : decode cX0_draws 40 = .ok (.getfield 436, 3) := by decide +kernel
theorem dX0_draws_43 : decode cX0_draws 43 = .ok (.iconst 1, 1) := by decide +kernel
theorem dX0_draws_44 : decode cX0_draws 44 = .ok (.isub, 1) := by decide +kernel
theorem dX0_draws_45 : decode cX0_draws 45 = .ok (.ireturn, 1) := by decide +kernel
section
variable {v : Int32}
noncomputable def x0_draws (F : Nat) (x1 : Int32) (x2 : Int32) (x3 : Int32) (x4 : Int32) (τ : XS) : XR Int32 :=
  nx (xN τ (.inr (23, fun q => defaultValue (tyX23 q)))) (fun τ1 => tk 1 6 ((x23_init F τ.2.2.2.2 (τ1.1.1 27) x1 x2 x3 x4 (τ1.1.1 2) τ1).bind (fun r1 => tk r1.2.2.1 r1.2.2.2 (if isC r1.2.1 τ.2.2.2.2 [23] = true then if okI (τ.1.1 27) 100 = true then nx (xR r1.2.1 22 (τ.1.1 27).toNatClampNeg (some τ.2.2.2.2)) (fun τ2 => nx (xS τ2 27 ((τ2.1.1 27) + 1)) (fun τ3 => some ((τ3.1.1 27) - 1, τ3, 0, 0))) else none else none))))
theorem met_x0_draws {l : Launch} {G : gG} {o B F : Nat} {x1 : Int32} {x2 : Int32} {x3 : Int32} {x4 : Int32} {τ : XS} {r : Int32 × XS × Nat × Nat} (hf : x0_draws F x1 x2 x3 x4 τ = some r) : MetX l G o B yX0_draws cX0_draws 5 (some .int) 3 [.ref o, .int x1, .int x2, .int x3, .int x4] τ (xQi G o B r.1 r.2.1) r.2.2.1 r.2.2.2 := by
  obtain ⟨v, τr, c, s⟩ := r
  refine metX_of (own := RX0) (mn := "draws") (by decide) rfl rfl rfl (fun γ hγ M => ?_)
  subst hγ
  show J γ (XW G o B τ) 0 0 0 [(0, .ref o), (1, .int x1), (2, .int x2), (3, .int x3), (4, .int x4)] []
  have hkn : 0 + c ≤ c ∧ 0 + s ≤ s := ⟨by omega, by omega⟩
  unfold x0_draws at hf
  refine j_aload_n (pc := 0) M.1 dX0_draws_0 0 rfl ?_
  refine jx_getA (pc := 1) M xfa_91 dX0_draws_1 ?_
  refine j_aload_n (pc := 4) M.1 dX0_draws_4 0 rfl ?_
  refine jx_getS (pc := 5) M xfs_436 dX0_draws_5 ?_
  obtain ⟨τ1, e1, hf⟩ := o_nx hf
  obtain ⟨c1, s1, hf, hc1, hs1⟩ := o_tk hf
  replace hkn := kn_step hkn hc1 hs1
  refine jx_new (pc := 8) M xnew_X0_89 dX0_draws_8 (kn_le hkn) e1 ?_
  refine j_dup (pc := 11) M.1 dX0_draws_11 rfl ?_
  refine j_aload_n (pc := 12) M.1 dX0_draws_12 0 rfl ?_
  refine jx_getS (pc := 13) M xfs_436 dX0_draws_13 ?_
  refine j_iload_n (pc := 16) M.1 dX0_draws_16 1 rfl ?_
  refine j_iload_n (pc := 17) M.1 dX0_draws_17 2 rfl ?_
  refine j_iload_n (pc := 18) M.1 dX0_draws_18 3 rfl ?_
  refine j_iload (pc := 19) M.1 dX0_draws_19 4 rfl ?_
  refine j_aload_n (pc := 21) M.1 dX0_draws_21 0 rfl ?_
  refine jx_getS (pc := 22) M xfs_158 dX0_draws_22 ?_
  obtain ⟨r1, g1, hf⟩ := o_bind hf
  obtain ⟨c2, s2, hf, hc2, hs2⟩ := o_tk hf
  replace hkn := kn_step hkn hc2 hs2
  refine jx_v (r := r1.1) M (x_runI (pc := 25) (As := [.int (τ1.1.1 27), .int x1, .int x2, .int x3, .int x4, .int (τ1.1.1 2)]) (rest := [.ref τ.2.2.2.2, .int (τ.1.1 27), .ref (o + 1 + 22)]) M xci_X0_439 (met_x23_init g1) (by decide) rfl rfl rfl dX0_draws_25 (kn_le hkn)) ?_
  obtain ⟨b1, hf⟩ := o_need hf
  obtain ⟨b2, hf⟩ := o_need hf
  obtain ⟨τ2, e2, hf⟩ := o_nx hf
  refine jx_aast (pc := 28) M xax_22 (by decide) (by decide) xel_11 b1 b2 dX0_draws_28 e2 ?_
  refine j_aload_n (pc := 29) M.1 dX0_draws_29 0 rfl ?_
  refine j_dup (pc := 30) M.1 dX0_draws_30 rfl ?_
  refine jx_getS (pc := 31) M xfs_436 dX0_draws_31 ?_
  refine j_iconst (pc := 34) M.1 dX0_draws_34 kc_iconst_1 ?_
  refine j_iadd (pc := 35) M.1 dX0_draws_35 ?_
  obtain ⟨τ3, e3, hf⟩ := o_nx hf
  refine jx_putS (pc := 36) M xfs_436 dX0_draws_36 e3 ?_
  refine j_aload_n (pc := 39) M.1 dX0_draws_39 0 rfl ?_
  refine jx_getS (pc := 40) M xfs_436 dX0_draws_40 ?_
  refine j_iconst (pc := 43) M.1 dX0_draws_43 kc_iconst_1 ?_
  refine j_isub (pc := 44) M.1 dX0_draws_44 ?_
  exact jx_iretF (pc := 45) M dX0_draws_45 hf hkn
end
theorem dX0_draw_0 : decode cX0_draw 0 = .ok (.iload_n 1, 1) := by decide +kernel
theorem dX0_draw_1 : decode cX0_draw 1 = .ok (.aload_n 0, 1) := by decide +kernel
theorem dX0_draw_2 : decode cX0_draw 2 = .ok (.getfield 430, 3) := by decide +kernel
theorem dX0_draw_5 : decode cX0_draw 5 = .ok (.invokestatic 137, 3) := by decide +kernel
theorem dX0_draw_8 : decode cX0_draw 8 = .ok (.ifCond .eq 45, 3) := by decide +kernel
theorem dX0_draw_11 : decode cX0_draw 11 = .ok (.iload_n 2, 1) := by decide +kernel
theorem dX0_draw_12 : decode cX0_draw 12 = .ok (.iconst 0, 1) := by decide +kernel
theorem dX0_draw_13 : decode cX0_draw 13 = .ok (.aload_n 0, 1) := by decide +kernel
theorem dX0_draw_14 : decode cX0_draw 14 = .ok (.getfield 158, 3) := by decide +kernel
theorem dX0_draw_17 : decode cX0_draw 17 = .ok (.invokestatic 144, 3) := by decide +kernel
theorem dX0_draw_20 : decode cX0_draw 20 = .ok (.ifCond .eq 33, 3) := by decide +kernel
theorem dX0_draw_23 : decode cX0_draw 23 = .ok (.iload_n 3, 1) := by decide +kernel
theorem dX0_draw_24 : decode cX0_draw 24 = .ok (.sipush 256, 3) := by decide +kernel
theorem dX0_draw_27 : decode cX0_draw 27 = .ok (.invokestatic 137, 3) := by decide +kernel
theorem dX0_draw_30 : decode cX0_draw 30 = .ok (.ifCond .eq 23, 3) := by decide +kernel
theorem dX0_draw_33 : decode cX0_draw 33 = .ok (.aload_n 0, 1) := by decide +kernel
theorem dX0_draw_34 : decode cX0_draw 34 = .ok (.getfield 436, 3) := by decide +kernel
theorem dX0_draw_37 : decode cX0_draw 37 = .ok (.bipush 100, 2) := by decide +kernel
theorem dX0_draw_39 : decode cX0_draw 39 = .ok (.if_icmp .ge 14, 3) := by decide +kernel
theorem dX0_draw_42 : decode cX0_draw 42 = .ok (.aload_n 0, 1) := by decide +kernel
theorem dX0_draw_43 : decode cX0_draw 43 = .ok (.iload_n 1, 1) := by decide +kernel
theorem dX0_draw_44 : decode cX0_draw 44 = .ok (.iload_n 2, 1) := by decide +kernel
theorem dX0_draw_45 : decode cX0_draw 45 = .ok (.iload_n 3, 1) := by decide +kernel
theorem dX0_draw_46 : decode cX0_draw 46 = .ok (.iconst 0, 1) := by decide +kernel
theorem dX0_draw_47 : decode cX0_draw 47 = .ok (.invokevirtual 442, 3) := by decide +kernel
theorem dX0_draw_50 : decode cX0_draw 50 = .ok (.goto 4, 3) := by decide +kernel
theorem dX0_draw_53 : decode cX0_draw 53 = .ok (.iconst (-1), 1) := by decide +kernel
theorem dX0_draw_54 : decode cX0_draw 54 = .ok (.ireturn, 1) := by decide +kernel
section
variable {v : Int32}
noncomputable def x0_draw (F : Nat) (x1 : Int32) (x2 : Int32) (x3 : Int32) (τ : XS) : XR Int32 :=
  (x0_in F x1 (τ.1.1 26)).bind (fun r1 => if r1 = 0 then (some ((-1), τ, 0, 0)) else ((x0_within F x2 0 (τ.1.1 2)).bind (fun r2 => if r2 = 0 then (some ((-1), τ, 0, 0)) else ((x0_in F x3 256).bind (fun r3 => if r3 = 0 then (some ((-1), τ, 0, 0)) else (if 100 ≤ (τ.1.1 27) then (some ((-1), τ, 0, 0)) else ((x0_draws F x1 x2 x3 0 τ).bind (fun r4 => tk r4.2.2.1 r4.2.2.2 (some (r4.1, r4.2.1, 0, 0))))))))))
theorem met_x0_draw {l : Launch} {G : gG} {o B F : Nat} {x1 : Int32} {x2 : Int32} {x3 : Int32} {τ : XS} {r : Int32 × XS × Nat × Nat} (hf : x0_draw F x1 x2 x3 τ = some r) : MetX l G o B yX0_draw cX0_draw 4 (some .int) 4 [.ref o, .int x1, .int x2, .int x3] τ (xQi G o B r.1 r.2.1) r.2.2.1 r.2.2.2 := by
  obtain ⟨v, τr, c, s⟩ := r
  refine metX_of (own := RX0) (mn := "draw") (by decide) rfl rfl rfl (fun γ hγ M => ?_)
  subst hγ
  show J γ (XW G o B τ) 0 0 0 [(0, .ref o), (1, .int x1), (2, .int x2), (3, .int x3)] []
  have hkn : 0 + c ≤ c ∧ 0 + s ≤ s := ⟨by omega, by omega⟩
  unfold x0_draw at hf
  refine j_iload_n (pc := 0) M.1 dX0_draw_0 1 rfl ?_
  refine j_aload_n (pc := 1) M.1 dX0_draw_1 0 rfl ?_
  refine jx_getS (pc := 2) M xfs_430 dX0_draw_2 ?_
  obtain ⟨r1, g1, hf⟩ := o_bind hf
  refine jx_calls (pc := 5) (As := [.int x1, .int (τ.1.1 26)]) (rest := []) M xcs_X0_137 (met_x0_in g1) rfl rfl rfl rfl dX0_draw_5 (kn_le0 hkn) ?_
  refine j_if_eq (pc := 8) M.1 53 dX0_draw_8 rfl (fun b1 => ?_) (fun b1 => ?_)
  · replace hf := o_pos b1 hf
    refine j_iconst (pc := 53) M.1 dX0_draw_53 kc_iconst_m1 ?_
    exact jx_iretF (pc := 54) M dX0_draw_54 hf hkn
  · replace hf := o_neg b1 hf
    refine j_iload_n (pc := 11) M.1 dX0_draw_11 2 rfl ?_
    refine j_iconst (pc := 12) M.1 dX0_draw_12 kc_iconst_0 ?_
    refine j_aload_n (pc := 13) M.1 dX0_draw_13 0 rfl ?_
    refine jx_getS (pc := 14) M xfs_158 dX0_draw_14 ?_
    obtain ⟨r2, g2, hf⟩ := o_bind hf
    refine jx_calls (pc := 17) (As := [.int x2, .int 0, .int (τ.1.1 2)]) (rest := []) M xcs_X0_144 (met_x0_within g2) rfl rfl rfl rfl dX0_draw_17 (kn_le0 hkn) ?_
    refine j_if_eq (pc := 20) M.1 53 dX0_draw_20 rfl (fun b2 => ?_) (fun b2 => ?_)
    · replace hf := o_pos b2 hf
      refine j_iconst (pc := 53) M.1 dX0_draw_53 kc_iconst_m1 ?_
      exact jx_iretF (pc := 54) M dX0_draw_54 hf hkn
    · replace hf := o_neg b2 hf
      refine j_iload_n (pc := 23) M.1 dX0_draw_23 3 rfl ?_
      refine j_sipush (pc := 24) M.1 dX0_draw_24 kc_sipush_256 ?_
      obtain ⟨r3, g3, hf⟩ := o_bind hf
      refine jx_calls (pc := 27) (As := [.int x3, .int 256]) (rest := []) M xcs_X0_137 (met_x0_in g3) rfl rfl rfl rfl dX0_draw_27 (kn_le0 hkn) ?_
      refine j_if_eq (pc := 30) M.1 53 dX0_draw_30 rfl (fun b3 => ?_) (fun b3 => ?_)
      · replace hf := o_pos b3 hf
        refine j_iconst (pc := 53) M.1 dX0_draw_53 kc_iconst_m1 ?_
        exact jx_iretF (pc := 54) M dX0_draw_54 hf hkn
      · replace hf := o_neg b3 hf
        refine j_aload_n (pc := 33) M.1 dX0_draw_33 0 rfl ?_
        refine jx_getS (pc := 34) M xfs_436 dX0_draw_34 ?_
        refine j_bipush (pc := 37) M.1 dX0_draw_37 kc_bipush_100 ?_
        refine j_icmp_ge (pc := 39) M.1 53 dX0_draw_39 rfl (fun b4 => ?_) (fun b4 => ?_)
        · replace hf := o_pos b4 hf
          refine j_iconst (pc := 53) M.1 dX0_draw_53 kc_iconst_m1 ?_
          exact jx_iretF (pc := 54) M dX0_draw_54 hf hkn
        · replace hf := o_neg b4 hf
          refine j_aload_n (pc := 42) M.1 dX0_draw_42 0 rfl ?_
          refine j_iload_n (pc := 43) M.1 dX0_draw_43 1 rfl ?_
          refine j_iload_n (pc := 44) M.1 dX0_draw_44 2 rfl ?_
          refine j_iload_n (pc := 45) M.1 dX0_draw_45 3 rfl ?_
          refine j_iconst (pc := 46) M.1 dX0_draw_46 kc_iconst_0 ?_
          obtain ⟨r4, g4, hf⟩ := o_bind hf
          obtain ⟨c1, s1, hf, hc1, hs1⟩ := o_tk hf
          replace hkn := kn_step hkn hc1 hs1
          refine jx_i M (x_runV (pc := 47) (As := [.int x1, .int x2, .int x3, .int 0]) (rest := []) (V := xV o τ) M xcw_X0_442 (met_x0_draws g4) (fun H h => h.1 o _ xH_o) (by decide) rfl rfl rfl dX0_draw_47 (kn_le hkn)) ?_
          refine j_goto (pc := 50) M.1 54 dX0_draw_50 rfl ?_
          exact jx_iretF (pc := 54) M dX0_draw_54 hf hkn
end
theorem dX0_copy_0 : decode cX0_copy 0 = .ok (.iload_n 1, 1) := by decide +kernel
theorem dX0_copy_1 : decode cX0_copy 1 = .ok (.aload_n 0, 1) := by decide +kernel
theorem dX0_copy_2 : decode cX0_copy 2 = .ok (.getfield 436, 3) := by decide +kernel
theorem dX0_copy_5 : decode cX0_copy 5 = .ok (.invokestatic 137, 3) := by decide +kernel
theorem dX0_copy_8 : decode cX0_copy 8 = .ok (.ifCond .eq 51, 3) := by decide +kernel
theorem dX0_copy_11 : decode cX0_copy 11 = .ok (.iload_n 2, 1) := by decide +kernel
theorem dX0_copy_12 : decode cX0_copy 12 = .ok (.iconst 0, 1) := by decide +kernel
theorem dX0_copy_13 : decode cX0_copy 13 = .ok (.aload_n 0, 1) := by decide +kernel
theorem dX0_copy_14 : decode cX0_copy 14 = .ok (.getfield 158, 3) := by decide +kernel
theorem dX0_copy_17 : decode cX0_copy 17 = .ok (.invokestatic 144, 3) := by decide +kernel
theorem dX0_copy_20 : decode cX0_copy 20 = .ok (.ifCond .eq 39, 3) := by decide +kernel
theorem dX0_copy_23 : decode cX0_copy 23 = .ok (.aload_n 0, 1) := by decide +kernel
theorem dX0_copy_24 : decode cX0_copy 24 = .ok (.getfield 436, 3) := by decide +kernel
theorem dX0_copy_27 : decode cX0_copy 27 = .ok (.bipush 100, 2) := by decide +kernel
theorem dX0_copy_29 : decode cX0_copy 29 = .ok (.if_icmp .ge 30, 3) := by decide +kernel
theorem dX0_copy_32 : decode cX0_copy 32 = .ok (.aload_n 0, 1) := by decide +kernel
theorem dX0_copy_33 : decode cX0_copy 33 = .ok (.aload_n 0, 1) := by decide +kernel
theorem dX0_copy_34 : decode cX0_copy 34 = .ok (.getfield 91, 3) := by decide +kernel
theorem dX0_copy_37 : decode cX0_copy 37 = .ok (.iload_n 1, 1) := by decide +kernel
theorem dX0_copy_38 : decode cX0_copy 38 = .ok (.aaload, 1) := by decide +kernel
theorem dX0_copy_39 : decode cX0_copy 39 = .ok (.getfield 446, 3) := by decide +kernel
theorem dX0_copy_42 : decode cX0_copy 42 = .ok (.iload_n 2, 1) := by decide +kernel
theorem dX0_copy_43 : decode cX0_copy 43 = .ok (.aload_n 0, 1) := by decide +kernel
theorem dX0_copy_44 : decode cX0_copy 44 = .ok (.getfield 91, 3) := by decide +kernel
theorem dX0_copy_47 : decode cX0_copy 47 = .ok (.iload_n 1, 1) := by decide +kernel
theorem dX0_copy_48 : decode cX0_copy 48 = .ok (.aaload, 1) := by decide +kernel
theorem dX0_copy_49 : decode cX0_copy 49 = .ok (.getfield 449, 3) := by decide +kernel
theorem dX0_copy_52 : decode cX0_copy 52 = .ok (.iconst 1, 1) := by decide +kernel
theorem dX0_copy_53 : decode cX0_copy 53 = .ok (.invokevirtual 442, 3) := by decide +kernel
theorem dX0_copy_56 : decode cX0_copy 56 = .ok (.goto 4, 3) := by decide +kernel
theorem dX0_copy_59 : decode cX0_copy 59 = .ok (.iconst (-1), 1) := by decide +kernel
theorem dX0_copy_60 : decode cX0_copy 60 = .ok (.ireturn, 1) := by decide +kernel
section
variable {v : Int32}
noncomputable def x0_copy (F : Nat) (x1 : Int32) (x2 : Int32) (τ : XS) : XR Int32 :=
  (x0_in F x1 (τ.1.1 27)).bind (fun r1 => if r1 = 0 then (some ((-1), τ, 0, 0)) else ((x0_within F x2 0 (τ.1.1 2)).bind (fun r2 => if r2 = 0 then (some ((-1), τ, 0, 0)) else (if 100 ≤ (τ.1.1 27) then (some ((-1), τ, 0, 0)) else (if okI x1 100 = true then (τ.2.1 22 x1.toNatClampNeg).bind (fun n1 => (gI τ n1 [23] 1).bind (fun v1 => if okI x1 100 = true then (τ.2.1 22 x1.toNatClampNeg).bind (fun n2 => (gI τ n2 [23] 3).bind (fun v2 => (x0_draws F v1 x2 v2 1 τ).bind (fun r3 => tk r3.2.2.1 r3.2.2.2 (some (r3.1, r3.2.1, 0, 0))))) else none)) else none)))))
theorem met_x0_copy {l : Launch} {G : gG} {o B F : Nat} {x1 : Int32} {x2 : Int32} {τ : XS} {r : Int32 × XS × Nat × Nat} (hf : x0_copy F x1 x2 τ = some r) : MetX l G o B yX0_copy cX0_copy 3 (some .int) 4 [.ref o, .int x1, .int x2] τ (xQi G o B r.1 r.2.1) r.2.2.1 r.2.2.2 := by
  obtain ⟨v, τr, c, s⟩ := r
  refine metX_of (own := RX0) (mn := "copy") (by decide) rfl rfl rfl (fun γ hγ M => ?_)
  subst hγ
  show J γ (XW G o B τ) 0 0 0 [(0, .ref o), (1, .int x1), (2, .int x2)] []
  have hkn : 0 + c ≤ c ∧ 0 + s ≤ s := ⟨by omega, by omega⟩
  unfold x0_copy at hf
  refine j_iload_n (pc := 0) M.1 dX0_copy_0 1 rfl ?_
  refine j_aload_n (pc := 1) M.1 dX0_copy_1 0 rfl ?_
  refine jx_getS (pc := 2) M xfs_436 dX0_copy_2 ?_
  obtain ⟨r1, g1, hf⟩ := o_bind hf
  refine jx_calls (pc := 5) (As := [.int x1, .int (τ.1.1 27)]) (rest := []) M xcs_X0_137 (met_x0_in g1) rfl rfl rfl rfl dX0_copy_5 (kn_le0 hkn) ?_
  refine j_if_eq (pc := 8) M.1 59 dX0_copy_8 rfl (fun b1 => ?_) (fun b1 => ?_)
  · replace hf := o_pos b1 hf
    refine j_iconst (pc := 59) M.1 dX0_copy_59 kc_iconst_m1 ?_
    exact jx_iretF (pc := 60) M dX0_copy_60 hf hkn
  · replace hf := o_neg b1 hf
    refine j_iload_n (pc := 11) M.1 dX0_copy_11 2 rfl ?_
    refine j_iconst (pc := 12) M.1 dX0_copy_12 kc_iconst_0 ?_
    refine j_aload_n (pc := 13) M.1 dX0_copy_13 0 rfl ?_
    refine jx_getS (pc := 14) M xfs_158 dX0_copy_14 ?_
    obtain ⟨r2, g2, hf⟩ := o_bind hf
    refine jx_calls (pc := 17) (As := [.int x2, .int 0, .int (τ.1.1 2)]) (rest := []) M xcs_X0_144 (met_x0_within g2) rfl rfl rfl rfl dX0_copy_17 (kn_le0 hkn) ?_
    refine j_if_eq (pc := 20) M.1 59 dX0_copy_20 rfl (fun b2 => ?_) (fun b2 => ?_)
    · replace hf := o_pos b2 hf
      refine j_iconst (pc := 59) M.1 dX0_copy_59 kc_iconst_m1 ?_
      exact jx_iretF (pc := 60) M dX0_copy_60 hf hkn
    · replace hf := o_neg b2 hf
      refine j_aload_n (pc := 23) M.1 dX0_copy_23 0 rfl ?_
      refine jx_getS (pc := 24) M xfs_436 dX0_copy_24 ?_
      refine j_bipush (pc := 27) M.1 dX0_copy_27 kc_bipush_100 ?_
      refine j_icmp_ge (pc := 29) M.1 59 dX0_copy_29 rfl (fun b3 => ?_) (fun b3 => ?_)
      · replace hf := o_pos b3 hf
        refine j_iconst (pc := 59) M.1 dX0_copy_59 kc_iconst_m1 ?_
        exact jx_iretF (pc := 60) M dX0_copy_60 hf hkn
      · replace hf := o_neg b3 hf
        refine j_aload_n (pc := 32) M.1 dX0_copy_32 0 rfl ?_
        refine j_aload_n (pc := 33) M.1 dX0_copy_33 0 rfl ?_
        refine jx_getA (pc := 34) M xfa_91 dX0_copy_34 ?_
        refine j_iload_n (pc := 37) M.1 dX0_copy_37 1 rfl ?_
        obtain ⟨b4, hf⟩ := o_need hf
        obtain ⟨n1, g3, hf⟩ := o_bind hf
        refine jx_aald (pc := 38) M xax_22 (by decide) xrt_11 b4 g3 dX0_copy_38 ?_
        obtain ⟨v1, g4, hf⟩ := o_bind hf
        refine jx_getI (pc := 39) M xfl_X0_446 g4 dX0_copy_39 ?_
        refine j_iload_n (pc := 42) M.1 dX0_copy_42 2 rfl ?_
        refine j_aload_n (pc := 43) M.1 dX0_copy_43 0 rfl ?_
        refine jx_getA (pc := 44) M xfa_91 dX0_copy_44 ?_
        refine j_iload_n (pc := 47) M.1 dX0_copy_47 1 rfl ?_
        obtain ⟨b5, hf⟩ := o_need hf
        obtain ⟨n2, g5, hf⟩ := o_bind hf
        refine jx_aald (pc := 48) M xax_22 (by decide) xrt_11 b5 g5 dX0_copy_48 ?_
        obtain ⟨v2, g6, hf⟩ := o_bind hf
        refine jx_getI (pc := 49) M xfl_X0_449 g6 dX0_copy_49 ?_
        refine j_iconst (pc := 52) M.1 dX0_copy_52 kc_iconst_1 ?_
        obtain ⟨r3, g7, hf⟩ := o_bind hf
        obtain ⟨c1, s1, hf, hc1, hs1⟩ := o_tk hf
        replace hkn := kn_step hkn hc1 hs1
        refine jx_i M (x_runV (pc := 53) (As := [.int v1, .int x2, .int v2, .int 1]) (rest := []) (V := xV o τ) M xcw_X0_442 (met_x0_draws g7) (fun H h => h.1 o _ xH_o) (by decide) rfl rfl rfl dX0_copy_53 (kn_le hkn)) ?_
        refine j_goto (pc := 56) M.1 60 dX0_copy_56 rfl ?_
        exact jx_iretF (pc := 60) M dX0_copy_60 hf hkn
end
theorem dX23_shows_0 : decode cX23_shows 0 = .ok (.aload_n 0, 1) := by decide +kernel
theorem dX23_shows_1 : decode cX23_shows 1 = .ok (.getfield 19, 3) := by decide +kernel
theorem dX23_shows_4 : decode cX23_shows 4 = .ok (.iload_n 1, 1) := by decide +kernel
theorem dX23_shows_5 : decode cX23_shows 5 = .ok (.ishr, 1) := by decide +kernel
theorem dX23_shows_6 : decode cX23_shows 6 = .ok (.iconst 1, 1) := by decide +kernel
theorem dX23_shows_7 : decode cX23_shows 7 = .ok (.iand, 1) := by decide +kernel
theorem dX23_shows_8 : decode cX23_shows 8 = .ok (.iconst 1, 1) := by decide +kernel
theorem dX23_shows_9 : decode cX23_shows 9 = .ok (.if_icmp .ne 7, 3) := by decide +kernel
theorem dX23_shows_12 : decode cX23_shows 12 = .ok (.iconst 1, 1) := by decide +kernel
theorem dX23_shows_13 : decode cX23_shows 13 = .ok (.goto 4, 3) := by decide +kernel
theorem dX23_shows_16 : decode cX23_shows 16 = .ok (.iconst 0, 1) := by decide +kernel
theorem dX23_shows_17 : decode cX23_shows 17 = .ok (.ireturn, 1) := by decide +kernel
section
variable {v : Int32}
noncomputable def x23_shows (F : Nat) (x0 : Nat) (x1 : Int32) (τ : XS) : XR Int32 :=
  (gI τ x0 [23] 3).bind (fun v1 => if ((v1 >>> (x1 &&& 31)) &&& 1) = 1 then (some (1, τ, 0, 0)) else (some (0, τ, 0, 0)))
theorem met_x23_shows {l : Launch} {G : gG} {o B F : Nat} {x0 : Nat} {x1 : Int32} {τ : XS} {r : Int32 × XS × Nat × Nat} (hf : x23_shows F x0 x1 τ = some r) : MetX l G o B yX23_shows cX23_shows 2 (some .boolean) 1 [.ref x0, .int x1] τ (xQi G o B r.1 r.2.1) r.2.2.1 r.2.2.2 := by
  obtain ⟨v, τr, c, s⟩ := r
  refine metX_of (own := RX23) (mn := "shows") (by decide) rfl rfl rfl (fun γ hγ M => ?_)
  subst hγ
  show J γ (XW G o B τ) 0 0 0 [(0, .ref x0), (1, .int x1)] []
  have hkn : 0 + c ≤ c ∧ 0 + s ≤ s := ⟨by omega, by omega⟩
  unfold x23_shows at hf
  refine j_aload_n (pc := 0) M.1 dX23_shows_0 0 rfl ?_
  obtain ⟨v1, g1, hf⟩ := o_bind hf
  refine jx_getI (pc := 1) M xfl_X23_19 g1 dX23_shows_1 ?_
  refine j_iload_n (pc := 4) M.1 dX23_shows_4 1 rfl ?_
  refine j_ishr (pc := 5) M.1 dX23_shows_5 ?_
  refine j_iconst (pc := 6) M.1 dX23_shows_6 kc_iconst_1 ?_
  refine j_iand (pc := 7) M.1 dX23_shows_7 ?_
  refine j_iconst (pc := 8) M.1 dX23_shows_8 kc_iconst_1 ?_
  refine j_icmp_ne (pc := 9) M.1 16 dX23_shows_9 rfl (fun b1 => ?_) (fun b1 => ?_)
  · replace hf := o_neg b1 hf
    refine j_iconst (pc := 16) M.1 dX23_shows_16 kc_iconst_0 ?_
    exact jx_zretF (pc := 17) M dX23_shows_17 rfl hf hkn
  · replace hf := o_pos b1 hf
    refine j_iconst (pc := 12) M.1 dX23_shows_12 kc_iconst_1 ?_
    refine j_goto (pc := 13) M.1 17 dX23_shows_13 rfl ?_
    exact jx_zretF (pc := 17) M dX23_shows_17 rfl hf hkn
end
theorem dX0_stood_0 : decode cX0_stood 0 = .ok (.iload_n 1, 1) := by decide +kernel
theorem dX0_stood_1 : decode cX0_stood 1 = .ok (.aload_n 0, 1) := by decide +kernel
theorem dX0_stood_2 : decode cX0_stood 2 = .ok (.getfield 430, 3) := by decide +kernel
theorem dX0_stood_5 : decode cX0_stood 5 = .ok (.invokestatic 137, 3) := by decide +kernel
theorem dX0_stood_8 : decode cX0_stood 8 = .ok (.ifCond .eq 28, 3) := by decide +kernel
theorem dX0_stood_11 : decode cX0_stood 11 = .ok (.iload_n 2, 1) := by decide +kernel
theorem dX0_stood_12 : decode cX0_stood 12 = .ok (.bipush 8, 2) := by decide +kernel
theorem dX0_stood_14 : decode cX0_stood 14 = .ok (.invokestatic 137, 3) := by decide +kernel
theorem dX0_stood_17 : decode cX0_stood 17 = .ok (.ifCond .eq 19, 3) := by decide +kernel
theorem dX0_stood_20 : decode cX0_stood 20 = .ok (.iload_n 3, 1) := by decide +kernel
theorem dX0_stood_21 : decode cX0_stood 21 = .ok (.invokestatic 154, 3) := by decide +kernel
theorem dX0_stood_24 : decode cX0_stood 24 = .ok (.ifCond .eq 12, 3) := by decide +kernel
theorem dX0_stood_27 : decode cX0_stood 27 = .ok (.iload 4, 2) := by decide +kernel
theorem dX0_stood_29 : decode cX0_stood 29 = .ok (.iconst 4, 1) := by decide +kernel
theorem dX0_stood_30 : decode cX0_stood 30 = .ok (.invokestatic 137, 3) := by decide +kernel
theorem dX0_stood_33 : decode cX0_stood 33 = .ok (.ifCond .ne 5, 3) := by decide +kernel
theorem dX0_stood_36 : decode cX0_stood 36 = .ok (.iconst (-1), 1) := by decide +kernel
theorem dX0_stood_37 : decode cX0_stood 37 = .ok (.ireturn, 1) := by decide +kernel
theorem dX0_stood_38 : decode cX0_stood 38 = .ok (.bipush 100, 2) := by decide +kernel
theorem dX0_stood_40 : decode cX0_stood 40 = .ok (.anewarray 89, 3) := by decide +kernel
theorem dX0_stood_43 : decode cX0_stood 43 = .ok (.astore 5, 2) := by decide +kernel
theorem dX0_stood_45 : decode cX0_stood 45 = .ok (.iconst 0, 1) := by decide +kernel
theorem dX0_stood_46 : decode cX0_stood 46 = .ok (.istore 6, 2) := by decide +kernel
theorem dX0_stood_48 : decode cX0_stood 48 = .ok (.iconst 0, 1) := by decide +kernel
theorem dX0_stood_49 : decode cX0_stood 49 = .ok (.istore 7, 2) := by decide +kernel
theorem dX0_stood_51 : decode cX0_stood 51 = .ok (.iload 7, 2) := by decide +kernel
theorem dX0_stood_53 : decode cX0_stood 53 = .ok (.aload_n 0, 1) := by decide +kernel
theorem dX0_stood_54 : decode cX0_stood 54 = .ok (.getfield 436, 3) := by decide +kernel
theorem dX0_stood_57 : decode cX0_stood 57 = .ok (.if_icmp .ge 102, 3) := by decide +kernel
theorem dX0_stood_60 : decode cX0_stood 60 = .ok (.aload_n 0, 1) := by decide +kernel
theorem dX0_stood_61 : decode cX0_stood 61 = .ok (.getfield 91, 3) := by decide +kernel
theorem dX0_stood_64 : decode cX0_stood 64 = .ok (.iload 7, 2) := by decide +kernel
theorem dX0_stood_66 : decode cX0_stood 66 = .ok (.aaload, 1) := by decide +kernel
theorem dX0_stood_67 : decode cX0_stood 67 = .ok (.astore 8, 2) := by decide +kernel
theorem dX0_stood_69 : decode cX0_stood 69 = .ok (.aload 8, 2) := by decide +kernel
theorem dX0_stood_71 : decode cX0_stood 71 = .ok (.getfield 446, 3) := by decide +kernel
theorem dX0_stood_74 : decode cX0_stood 74 = .ok (.iload_n 1, 1) := by decide +kernel
theorem dX0_stood_75 : decode cX0_stood 75 = .ok (.if_icmp .ne 78, 3) := by decide +kernel
theorem dX0_stood_78 : decode cX0_stood 78 = .ok (.aload 8, 2) := by decide +kernel
theorem dX0_stood_80 : decode cX0_stood 80 = .ok (.getfield 452, 3) := by decide +kernel
theorem dX0_stood_83 : decode cX0_stood 83 = .ok (.ifCond .ne 70, 3) := by decide +kernel
theorem dX0_stood_86 : decode cX0_stood 86 = .ok (.aload 8, 2) := by decide +kernel
theorem dX0_stood_88 : decode cX0_stood 88 = .ok (.getfield 455, 3) := by decide +kernel
theorem dX0_stood_91 : decode cX0_stood 91 = .ok (.iload_n 3, 1) := by decide +kernel
theorem dX0_stood_92 : decode cX0_stood 92 = .ok (.if_icmp .le 6, 3) := by decide +kernel
theorem dX0_stood_95 : decode cX0_stood 95 = .ok (.goto 58, 3) := by decide +kernel
theorem dX0_stood_98 : decode cX0_stood 98 = .ok (.iload 6, 2) := by decide +kernel
theorem dX0_stood_100 : decode cX0_stood 100 = .ok (.istore 9, 2) := by decide +kernel
theorem dX0_stood_102 : decode cX0_stood 102 = .ok (.iload 9, 2) := by decide +kernel
theorem dX0_stood_104 : decode cX0_stood 104 = .ok (.ifCond .le 39, 3) := by decide +kernel
theorem dX0_stood_107 : decode cX0_stood 107 = .ok (.aload 5, 2) := by decide +kernel
theorem dX0_stood_109 : decode cX0_stood 109 = .ok (.iload 9, 2) := by decide +kernel
theorem dX0_stood_111 : decode cX0_stood 111 = .ok (.iconst 1, 1) := by decide +kernel
theorem dX0_stood_112 : decode cX0_stood 112 = .ok (.isub, 1) := by decide +kernel
theorem dX0_stood_113 : decode cX0_stood 113 = .ok (.aaload, 1) := by decide +kernel
theorem dX0_stood_114 : decode cX0_stood 114 = .ok (.getfield 456, 3) := by decide +kernel
theorem dX0_stood_117 : decode cX0_stood 117 = .ok (.aload 8, 2) := by decide +kernel
theorem dX0_stood_119 : decode cX0_stood 119 = .ok (.getfield 456, 3) := by decide +kernel
theorem dX0_stood_122 : decode cX0_stood 122 = .ok (.if_icmp .le 21, 3) := by decide +kernel
theorem dX0_stood_125 : decode cX0_stood 125 = .ok (.aload 5, 2) := by decide +kernel
theorem dX0_stood_127 : decode cX0_stood 127 = .ok (.iload 9, 2) := by decide +kernel
theorem dX0_stood_129 : decode cX0_stood 129 = .ok (.aload 5, 2) := by decide +kernel
theorem dX0_stood_131 : decode cX0_stood 131 = .ok (.iload 9, 2) := by decide +kernel
theorem dX0_stood_133 : decode cX0_stood 133 = .ok (.iconst 1, 1) := by decide +kernel
theorem dX0_stood_134 : decode cX0_stood 134 = .ok (.isub, 1) := by decide +kernel
theorem dX0_stood_135 : decode cX0_stood 135 = .ok (.aaload, 1) := by decide +kernel
theorem dX0_stood_136 : decode cX0_stood 136 = .ok (.aastore, 1) := by decide +kernel
theorem dX0_stood_137 : decode cX0_stood 137 = .ok (.iinc 9 (-1), 3) := by decide +kernel
theorem dX0_stood_140 : decode cX0_stood 140 = .ok (.goto (-38), 3) := by decide +kernel
theorem dX0_stood_143 : decode cX0_stood 143 = .ok (.aload 5, 2) := by decide +kernel
theorem dX0_stood_145 : decode cX0_stood 145 = .ok (.iload 9, 2) := by decide +kernel
theorem dX0_stood_147 : decode cX0_stood 147 = .ok (.aload 8, 2) := by decide +kernel
theorem dX0_stood_149 : decode cX0_stood 149 = .ok (.aastore, 1) := by decide +kernel
theorem dX0_stood_150 : decode cX0_stood 150 = .ok (.iinc 6 1, 3) := by decide +kernel
theorem dX0_stood_153 : decode cX0_stood 153 = .ok (.iinc 7 1, 3) := by decide +kernel
theorem dX0_stood_156 : decode cX0_stood 156 = .ok (.goto (-105), 3) := by decide +kernel
theorem dX0_stood_159 : decode cX0_stood 159 = .ok (.iconst 0, 1) := by decide +kernel
theorem dX0_stood_160 : decode cX0_stood 160 = .ok (.istore 7, 2) := by decide +kernel
theorem dX0_stood_162 : decode cX0_stood 162 = .ok (.iload 7, 2) := by decide +kernel
theorem dX0_stood_164 : decode cX0_stood 164 = .ok (.iload 6, 2) := by decide +kernel
theorem dX0_stood_166 : decode cX0_stood 166 = .ok (.if_icmp .ge 21, 3) := by decide +kernel
theorem dX0_stood_169 : decode cX0_stood 169 = .ok (.aload 5, 2) := by decide +kernel
theorem dX0_stood_171 : decode cX0_stood 171 = .ok (.iload 7, 2) := by decide +kernel
theorem dX0_stood_173 : decode cX0_stood 173 = .ok (.aaload, 1) := by decide +kernel
theorem dX0_stood_174 : decode cX0_stood 174 = .ok (.iload_n 2, 1) := by decide +kernel
theorem dX0_stood_175 : decode cX0_stood 175 = .ok (.invokevirtual 457, 3) := by decide +kernel
theorem dX0_stood_178 : decode cX0_stood 178 = .ok (.ifCond .ne 9, 3) := by decide +kernel
theorem dX0_stood_181 : decode cX0_stood 181 = .ok (.iinc 7 1, 3) := by decide +kernel
theorem dX0_stood_184 : decode cX0_stood 184 = .ok (.goto (-22), 3) := by decide +kernel
theorem dX0_stood_187 : decode cX0_stood 187 = .ok (.iload 7, 2) := by decide +kernel
theorem dX0_stood_189 : decode cX0_stood 189 = .ok (.iload 6, 2) := by decide +kernel
theorem dX0_stood_191 : decode cX0_stood 191 = .ok (.if_icmp .ne 5, 3) := by decide +kernel
theorem dX0_stood_194 : decode cX0_stood 194 = .ok (.iconst (-1), 1) := by decide +kernel
theorem dX0_stood_195 : decode cX0_stood 195 = .ok (.ireturn, 1) := by decide +kernel
theorem dX0_stood_196 : decode cX0_stood 196 = .ok (.iload 6, 2) := by decide +kernel
theorem dX0_stood_198 : decode cX0_stood 198 = .ok (.iconst 1, 1) := by decide +kernel
theorem dX0_stood_199 : decode cX0_stood 199 = .ok (.isub, 1) := by decide +kernel
theorem dX0_stood_200 : decode cX0_stood 200 = .ok (.istore 8, 2) := by decide +kernel
theorem dX0_stood_202 : decode cX0_stood 202 = .ok (.aload 5, 2) := by decide +kernel
theorem dX0_stood_204 : decode cX0_stood 204 = .ok (.iload 8, 2) := by decide +kernel
theorem dX0_stood_206 : decode cX0_stood 206 = .ok (.aaload, 1) := by decide +kernel
theorem dX0_stood_207 : decode cX0_stood 207 = .ok (.iload_n 2, 1) := by decide +kernel
theorem dX0_stood_208 : decode cX0_stood 208 = .ok (.invokevirtual 457, 3) := by decide +kernel
theorem dX0_stood_211 : decode cX0_stood 211 = .ok (.ifCond .ne 9, 3) := by decide +kernel
theorem dX0_stood_214 : decode cX0_stood 214 = .ok (.iinc 8 (-1), 3) := by decide +kernel
theorem dX0_stood_217 : decode cX0_stood 217 = .ok (.goto (-15), 3) := by decide +kernel
theorem dX0_stood_220 : decode cX0_stood 220 = .ok (.iload 4, 2) := by decide +kernel
theorem dX0_stood_222 : decode cX0_stood 222 = .ok (.ifCond .ne 12, 3) := by decide +kernel
theorem dX0_stood_225 : decode cX0_stood 225 = .ok (.aload 5, 2) := by decide +kernel
theorem dX0_stood_227 : decode cX0_stood 227 = .ok (.iload 8, 2) := by decide +kernel
theorem dX0_stood_229 : decode cX0_stood 229 = .ok (.aaload, 1) := by decide +kernel
theorem dX0_stood_230 : decode cX0_stood 230 = .ok (.getfield 456, 3) := by decide +kernel
theorem dX0_stood_233 : decode cX0_stood 233 = .ok (.ireturn, 1) := by decide +kernel
theorem dX0_stood_234 : decode cX0_stood 234 = .ok (.iload 4, 2) := by decide +kernel
theorem dX0_stood_236 : decode cX0_stood 236 = .ok (.iconst 1, 1) := by decide +kernel
theorem dX0_stood_237 : decode cX0_stood 237 = .ok (.if_icmp .ne 27, 3) := by decide +kernel
theorem dX0_stood_240 : decode cX0_stood 240 = .ok (.iload 8, 2) := by decide +kernel
theorem dX0_stood_242 : decode cX0_stood 242 = .ok (.iconst 1, 1) := by decide +kernel
theorem dX0_stood_243 : decode cX0_stood 243 = .ok (.iadd, 1) := by decide +kernel
theorem dX0_stood_244 : decode cX0_stood 244 = .ok (.iload 6, 2) := by decide +kernel
theorem dX0_stood_246 : decode cX0_stood 246 = .ok (.if_icmp .ge 16, 3) := by decide +kernel
theorem dX0_stood_249 : decode cX0_stood 249 = .ok (.aload 5, 2) := by decide +kernel
theorem dX0_stood_251 : decode cX0_stood 251 = .ok (.iload 8, 2) := by decide +kernel
theorem dX0_stood_253 : decode cX0_stood 253 = .ok (.iconst 1, 1) := by decide +kernel
theorem dX0_stood_254 : decode cX0_stood 254 = .ok (.iadd, 1) := by decide +kernel
theorem dX0_stood_255 : decode cX0_stood 255 = .ok (.aaload, 1) := by decide +kernel
theorem dX0_stood_256 : decode cX0_stood 256 = .ok (.getfield 456, 3) := by decide +kernel
theorem dX0_stood_259 : decode cX0_stood 259 = .ok (.goto 4, 3) := by decide +kernel
theorem dX0_stood_262 : decode cX0_stood 262 = .ok (.iconst (-1), 1) := by decide +kernel
theorem dX0_stood_263 : decode cX0_stood 263 = .ok (.ireturn, 1) := by decide +kernel
theorem dX0_stood_264 : decode cX0_stood 264 = .ok (.iload 7, 2) := by decide +kernel
theorem dX0_stood_266 : decode cX0_stood 266 = .ok (.istore 9, 2) := by decide +kernel
theorem dX0_stood_268 : decode cX0_stood 268 = .ok (.iload 9, 2) := by decide +kernel
theorem dX0_stood_270 : decode cX0_stood 270 = .ok (.iload 8, 2) := by decide +kernel
theorem dX0_stood_272 : decode cX0_stood 272 = .ok (.if_icmp .ge 21, 3) := by decide +kernel
theorem dX0_stood_275 : decode cX0_stood 275 = .ok (.aload 5, 2) := by decide +kernel
theorem dX0_stood_277 : decode cX0_stood 277 = .ok (.iload 9, 2) := by decide +kernel
theorem dX0_stood_279 : decode cX0_stood 279 = .ok (.aaload, 1) := by decide +kernel
theorem dX0_stood_280 : decode cX0_stood 280 = .ok (.iload_n 2, 1) := by decide +kernel
theorem dX0_stood_281 : decode cX0_stood 281 = .ok (.invokevirtual 457, 3) := by decide +kernel
theorem dX0_stood_284 : decode cX0_stood 284 = .ok (.ifCond .eq 9, 3) := by decide +kernel
theorem dX0_stood_287 : decode cX0_stood 287 = .ok (.iinc 9 1, 3) := by decide +kernel
theorem dX0_stood_290 : decode cX0_stood 290 = .ok (.goto (-22), 3) := by decide +kernel
theorem dX0_stood_293 : decode cX0_stood 293 = .ok (.iload 9, 2) := by decide +kernel
theorem dX0_stood_295 : decode cX0_stood 295 = .ok (.iload 8, 2) := by decide +kernel
theorem dX0_stood_297 : decode cX0_stood 297 = .ok (.if_icmp .lt 5, 3) := by decide +kernel
theorem dX0_stood_300 : decode cX0_stood 300 = .ok (.iconst (-1), 1) := by decide +kernel
theorem dX0_stood_301 : decode cX0_stood 301 = .ok (.ireturn, 1) := by decide +kernel
theorem dX0_stood_302 : decode cX0_stood 302 = .ok (.iload 4, 2) := by decide +kernel
theorem dX0_stood_304 : decode cX0_stood 304 = .ok (.iconst 2, 1) := by decide +kernel
theorem dX0_stood_305 : decode cX0_stood 305 = .ok (.if_icmp .ne 12, 3) := by decide +kernel
theorem dX0_stood_308 : decode cX0_stood 308 = .ok (.aload 5, 2) := by decide +kernel
theorem dX0_stood_310 : decode cX0_stood 310 = .ok (.iload 9, 2) := by decide +kernel
theorem dX0_stood_312 : decode cX0_stood 312 = .ok (.aaload, 1) := by decide +kernel
theorem dX0_stood_313 : decode cX0_stood 313 = .ok (.getfield 460, 3) := by decide +kernel
theorem dX0_stood_316 : decode cX0_stood 316 = .ok (.ireturn, 1) := by decide +kernel
theorem dX0_stood_317 : decode cX0_stood 317 = .ok (.iload 9, 2) := by decide +kernel
theorem dX0_stood_319 : decode cX0_stood 319 = .ok (.istore 10, 2) := by decide +kernel
theorem dX0_stood_321 : decode cX0_stood 321 = .ok (.aload 5, 2) := by decide +kernel
theorem dX0_stood_323 : decode cX0_stood 323 = .ok (.iload 10, 2) := by decide +kernel
theorem dX0_stood_325 : decode cX0_stood 325 = .ok (.aaload, 1) := by decide +kernel
theorem dX0_stood_326 : decode cX0_stood 326 = .ok (.iload_n 2, 1) := by decide +kernel
theorem dX0_stood_327 : decode cX0_stood 327 = .ok (.invokevirtual 457, 3) := by decide +kernel
theorem dX0_stood_330 : decode cX0_stood 330 = .ok (.ifCond .ne 9, 3) := by decide +kernel
theorem dX0_stood_333 : decode cX0_stood 333 = .ok (.iinc 10 1, 3) := by decide +kernel
theorem dX0_stood_336 : decode cX0_stood 336 = .ok (.goto (-15), 3) := by decide +kernel
theorem dX0_stood_339 : decode cX0_stood 339 = .ok (.aload 5, 2) := by decide +kernel
theorem dX0_stood_341 : decode cX0_stood 341 = .ok (.iload 10, 2) := by decide +kernel
theorem dX0_stood_343 : decode cX0_stood 343 = .ok (.aaload, 1) := by decide +kernel
theorem dX0_stood_344 : decode cX0_stood 344 = .ok (.getfield 460, 3) := by decide +kernel
theorem dX0_stood_347 : decode cX0_stood 347 = .ok (.ireturn, 1) := by decide +kernel
section
variable {v : Int32}
noncomputable def x0_stood_B102 (F : Nat) (K143 : Int32 × XS → XR Int32) (x1 : Int32) (x2 : Int32) (x3 : Int32) (x4 : Int32) (x5 : Nat) (x6 : Int32) (x7 : Int32) (x8 : Nat) (R : Int32 × XS → XR Int32) (a : Int32 × XS) : XR Int32 :=
  if a.1 ≤ 0 then (K143 (a.1, a.2)) else ((gB a.2 x5 11).bind (fun A1 => if okI (a.1 - 1) A1.1 = true then (A1.2 (a.1 - 1).toNatClampNeg).bind (fun n1 => (gI a.2 n1 [23] 2).bind (fun v1 => (gI a.2 x8 [23] 2).bind (fun v2 => if v1 ≤ v2 then (K143 (a.1, a.2)) else ((gB a.2 x5 11).bind (fun A2 => if okI (a.1 - 1) A2.1 = true then (A2.2 (a.1 - 1).toNatClampNeg).bind (fun n2 => (gB a.2 x5 11).bind (fun A3 => if isC a.2 n2 [23] = true then if okI a.1 A3.1 = true then nx (xP a.2 x5 (.inl (11, A3.1, .inr (.inr (.inr (.inr (va_up A3.2 a.1.toNatClampNeg (some n2)))))))) (fun τ1 => R (a.1 + (-1), τ1)) else none else none)) else none))))) else none))
theorem kx0_stood_B102 (M : XC γ cX0_stood 11 RX0 "stood" G o B 3 (some .int) (xQi G o B v τr) c0 s0) (x1 : Int32) (x2 : Int32) (x3 : Int32) (x4 : Int32) (x5 : Nat) (x6 : Int32) (x7 : Int32) (x8 : Nat) (K143 : Int32 × XS → XR Int32) (hK143 : ∀ a c s, K143 a = some (v, τr, c, s) → ∀ k n, k + c ≤ c0 ∧ n + s ≤ s0 → J γ (XW G o B a.2) k n 143 [(0, .ref o), (1, .int x1), (2, .int x2), (3, .int x3), (4, .int x4), (5, .ref x5), (6, .int x6), (7, .int x7), (8, .ref x8), (9, .int a.1)] []) : ∀ R : Int32 × XS → XR Int32, (∀ a c s, R a = some (v, τr, c, s) → ∀ k n, k + c ≤ c0 ∧ n + s ≤ s0 → J γ (XW G o B a.2) k n 102 [(0, .ref o), (1, .int x1), (2, .int x2), (3, .int x3), (4, .int x4), (5, .ref x5), (6, .int x6), (7, .int x7), (8, .ref x8), (9, .int a.1)] []) → ∀ a c s, x0_stood_B102 F K143 x1 x2 x3 x4 x5 x6 x7 x8 R a = some (v, τr, c, s) → ∀ k n, k + c ≤ c0 ∧ n + s ≤ s0 → J γ (XW G o B a.2) k n 102 [(0, .ref o), (1, .int x1), (2, .int x2), (3, .int x3), (4, .int x4), (5, .ref x5), (6, .int x6), (7, .int x7), (8, .ref x8), (9, .int a.1)] [] := by
  intro R hR a c s hf k n hkn
  unfold x0_stood_B102 at hf
  refine j_iload (pc := 102) M.1 dX0_stood_102 9 rfl ?_
  refine j_if_le (pc := 104) M.1 143 dX0_stood_104 rfl (fun b1 => ?_) (fun b1 => ?_)
  · replace hf := o_pos b1 hf
    have hy := hK143 _ _ _ hf _ _ hkn
    exact hy
  · replace hf := o_neg b1 hf
    refine j_aload (pc := 107) M.1 dX0_stood_107 5 rfl ?_
    refine j_iload (pc := 109) M.1 dX0_stood_109 9 rfl ?_
    refine j_iconst (pc := 111) M.1 dX0_stood_111 kc_iconst_1 ?_
    refine j_isub (pc := 112) M.1 dX0_stood_112 ?_
    obtain ⟨A1, g2, hf⟩ := o_bind hf
    obtain ⟨b2, hf⟩ := o_need hf
    obtain ⟨n1, g1, hf⟩ := o_bind hf
    refine jx_paald (pc := 113) M xrt_11 g2 b2 g1 dX0_stood_113 ?_
    obtain ⟨v1, g3, hf⟩ := o_bind hf
    refine jx_getI (pc := 114) M xfl_X0_456 g3 dX0_stood_114 ?_
    refine j_aload (pc := 117) M.1 dX0_stood_117 8 rfl ?_
    obtain ⟨v2, g4, hf⟩ := o_bind hf
    refine jx_getI (pc := 119) M xfl_X0_456 g4 dX0_stood_119 ?_
    refine j_icmp_le (pc := 122) M.1 143 dX0_stood_122 rfl (fun b3 => ?_) (fun b3 => ?_)
    · replace hf := o_pos b3 hf
      have hy := hK143 _ _ _ hf _ _ hkn
      exact hy
    · replace hf := o_neg b3 hf
      refine j_aload (pc := 125) M.1 dX0_stood_125 5 rfl ?_
      refine j_iload (pc := 127) M.1 dX0_stood_127 9 rfl ?_
      refine j_aload (pc := 129) M.1 dX0_stood_129 5 rfl ?_
      refine j_iload (pc := 131) M.1 dX0_stood_131 9 rfl ?_
      refine j_iconst (pc := 133) M.1 dX0_stood_133 kc_iconst_1 ?_
      refine j_isub (pc := 134) M.1 dX0_stood_134 ?_
      obtain ⟨A2, g6, hf⟩ := o_bind hf
      obtain ⟨b4, hf⟩ := o_need hf
      obtain ⟨n2, g5, hf⟩ := o_bind hf
      refine jx_paald (pc := 135) M xrt_11 g6 b4 g5 dX0_stood_135 ?_
      obtain ⟨A3, g7, hf⟩ := o_bind hf
      obtain ⟨b5, hf⟩ := o_need hf
      obtain ⟨b6, hf⟩ := o_need hf
      obtain ⟨τ1, e1, hf⟩ := o_nx hf
      refine jx_paast (pc := 136) M xel_11 g7 b5 b6 dX0_stood_136 e1 ?_
      refine j_iinc (pc := 137) M.1 [(9, .int (a.1 + (-1))), (0, .ref o), (1, .int x1), (2, .int x2), (3, .int x3), (4, .int x4), (5, .ref x5), (6, .int x6), (7, .int x7), (8, .ref x8)] dX0_stood_137 9 rfl (congrArg _ kc_iconst_m1) rfl rfl ?_
      refine j_goto (pc := 140) M.1 102 dX0_stood_140 rfl ?_
      refine j_sub [1, 2, 3, 4, 5, 6, 7, 8, 9, 0] (show lv_pick _ _ = [(0, .ref o), (1, .int x1), (2, .int x2), (3, .int x3), (4, .int x4), (5, .ref x5), (6, .int x6), (7, .int x7), (8, .ref x8), (9, .int (a.1 + (-1)))] from rfl) ?_
      have hy := hR _ _ _ hf _ _ hkn
      exact hy
noncomputable def x0_stood_B51 (F : Nat) (K159 : Int32 × Int32 × XS → XR Int32) (x1 : Int32) (x2 : Int32) (x3 : Int32) (x4 : Int32) (x5 : Nat) (R : Int32 × Int32 × XS → XR Int32) (a : Int32 × Int32 × XS) : XR Int32 :=
  if (a.2.2.1.1 27) ≤ a.2.1 then (K159 (a.1, a.2.1, a.2.2)) else (if okI a.2.1 100 = true then (a.2.2.2.1 22 a.2.1.toNatClampNeg).bind (fun n1 => (gI a.2.2 n1 [23] 1).bind (fun v1 => if v1 = x1 then ((gI a.2.2 n1 [23] 5).bind (fun v2 => if v2 = 0 then ((gI a.2.2 n1 [23] 4).bind (fun v3 => if v3 ≤ x3 then (lp (x0_stood_B102 F (fun a1 => (gB a1.2 x5 11).bind (fun A1 => if isC a1.2 n1 [23] = true then if okI a1.1 A1.1 = true then nx (xP a1.2 x5 (.inl (11, A1.1, .inr (.inr (.inr (.inr (va_up A1.2 a1.1.toNatClampNeg (some n1)))))))) (fun τ1 => R (a.1 + 1, a.2.1 + 1, τ1)) else none else none)) x1 x2 x3 x4 x5 a.1 a.2.1 n1) F (a.1, a.2.2)) else (R (a.1, a.2.1 + 1, a.2.2)))) else (R (a.1, a.2.1 + 1, a.2.2)))) else (R (a.1, a.2.1 + 1, a.2.2)))) else none)
theorem kx0_stood_B51 (M : XC γ cX0_stood 11 RX0 "stood" G o B 3 (some .int) (xQi G o B v τr) c0 s0) (x1 : Int32) (x2 : Int32) (x3 : Int32) (x4 : Int32) (x5 : Nat) (K159 : Int32 × Int32 × XS → XR Int32) (hK159 : ∀ a c s, K159 a = some (v, τr, c, s) → ∀ k n, k + c ≤ c0 ∧ n + s ≤ s0 → J γ (XW G o B a.2.2) k n 159 [(2, .int x2), (4, .int x4), (5, .ref x5), (6, .int a.1)] []) : ∀ R : Int32 × Int32 × XS → XR Int32, (∀ a c s, R a = some (v, τr, c, s) → ∀ k n, k + c ≤ c0 ∧ n + s ≤ s0 → J γ (XW G o B a.2.2) k n 51 [(0, .ref o), (1, .int x1), (2, .int x2), (3, .int x3), (4, .int x4), (5, .ref x5), (6, .int a.1), (7, .int a.2.1)] []) → ∀ a c s, x0_stood_B51 F K159 x1 x2 x3 x4 x5 R a = some (v, τr, c, s) → ∀ k n, k + c ≤ c0 ∧ n + s ≤ s0 → J γ (XW G o B a.2.2) k n 51 [(0, .ref o), (1, .int x1), (2, .int x2), (3, .int x3), (4, .int x4), (5, .ref x5), (6, .int a.1), (7, .int a.2.1)] [] := by
  intro R hR a c s hf k n hkn
  unfold x0_stood_B51 at hf
  refine j_iload (pc := 51) M.1 dX0_stood_51 7 rfl ?_
  refine j_aload_n (pc := 53) M.1 dX0_stood_53 0 rfl ?_
  refine jx_getS (pc := 54) M xfs_436 dX0_stood_54 ?_
  refine j_icmp_ge (pc := 57) M.1 159 dX0_stood_57 rfl (fun b1 => ?_) (fun b1 => ?_)
  · replace hf := o_pos b1 hf
    refine j_sub [2, 4, 5, 6] (show lv_pick _ _ = [(2, .int x2), (4, .int x4), (5, .ref x5), (6, .int a.1)] from rfl) ?_
    have hy := hK159 _ _ _ hf _ _ hkn
    exact hy
  · replace hf := o_neg b1 hf
    refine j_aload_n (pc := 60) M.1 dX0_stood_60 0 rfl ?_
    refine jx_getA (pc := 61) M xfa_91 dX0_stood_61 ?_
    refine j_iload (pc := 64) M.1 dX0_stood_64 7 rfl ?_
    obtain ⟨b2, hf⟩ := o_need hf
    obtain ⟨n1, g1, hf⟩ := o_bind hf
    refine jx_aald (pc := 66) M xax_22 (by decide) xrt_11 b2 g1 dX0_stood_66 ?_
    refine j_astore (pc := 67) M.1 [(8, .ref n1), (0, .ref o), (1, .int x1), (2, .int x2), (3, .int x3), (4, .int x4), (5, .ref x5), (6, .int a.1), (7, .int a.2.1)] dX0_stood_67 rfl rfl ?_
    refine j_aload (pc := 69) M.1 dX0_stood_69 0 rfl ?_
    obtain ⟨v1, g2, hf⟩ := o_bind hf
    refine jx_getI (pc := 71) M xfl_X0_446 g2 dX0_stood_71 ?_
    refine j_iload_n (pc := 74) M.1 dX0_stood_74 2 rfl ?_
    refine j_icmp_ne (pc := 75) M.1 153 dX0_stood_75 rfl (fun b3 => ?_) (fun b3 => ?_)
    · replace hf := o_neg b3 hf
      refine j_iinc (pc := 153) M.1 [(7, .int (a.2.1 + 1)), (8, .ref n1), (0, .ref o), (1, .int x1), (2, .int x2), (3, .int x3), (4, .int x4), (5, .ref x5), (6, .int a.1)] dX0_stood_153 8 rfl (congrArg _ kc_iconst_1) rfl rfl ?_
      refine j_goto (pc := 156) M.1 51 dX0_stood_156 rfl ?_
      refine j_sub [2, 3, 4, 5, 6, 7, 8, 0] (show lv_pick _ _ = [(0, .ref o), (1, .int x1), (2, .int x2), (3, .int x3), (4, .int x4), (5, .ref x5), (6, .int a.1), (7, .int (a.2.1 + 1))] from rfl) ?_
      have hy := hR _ _ _ hf _ _ hkn
      exact hy
    · replace hf := o_pos b3 hf
      refine j_aload (pc := 78) M.1 dX0_stood_78 0 rfl ?_
      obtain ⟨v2, g3, hf⟩ := o_bind hf
      refine jx_getI (pc := 80) M xfl_X0_452 g3 dX0_stood_80 ?_
      refine j_if_ne (pc := 83) M.1 153 dX0_stood_83 rfl (fun b4 => ?_) (fun b4 => ?_)
      · replace hf := o_neg b4 hf
        refine j_iinc (pc := 153) M.1 [(7, .int (a.2.1 + 1)), (8, .ref n1), (0, .ref o), (1, .int x1), (2, .int x2), (3, .int x3), (4, .int x4), (5, .ref x5), (6, .int a.1)] dX0_stood_153 8 rfl (congrArg _ kc_iconst_1) rfl rfl ?_
        refine j_goto (pc := 156) M.1 51 dX0_stood_156 rfl ?_
        refine j_sub [2, 3, 4, 5, 6, 7, 8, 0] (show lv_pick _ _ = [(0, .ref o), (1, .int x1), (2, .int x2), (3, .int x3), (4, .int x4), (5, .ref x5), (6, .int a.1), (7, .int (a.2.1 + 1))] from rfl) ?_
        have hy := hR _ _ _ hf _ _ hkn
        exact hy
      · replace hf := o_pos b4 hf
        refine j_aload (pc := 86) M.1 dX0_stood_86 0 rfl ?_
        obtain ⟨v3, g4, hf⟩ := o_bind hf
        refine jx_getI (pc := 88) M xfl_X0_455 g4 dX0_stood_88 ?_
        refine j_iload_n (pc := 91) M.1 dX0_stood_91 4 rfl ?_
        refine j_icmp_le (pc := 92) M.1 98 dX0_stood_92 rfl (fun b5 => ?_) (fun b5 => ?_)
        · replace hf := o_pos b5 hf
          refine j_iload (pc := 98) M.1 dX0_stood_98 7 rfl ?_
          refine j_istore (pc := 100) M.1 [(9, .int a.1), (8, .ref n1), (0, .ref o), (1, .int x1), (2, .int x2), (3, .int x3), (4, .int x4), (5, .ref x5), (6, .int a.1), (7, .int a.2.1)] dX0_stood_100 rfl rfl ?_
          refine j_sub [2, 3, 4, 5, 6, 7, 8, 9, 1, 0] (show lv_pick _ _ = [(0, .ref o), (1, .int x1), (2, .int x2), (3, .int x3), (4, .int x4), (5, .ref x5), (6, .int a.1), (7, .int a.2.1), (8, .ref n1), (9, .int a.1)] from rfl) ?_
          refine lp_Wc (kx0_stood_B102 M x1 x2 x3 x4 x5 a.1 a.2.1 n1 _ ?_) F (a.1, a.2.2) _ _ hf _ _ hkn
          · intro a1 c s hf k n hkn
            refine j_aload (pc := 143) M.1 dX0_stood_143 5 rfl ?_
            refine j_iload (pc := 145) M.1 dX0_stood_145 9 rfl ?_
            refine j_aload (pc := 147) M.1 dX0_stood_147 8 rfl ?_
            obtain ⟨A1, g5, hf⟩ := o_bind hf
            obtain ⟨b6, hf⟩ := o_need hf
            obtain ⟨b7, hf⟩ := o_need hf
            obtain ⟨τ1, e1, hf⟩ := o_nx hf
            refine jx_paast (pc := 149) M xel_11 g5 b6 b7 dX0_stood_149 e1 ?_
            refine j_iinc (pc := 150) M.1 [(6, .int (a.1 + 1)), (0, .ref o), (1, .int x1), (2, .int x2), (3, .int x3), (4, .int x4), (5, .ref x5), (7, .int a.2.1), (8, .ref n1), (9, .int a1.1)] dX0_stood_150 6 rfl (congrArg _ kc_iconst_1) rfl rfl ?_
            refine j_iinc (pc := 153) M.1 [(7, .int (a.2.1 + 1)), (6, .int (a.1 + 1)), (0, .ref o), (1, .int x1), (2, .int x2), (3, .int x3), (4, .int x4), (5, .ref x5), (8, .ref n1), (9, .int a1.1)] dX0_stood_153 7 rfl (congrArg _ kc_iconst_1) rfl rfl ?_
            refine j_goto (pc := 156) M.1 51 dX0_stood_156 rfl ?_
            refine j_sub [2, 3, 4, 5, 6, 7, 1, 0] (show lv_pick _ _ = [(0, .ref o), (1, .int x1), (2, .int x2), (3, .int x3), (4, .int x4), (5, .ref x5), (6, .int (a.1 + 1)), (7, .int (a.2.1 + 1))] from rfl) ?_
            have hy := hR _ _ _ hf _ _ hkn
            exact hy
        · replace hf := o_neg b5 hf
          refine j_goto (pc := 95) M.1 153 dX0_stood_95 rfl ?_
          refine j_iinc (pc := 153) M.1 [(7, .int (a.2.1 + 1)), (8, .ref n1), (0, .ref o), (1, .int x1), (2, .int x2), (3, .int x3), (4, .int x4), (5, .ref x5), (6, .int a.1)] dX0_stood_153 8 rfl (congrArg _ kc_iconst_1) rfl rfl ?_
          refine j_goto (pc := 156) M.1 51 dX0_stood_156 rfl ?_
          refine j_sub [2, 3, 4, 5, 6, 7, 8, 0] (show lv_pick _ _ = [(0, .ref o), (1, .int x1), (2, .int x2), (3, .int x3), (4, .int x4), (5, .ref x5), (6, .int a.1), (7, .int (a.2.1 + 1))] from rfl) ?_
          have hy := hR _ _ _ hf _ _ hkn
          exact hy
noncomputable def x0_stood_B162 (F : Nat) (K187 : Int32 × XS → XR Int32) (x2 : Int32) (x4 : Int32) (x5 : Nat) (x6 : Int32) (R : Int32 × XS → XR Int32) (a : Int32 × XS) : XR Int32 :=
  if x6 ≤ a.1 then (K187 (a.1, a.2)) else ((gB a.2 x5 11).bind (fun A1 => if okI a.1 A1.1 = true then (A1.2 a.1.toNatClampNeg).bind (fun n1 => if isC a.2 n1 [23] = true then (x23_shows F n1 x2 a.2).bind (fun r1 => tk r1.2.2.1 r1.2.2.2 (if r1.1 = 0 then (R (a.1 + 1, r1.2.1)) else (K187 (a.1, r1.2.1)))) else none) else none))
theorem kx0_stood_B162 (M : XC γ cX0_stood 11 RX0 "stood" G o B 3 (some .int) (xQi G o B v τr) c0 s0) (x2 : Int32) (x4 : Int32) (x5 : Nat) (x6 : Int32) (K187 : Int32 × XS → XR Int32) (hK187 : ∀ a c s, K187 a = some (v, τr, c, s) → ∀ k n, k + c ≤ c0 ∧ n + s ≤ s0 → J γ (XW G o B a.2) k n 187 [(2, .int x2), (4, .int x4), (5, .ref x5), (6, .int x6), (7, .int a.1)] []) : ∀ R : Int32 × XS → XR Int32, (∀ a c s, R a = some (v, τr, c, s) → ∀ k n, k + c ≤ c0 ∧ n + s ≤ s0 → J γ (XW G o B a.2) k n 162 [(2, .int x2), (4, .int x4), (5, .ref x5), (6, .int x6), (7, .int a.1)] []) → ∀ a c s, x0_stood_B162 F K187 x2 x4 x5 x6 R a = some (v, τr, c, s) → ∀ k n, k + c ≤ c0 ∧ n + s ≤ s0 → J γ (XW G o B a.2) k n 162 [(2, .int x2), (4, .int x4), (5, .ref x5), (6, .int x6), (7, .int a.1)] [] := by
  intro R hR a c s hf k n hkn
  unfold x0_stood_B162 at hf
  refine j_iload (pc := 162) M.1 dX0_stood_162 4 rfl ?_
  refine j_iload (pc := 164) M.1 dX0_stood_164 3 rfl ?_
  refine j_icmp_ge (pc := 166) M.1 187 dX0_stood_166 rfl (fun b1 => ?_) (fun b1 => ?_)
  · replace hf := o_pos b1 hf
    have hy := hK187 _ _ _ hf _ _ hkn
    exact hy
  · replace hf := o_neg b1 hf
    refine j_aload (pc := 169) M.1 dX0_stood_169 2 rfl ?_
    refine j_iload (pc := 171) M.1 dX0_stood_171 4 rfl ?_
    obtain ⟨A1, g2, hf⟩ := o_bind hf
    obtain ⟨b2, hf⟩ := o_need hf
    obtain ⟨n1, g1, hf⟩ := o_bind hf
    refine jx_paald (pc := 173) M xrt_11 g2 b2 g1 dX0_stood_173 ?_
    refine j_iload_n (pc := 174) M.1 dX0_stood_174 0 rfl ?_
    obtain ⟨b3, hf⟩ := o_need hf
    obtain ⟨r1, g3, hf⟩ := o_bind hf
    obtain ⟨c1, s1, hf, hc1, hs1⟩ := o_tk hf
    replace hkn := kn_step hkn hc1 hs1
    refine jx_i M (x_runW (pc := 175) (As := [.int x2]) (rest := []) M xcw_X0_457 (met_x23_shows g3) b3 (by decide) rfl rfl rfl dX0_stood_175 (kn_le hkn)) ?_
    refine j_if_ne (pc := 178) M.1 187 dX0_stood_178 rfl (fun b4 => ?_) (fun b4 => ?_)
    · replace hf := o_neg b4 hf
      have hy := hK187 _ _ _ hf _ _ hkn
      exact hy
    · replace hf := o_pos b4 hf
      refine j_iinc (pc := 181) M.1 [(7, .int (a.1 + 1)), (2, .int x2), (4, .int x4), (5, .ref x5), (6, .int x6)] dX0_stood_181 4 rfl (congrArg _ kc_iconst_1) rfl rfl ?_
      refine j_goto (pc := 184) M.1 162 dX0_stood_184 rfl ?_
      refine j_sub [1, 2, 3, 4, 0] (show lv_pick _ _ = [(2, .int x2), (4, .int x4), (5, .ref x5), (6, .int x6), (7, .int (a.1 + 1))] from rfl) ?_
      have hy := hR _ _ _ hf _ _ hkn
      exact hy
noncomputable def x0_stood_B202 (F : Nat) (K220 : Int32 × XS → XR Int32) (x2 : Int32) (x4 : Int32) (x5 : Nat) (x6 : Int32) (x7 : Int32) (R : Int32 × XS → XR Int32) (a : Int32 × XS) : XR Int32 :=
  (gB a.2 x5 11).bind (fun A1 => if okI a.1 A1.1 = true then (A1.2 a.1.toNatClampNeg).bind (fun n1 => if isC a.2 n1 [23] = true then (x23_shows F n1 x2 a.2).bind (fun r1 => tk r1.2.2.1 r1.2.2.2 (if r1.1 = 0 then (R (a.1 + (-1), r1.2.1)) else (K220 (a.1, r1.2.1)))) else none) else none)
theorem kx0_stood_B202 (M : XC γ cX0_stood 11 RX0 "stood" G o B 3 (some .int) (xQi G o B v τr) c0 s0) (x2 : Int32) (x4 : Int32) (x5 : Nat) (x6 : Int32) (x7 : Int32) (K220 : Int32 × XS → XR Int32) (hK220 : ∀ a c s, K220 a = some (v, τr, c, s) → ∀ k n, k + c ≤ c0 ∧ n + s ≤ s0 → J γ (XW G o B a.2) k n 220 [(2, .int x2), (4, .int x4), (5, .ref x5), (6, .int x6), (7, .int x7), (8, .int a.1)] []) : ∀ R : Int32 × XS → XR Int32, (∀ a c s, R a = some (v, τr, c, s) → ∀ k n, k + c ≤ c0 ∧ n + s ≤ s0 → J γ (XW G o B a.2) k n 202 [(2, .int x2), (4, .int x4), (5, .ref x5), (6, .int x6), (7, .int x7), (8, .int a.1)] []) → ∀ a c s, x0_stood_B202 F K220 x2 x4 x5 x6 x7 R a = some (v, τr, c, s) → ∀ k n, k + c ≤ c0 ∧ n + s ≤ s0 → J γ (XW G o B a.2) k n 202 [(2, .int x2), (4, .int x4), (5, .ref x5), (6, .int x6), (7, .int x7), (8, .int a.1)] [] := by
  intro R hR a c s hf k n hkn
  unfold x0_stood_B202 at hf
  refine j_aload (pc := 202) M.1 dX0_stood_202 2 rfl ?_
  refine j_iload (pc := 204) M.1 dX0_stood_204 5 rfl ?_
  obtain ⟨A1, g2, hf⟩ := o_bind hf
  obtain ⟨b1, hf⟩ := o_need hf
  obtain ⟨n1, g1, hf⟩ := o_bind hf
  refine jx_paald (pc := 206) M xrt_11 g2 b1 g1 dX0_stood_206 ?_
  refine j_iload_n (pc := 207) M.1 dX0_stood_207 0 rfl ?_
  obtain ⟨b2, hf⟩ := o_need hf
  obtain ⟨r1, g3, hf⟩ := o_bind hf
  obtain ⟨c1, s1, hf, hc1, hs1⟩ := o_tk hf
  replace hkn := kn_step hkn hc1 hs1
  refine jx_i M (x_runW (pc := 208) (As := [.int x2]) (rest := []) M xcw_X0_457 (met_x23_shows g3) b2 (by decide) rfl rfl rfl dX0_stood_208 (kn_le hkn)) ?_
  refine j_if_ne (pc := 211) M.1 220 dX0_stood_211 rfl (fun b3 => ?_) (fun b3 => ?_)
  · replace hf := o_neg b3 hf
    have hy := hK220 _ _ _ hf _ _ hkn
    exact hy
  · replace hf := o_pos b3 hf
    refine j_iinc (pc := 214) M.1 [(8, .int (a.1 + (-1))), (2, .int x2), (4, .int x4), (5, .ref x5), (6, .int x6), (7, .int x7)] dX0_stood_214 5 rfl (congrArg _ kc_iconst_m1) rfl rfl ?_
    refine j_goto (pc := 217) M.1 202 dX0_stood_217 rfl ?_
    refine j_sub [1, 2, 3, 4, 5, 0] (show lv_pick _ _ = [(2, .int x2), (4, .int x4), (5, .ref x5), (6, .int x6), (7, .int x7), (8, .int (a.1 + (-1)))] from rfl) ?_
    have hy := hR _ _ _ hf _ _ hkn
    exact hy
noncomputable def x0_stood_B268 (F : Nat) (K293 : Int32 × XS → XR Int32) (x2 : Int32) (x4 : Int32) (x5 : Nat) (x8 : Int32) (R : Int32 × XS → XR Int32) (a : Int32 × XS) : XR Int32 :=
  if x8 ≤ a.1 then (K293 (a.1, a.2)) else ((gB a.2 x5 11).bind (fun A1 => if okI a.1 A1.1 = true then (A1.2 a.1.toNatClampNeg).bind (fun n1 => if isC a.2 n1 [23] = true then (x23_shows F n1 x2 a.2).bind (fun r1 => tk r1.2.2.1 r1.2.2.2 (if r1.1 = 0 then (K293 (a.1, r1.2.1)) else (R (a.1 + 1, r1.2.1)))) else none) else none))
theorem kx0_stood_B268 (M : XC γ cX0_stood 11 RX0 "stood" G o B 3 (some .int) (xQi G o B v τr) c0 s0) (x2 : Int32) (x4 : Int32) (x5 : Nat) (x8 : Int32) (K293 : Int32 × XS → XR Int32) (hK293 : ∀ a c s, K293 a = some (v, τr, c, s) → ∀ k n, k + c ≤ c0 ∧ n + s ≤ s0 → J γ (XW G o B a.2) k n 293 [(2, .int x2), (4, .int x4), (5, .ref x5), (8, .int x8), (9, .int a.1)] []) : ∀ R : Int32 × XS → XR Int32, (∀ a c s, R a = some (v, τr, c, s) → ∀ k n, k + c ≤ c0 ∧ n + s ≤ s0 → J γ (XW G o B a.2) k n 268 [(2, .int x2), (4, .int x4), (5, .ref x5), (8, .int x8), (9, .int a.1)] []) → ∀ a c s, x0_stood_B268 F K293 x2 x4 x5 x8 R a = some (v, τr, c, s) → ∀ k n, k + c ≤ c0 ∧ n + s ≤ s0 → J γ (XW G o B a.2) k n 268 [(2, .int x2), (4, .int x4), (5, .ref x5), (8, .int x8), (9, .int a.1)] [] := by
  intro R hR a c s hf k n hkn
  unfold x0_stood_B268 at hf
  refine j_iload (pc := 268) M.1 dX0_stood_268 4 rfl ?_
  refine j_iload (pc := 270) M.1 dX0_stood_270 3 rfl ?_
  refine j_icmp_ge (pc := 272) M.1 293 dX0_stood_272 rfl (fun b1 => ?_) (fun b1 => ?_)
  · replace hf := o_pos b1 hf
    have hy := hK293 _ _ _ hf _ _ hkn
    exact hy
  · replace hf := o_neg b1 hf
    refine j_aload (pc := 275) M.1 dX0_stood_275 2 rfl ?_
    refine j_iload (pc := 277) M.1 dX0_stood_277 4 rfl ?_
    obtain ⟨A1, g2, hf⟩ := o_bind hf
    obtain ⟨b2, hf⟩ := o_need hf
    obtain ⟨n1, g1, hf⟩ := o_bind hf
    refine jx_paald (pc := 279) M xrt_11 g2 b2 g1 dX0_stood_279 ?_
    refine j_iload_n (pc := 280) M.1 dX0_stood_280 0 rfl ?_
    obtain ⟨b3, hf⟩ := o_need hf
    obtain ⟨r1, g3, hf⟩ := o_bind hf
    obtain ⟨c1, s1, hf, hc1, hs1⟩ := o_tk hf
    replace hkn := kn_step hkn hc1 hs1
    refine jx_i M (x_runW (pc := 281) (As := [.int x2]) (rest := []) M xcw_X0_457 (met_x23_shows g3) b3 (by decide) rfl rfl rfl dX0_stood_281 (kn_le hkn)) ?_
    refine j_if_eq (pc := 284) M.1 293 dX0_stood_284 rfl (fun b4 => ?_) (fun b4 => ?_)
    · replace hf := o_pos b4 hf
      have hy := hK293 _ _ _ hf _ _ hkn
      exact hy
    · replace hf := o_neg b4 hf
      refine j_iinc (pc := 287) M.1 [(9, .int (a.1 + 1)), (2, .int x2), (4, .int x4), (5, .ref x5), (8, .int x8)] dX0_stood_287 4 rfl (congrArg _ kc_iconst_1) rfl rfl ?_
      refine j_goto (pc := 290) M.1 268 dX0_stood_290 rfl ?_
      refine j_sub [1, 2, 3, 4, 0] (show lv_pick _ _ = [(2, .int x2), (4, .int x4), (5, .ref x5), (8, .int x8), (9, .int (a.1 + 1))] from rfl) ?_
      have hy := hR _ _ _ hf _ _ hkn
      exact hy
noncomputable def x0_stood_B321 (F : Nat) (x2 : Int32) (x5 : Nat) (R : Int32 × XS → XR Int32) (a : Int32 × XS) : XR Int32 :=
  (gB a.2 x5 11).bind (fun A1 => if okI a.1 A1.1 = true then (A1.2 a.1.toNatClampNeg).bind (fun n1 => if isC a.2 n1 [23] = true then (x23_shows F n1 x2 a.2).bind (fun r1 => tk r1.2.2.1 r1.2.2.2 (if r1.1 = 0 then (R (a.1 + 1, r1.2.1)) else ((gB r1.2.1 x5 11).bind (fun A2 => if okI a.1 A2.1 = true then (A2.2 a.1.toNatClampNeg).bind (fun n2 => (gI r1.2.1 n2 [23] 0).bind (fun v1 => some (v1, r1.2.1, 0, 0))) else none)))) else none) else none)
theorem kx0_stood_B321 (M : XC γ cX0_stood 11 RX0 "stood" G o B 3 (some .int) (xQi G o B v τr) c0 s0) (x2 : Int32) (x5 : Nat) : ∀ R : Int32 × XS → XR Int32, (∀ a c s, R a = some (v, τr, c, s) → ∀ k n, k + c ≤ c0 ∧ n + s ≤ s0 → J γ (XW G o B a.2) k n 321 [(2, .int x2), (5, .ref x5), (10, .int a.1)] []) → ∀ a c s, x0_stood_B321 F x2 x5 R a = some (v, τr, c, s) → ∀ k n, k + c ≤ c0 ∧ n + s ≤ s0 → J γ (XW G o B a.2) k n 321 [(2, .int x2), (5, .ref x5), (10, .int a.1)] [] := by
  intro R hR a c s hf k n hkn
  unfold x0_stood_B321 at hf
  refine j_aload (pc := 321) M.1 dX0_stood_321 1 rfl ?_
  refine j_iload (pc := 323) M.1 dX0_stood_323 2 rfl ?_
  obtain ⟨A1, g2, hf⟩ := o_bind hf
  obtain ⟨b1, hf⟩ := o_need hf
  obtain ⟨n1, g1, hf⟩ := o_bind hf
  refine jx_paald (pc := 325) M xrt_11 g2 b1 g1 dX0_stood_325 ?_
  refine j_iload_n (pc := 326) M.1 dX0_stood_326 0 rfl ?_
  obtain ⟨b2, hf⟩ := o_need hf
  obtain ⟨r1, g3, hf⟩ := o_bind hf
  obtain ⟨c1, s1, hf, hc1, hs1⟩ := o_tk hf
  replace hkn := kn_step hkn hc1 hs1
  refine jx_i M (x_runW (pc := 327) (As := [.int x2]) (rest := []) M xcw_X0_457 (met_x23_shows g3) b2 (by decide) rfl rfl rfl dX0_stood_327 (kn_le hkn)) ?_
  refine j_if_ne (pc := 330) M.1 339 dX0_stood_330 rfl (fun b3 => ?_) (fun b3 => ?_)
  · replace hf := o_neg b3 hf
    refine j_aload (pc := 339) M.1 dX0_stood_339 1 rfl ?_
    refine j_iload (pc := 341) M.1 dX0_stood_341 2 rfl ?_
    obtain ⟨A2, g5, hf⟩ := o_bind hf
    obtain ⟨b4, hf⟩ := o_need hf
    obtain ⟨n2, g4, hf⟩ := o_bind hf
    refine jx_paald (pc := 343) M xrt_11 g5 b4 g4 dX0_stood_343 ?_
    obtain ⟨v1, g6, hf⟩ := o_bind hf
    refine jx_getI (pc := 344) M xfl_X0_460 g6 dX0_stood_344 ?_
    exact jx_iretF (pc := 347) M dX0_stood_347 hf hkn
  · replace hf := o_pos b3 hf
    refine j_iinc (pc := 333) M.1 [(10, .int (a.1 + 1)), (2, .int x2), (5, .ref x5)] dX0_stood_333 2 rfl (congrArg _ kc_iconst_1) rfl rfl ?_
    refine j_goto (pc := 336) M.1 321 dX0_stood_336 rfl ?_
    refine j_sub [1, 2, 0] (show lv_pick _ _ = [(2, .int x2), (5, .ref x5), (10, .int (a.1 + 1))] from rfl) ?_
    have hy := hR _ _ _ hf _ _ hkn
    exact hy
noncomputable def x0_stood_293 (F : Nat) (x2 : Int32) (x4 : Int32) (x5 : Nat) (x8 : Int32) (x9 : Int32) (τ : XS) : XR Int32 :=
  if x9 < x8 then (if x4 = 2 then ((gB τ x5 11).bind (fun A1 => if okI x9 A1.1 = true then (A1.2 x9.toNatClampNeg).bind (fun n1 => (gI τ n1 [23] 0).bind (fun v1 => some (v1, τ, 0, 0))) else none)) else (lp (x0_stood_B321 F x2 x5) F (x9, τ))) else (some ((-1), τ, 0, 0))
theorem kx0_stood_293 (M : XC γ cX0_stood 11 RX0 "stood" G o B 3 (some .int) (xQi G o B v τr) c0 s0) (x2 : Int32) (x4 : Int32) (x5 : Nat) (x8 : Int32) (x9 : Int32) (τ : XS) {c s k n : Nat} (hf : x0_stood_293 F x2 x4 x5 x8 x9 τ = some (v, τr, c, s)) (hkn : k + c ≤ c0 ∧ n + s ≤ s0) : J γ (XW G o B τ) k n 293 [(2, .int x2), (4, .int x4), (5, .ref x5), (8, .int x8), (9, .int x9)] [] := by
  unfold x0_stood_293 at hf
  refine j_iload (pc := 293) M.1 dX0_stood_293 4 rfl ?_
  refine j_iload (pc := 295) M.1 dX0_stood_295 3 rfl ?_
  refine j_icmp_lt (pc := 297) M.1 302 dX0_stood_297 rfl (fun b1 => ?_) (fun b1 => ?_)
  · replace hf := o_pos b1 hf
    refine j_iload (pc := 302) M.1 dX0_stood_302 1 rfl ?_
    refine j_iconst (pc := 304) M.1 dX0_stood_304 kc_iconst_2 ?_
    refine j_icmp_ne (pc := 305) M.1 317 dX0_stood_305 rfl (fun b2 => ?_) (fun b2 => ?_)
    · replace hf := o_neg b2 hf
      refine j_iload (pc := 317) M.1 dX0_stood_317 4 rfl ?_
      refine j_istore (pc := 319) M.1 [(10, .int x9), (2, .int x2), (4, .int x4), (5, .ref x5), (8, .int x8), (9, .int x9)] dX0_stood_319 rfl rfl ?_
      refine j_sub [1, 3, 0] (show lv_pick _ _ = [(2, .int x2), (5, .ref x5), (10, .int x9)] from rfl) ?_
      refine lp_Wc (kx0_stood_B321 M x2 x5) F (x9, τ) _ _ hf _ _ hkn
    · replace hf := o_pos b2 hf
      refine j_aload (pc := 308) M.1 dX0_stood_308 2 rfl ?_
      refine j_iload (pc := 310) M.1 dX0_stood_310 4 rfl ?_
      obtain ⟨A1, g2, hf⟩ := o_bind hf
      obtain ⟨b3, hf⟩ := o_need hf
      obtain ⟨n1, g1, hf⟩ := o_bind hf
      refine jx_paald (pc := 312) M xrt_11 g2 b3 g1 dX0_stood_312 ?_
      obtain ⟨v1, g3, hf⟩ := o_bind hf
      refine jx_getI (pc := 313) M xfl_X0_460 g3 dX0_stood_313 ?_
      exact jx_iretF (pc := 316) M dX0_stood_316 hf hkn
  · replace hf := o_neg b1 hf
    refine j_iconst (pc := 300) M.1 dX0_stood_300 kc_iconst_m1 ?_
    exact jx_iretF (pc := 301) M dX0_stood_301 hf hkn
noncomputable def x0_stood_187 (F : Nat) (x2 : Int32) (x4 : Int32) (x5 : Nat) (x6 : Int32) (x7 : Int32) (τ : XS) : XR Int32 :=
  if x7 = x6 then (some ((-1), τ, 0, 0)) else (lp (x0_stood_B202 F (fun a1 => if x4 = 0 then ((gB a1.2 x5 11).bind (fun A2 => if okI a1.1 A2.1 = true then (A2.2 a1.1.toNatClampNeg).bind (fun n2 => (gI a1.2 n2 [23] 2).bind (fun v2 => some (v2, a1.2, 0, 0))) else none)) else (if x4 = 1 then (if x6 ≤ (a1.1 + 1) then (some ((-1), a1.2, 0, 0)) else ((gB a1.2 x5 11).bind (fun A1 => if okI (a1.1 + 1) A1.1 = true then (A1.2 (a1.1 + 1).toNatClampNeg).bind (fun n1 => (gI a1.2 n1 [23] 2).bind (fun v1 => some (v1, a1.2, 0, 0))) else none))) else (lp (x0_stood_B268 F (fun a2 => x0_stood_293 F x2 x4 x5 a1.1 a2.1 a2.2) x2 x4 x5 a1.1) F (x7, a1.2)))) x2 x4 x5 x6 x7) F (x6 - 1, τ))
theorem kx0_stood_187 (M : XC γ cX0_stood 11 RX0 "stood" G o B 3 (some .int) (xQi G o B v τr) c0 s0) (x2 : Int32) (x4 : Int32) (x5 : Nat) (x6 : Int32) (x7 : Int32) (τ : XS) {c s k n : Nat} (hf : x0_stood_187 F x2 x4 x5 x6 x7 τ = some (v, τr, c, s)) (hkn : k + c ≤ c0 ∧ n + s ≤ s0) : J γ (XW G o B τ) k n 187 [(2, .int x2), (4, .int x4), (5, .ref x5), (6, .int x6), (7, .int x7)] [] := by
  unfold x0_stood_187 at hf
  refine j_iload (pc := 187) M.1 dX0_stood_187 4 rfl ?_
  refine j_iload (pc := 189) M.1 dX0_stood_189 3 rfl ?_
  refine j_icmp_ne (pc := 191) M.1 196 dX0_stood_191 rfl (fun b1 => ?_) (fun b1 => ?_)
  · replace hf := o_neg b1 hf
    refine j_iload (pc := 196) M.1 dX0_stood_196 3 rfl ?_
    refine j_iconst (pc := 198) M.1 dX0_stood_198 kc_iconst_1 ?_
    refine j_isub (pc := 199) M.1 dX0_stood_199 ?_
    refine j_istore (pc := 200) M.1 [(8, .int (x6 - 1)), (2, .int x2), (4, .int x4), (5, .ref x5), (6, .int x6), (7, .int x7)] dX0_stood_200 rfl rfl ?_
    refine j_sub [1, 2, 3, 4, 5, 0] (show lv_pick _ _ = [(2, .int x2), (4, .int x4), (5, .ref x5), (6, .int x6), (7, .int x7), (8, .int (x6 - 1))] from rfl) ?_
    refine lp_Wc (kx0_stood_B202 M x2 x4 x5 x6 x7 _ ?_) F (x6 - 1, τ) _ _ hf _ _ hkn
    · intro a1 c s hf k n hkn
      refine j_iload (pc := 220) M.1 dX0_stood_220 1 rfl ?_
      refine j_if_ne (pc := 222) M.1 234 dX0_stood_222 rfl (fun b2 => ?_) (fun b2 => ?_)
      · replace hf := o_neg b2 hf
        refine j_iload (pc := 234) M.1 dX0_stood_234 1 rfl ?_
        refine j_iconst (pc := 236) M.1 dX0_stood_236 kc_iconst_1 ?_
        refine j_icmp_ne (pc := 237) M.1 264 dX0_stood_237 rfl (fun b3 => ?_) (fun b3 => ?_)
        · replace hf := o_neg b3 hf
          refine j_iload (pc := 264) M.1 dX0_stood_264 4 rfl ?_
          refine j_istore (pc := 266) M.1 [(9, .int x7), (2, .int x2), (4, .int x4), (5, .ref x5), (6, .int x6), (7, .int x7), (8, .int a1.1)] dX0_stood_266 rfl rfl ?_
          refine j_sub [1, 2, 3, 6, 0] (show lv_pick _ _ = [(2, .int x2), (4, .int x4), (5, .ref x5), (8, .int a1.1), (9, .int x7)] from rfl) ?_
          refine lp_Wc (kx0_stood_B268 M x2 x4 x5 a1.1 _ ?_) F (x7, a1.2) _ _ hf _ _ hkn
          · intro a2 c s hf k n hkn
            exact kx0_stood_293 M x2 x4 x5 a1.1 a2.1 a2.2 hf hkn
        · replace hf := o_pos b3 hf
          refine j_iload (pc := 240) M.1 dX0_stood_240 5 rfl ?_
          refine j_iconst (pc := 242) M.1 dX0_stood_242 kc_iconst_1 ?_
          refine j_iadd (pc := 243) M.1 dX0_stood_243 ?_
          refine j_iload (pc := 244) M.1 dX0_stood_244 3 rfl ?_
          refine j_icmp_ge (pc := 246) M.1 262 dX0_stood_246 rfl (fun b4 => ?_) (fun b4 => ?_)
          · replace hf := o_pos b4 hf
            refine j_iconst (pc := 262) M.1 dX0_stood_262 kc_iconst_m1 ?_
            exact jx_iretF (pc := 263) M dX0_stood_263 hf hkn
          · replace hf := o_neg b4 hf
            refine j_aload (pc := 249) M.1 dX0_stood_249 2 rfl ?_
            refine j_iload (pc := 251) M.1 dX0_stood_251 5 rfl ?_
            refine j_iconst (pc := 253) M.1 dX0_stood_253 kc_iconst_1 ?_
            refine j_iadd (pc := 254) M.1 dX0_stood_254 ?_
            obtain ⟨A1, g2, hf⟩ := o_bind hf
            obtain ⟨b5, hf⟩ := o_need hf
            obtain ⟨n1, g1, hf⟩ := o_bind hf
            refine jx_paald (pc := 255) M xrt_11 g2 b5 g1 dX0_stood_255 ?_
            obtain ⟨v1, g3, hf⟩ := o_bind hf
            refine jx_getI (pc := 256) M xfl_X0_456 g3 dX0_stood_256 ?_
            refine j_goto (pc := 259) M.1 263 dX0_stood_259 rfl ?_
            exact jx_iretF (pc := 263) M dX0_stood_263 hf hkn
      · replace hf := o_pos b2 hf
        refine j_aload (pc := 225) M.1 dX0_stood_225 2 rfl ?_
        refine j_iload (pc := 227) M.1 dX0_stood_227 5 rfl ?_
        obtain ⟨A2, g5, hf⟩ := o_bind hf
        obtain ⟨b6, hf⟩ := o_need hf
        obtain ⟨n2, g4, hf⟩ := o_bind hf
        refine jx_paald (pc := 229) M xrt_11 g5 b6 g4 dX0_stood_229 ?_
        obtain ⟨v2, g6, hf⟩ := o_bind hf
        refine jx_getI (pc := 230) M xfl_X0_456 g6 dX0_stood_230 ?_
        exact jx_iretF (pc := 233) M dX0_stood_233 hf hkn
  · replace hf := o_pos b1 hf
    refine j_iconst (pc := 194) M.1 dX0_stood_194 kc_iconst_m1 ?_
    exact jx_iretF (pc := 195) M dX0_stood_195 hf hkn
noncomputable def x0_stood (F : Nat) (x1 : Int32) (x2 : Int32) (x3 : Int32) (x4 : Int32) (τ : XS) : XR Int32 :=
  (x0_in F x1 (τ.1.1 26)).bind (fun r1 => if r1 = 0 then (some ((-1), τ, 0, 0)) else ((x0_in F x2 8).bind (fun r2 => if r2 = 0 then (some ((-1), τ, 0, 0)) else ((x0_isWeek F x3).bind (fun r3 => if r3 = 0 then (some ((-1), τ, 0, 0)) else ((x0_in F x4 4).bind (fun r4 => if r4 = 0 then (some ((-1), τ, 0, 0)) else (nx (xN τ (.inl (11, 100, .inr (.inr (.inr (.inr (fun _ => none))))))) (fun τ1 => tk 1 100 (lp (x0_stood_B51 F (fun a1 => lp (x0_stood_B162 F (fun a2 => x0_stood_187 F x2 x4 τ.2.2.2.2 a1.1 a2.1 a2.2) x2 x4 τ.2.2.2.2 a1.1) F (0, a1.2.2)) x1 x2 x3 x4 τ.2.2.2.2) F (0, 0, τ1)))))))))))
theorem met_x0_stood {l : Launch} {G : gG} {o B F : Nat} {x1 : Int32} {x2 : Int32} {x3 : Int32} {x4 : Int32} {τ : XS} {r : Int32 × XS × Nat × Nat} (hf : x0_stood F x1 x2 x3 x4 τ = some r) : MetX l G o B yX0_stood cX0_stood 11 (some .int) 3 [.ref o, .int x1, .int x2, .int x3, .int x4] τ (xQi G o B r.1 r.2.1) r.2.2.1 r.2.2.2 := by
  obtain ⟨v, τr, c, s⟩ := r
  refine metX_of (own := RX0) (mn := "stood") (by decide) rfl rfl rfl (fun γ hγ M => ?_)
  subst hγ
  show J γ (XW G o B τ) 0 0 0 [(0, .ref o), (1, .int x1), (2, .int x2), (3, .int x3), (4, .int x4)] []
  have hkn : 0 + c ≤ c ∧ 0 + s ≤ s := ⟨by omega, by omega⟩
  unfold x0_stood at hf
  refine j_iload_n (pc := 0) M.1 dX0_stood_0 1 rfl ?_
  refine j_aload_n (pc := 1) M.1 dX0_stood_1 0 rfl ?_
  refine jx_getS (pc := 2) M xfs_430 dX0_stood_2 ?_
  obtain ⟨r1, g1, hf⟩ := o_bind hf
  refine jx_calls (pc := 5) (As := [.int x1, .int (τ.1.1 26)]) (rest := []) M xcs_X0_137 (met_x0_in g1) rfl rfl rfl rfl dX0_stood_5 (kn_le0 hkn) ?_
  refine j_if_eq (pc := 8) M.1 36 dX0_stood_8 rfl (fun b1 => ?_) (fun b1 => ?_)
  · replace hf := o_pos b1 hf
    refine j_iconst (pc := 36) M.1 dX0_stood_36 kc_iconst_m1 ?_
    exact jx_iretF (pc := 37) M dX0_stood_37 hf hkn
  · replace hf := o_neg b1 hf
    refine j_iload_n (pc := 11) M.1 dX0_stood_11 2 rfl ?_
    refine j_bipush (pc := 12) M.1 dX0_stood_12 kc_bipush_8 ?_
    obtain ⟨r2, g2, hf⟩ := o_bind hf
    refine jx_calls (pc := 14) (As := [.int x2, .int 8]) (rest := []) M xcs_X0_137 (met_x0_in g2) rfl rfl rfl rfl dX0_stood_14 (kn_le0 hkn) ?_
    refine j_if_eq (pc := 17) M.1 36 dX0_stood_17 rfl (fun b2 => ?_) (fun b2 => ?_)
    · replace hf := o_pos b2 hf
      refine j_iconst (pc := 36) M.1 dX0_stood_36 kc_iconst_m1 ?_
      exact jx_iretF (pc := 37) M dX0_stood_37 hf hkn
    · replace hf := o_neg b2 hf
      refine j_iload_n (pc := 20) M.1 dX0_stood_20 3 rfl ?_
      obtain ⟨r3, g3, hf⟩ := o_bind hf
      refine jx_calls (pc := 21) (As := [.int x3]) (rest := []) M xcs_X0_154 (met_x0_isWeek g3) rfl rfl rfl rfl dX0_stood_21 (kn_le0 hkn) ?_
      refine j_if_eq (pc := 24) M.1 36 dX0_stood_24 rfl (fun b3 => ?_) (fun b3 => ?_)
      · replace hf := o_pos b3 hf
        refine j_iconst (pc := 36) M.1 dX0_stood_36 kc_iconst_m1 ?_
        exact jx_iretF (pc := 37) M dX0_stood_37 hf hkn
      · replace hf := o_neg b3 hf
        refine j_iload (pc := 27) M.1 dX0_stood_27 4 rfl ?_
        refine j_iconst (pc := 29) M.1 dX0_stood_29 kc_iconst_4 ?_
        obtain ⟨r4, g4, hf⟩ := o_bind hf
        refine jx_calls (pc := 30) (As := [.int x4, .int 4]) (rest := []) M xcs_X0_137 (met_x0_in g4) rfl rfl rfl rfl dX0_stood_30 (kn_le0 hkn) ?_
        refine j_if_ne (pc := 33) M.1 38 dX0_stood_33 rfl (fun b4 => ?_) (fun b4 => ?_)
        · replace hf := o_neg b4 hf
          refine j_bipush (pc := 38) M.1 dX0_stood_38 kc_bipush_100 ?_
          obtain ⟨τ1, e1, hf⟩ := o_nx hf
          obtain ⟨c1, s1, hf, hc1, hs1⟩ := o_tk hf
          replace hkn := kn_step hkn hc1 hs1
          refine jx_newq (pc := 40) M q159 (List.mem_of_getElem? (i := 7) rfl) (fun _ => rfl) (by decide) rfl (by decide) dX0_stood_40 (kn_le hkn) e1 ?_
          refine j_astore (pc := 43) M.1 [(5, .ref τ.2.2.2.2), (0, .ref o), (1, .int x1), (2, .int x2), (3, .int x3), (4, .int x4)] dX0_stood_43 rfl rfl ?_
          refine j_iconst (pc := 45) M.1 dX0_stood_45 kc_iconst_0 ?_
          refine j_istore (pc := 46) M.1 [(6, .int 0), (5, .ref τ.2.2.2.2), (0, .ref o), (1, .int x1), (2, .int x2), (3, .int x3), (4, .int x4)] dX0_stood_46 rfl rfl ?_
          refine j_iconst (pc := 48) M.1 dX0_stood_48 kc_iconst_0 ?_
          refine j_istore (pc := 49) M.1 [(7, .int 0), (6, .int 0), (5, .ref τ.2.2.2.2), (0, .ref o), (1, .int x1), (2, .int x2), (3, .int x3), (4, .int x4)] dX0_stood_49 rfl rfl ?_
          refine j_sub [3, 4, 5, 6, 7, 2, 1, 0] (show lv_pick _ _ = [(0, .ref o), (1, .int x1), (2, .int x2), (3, .int x3), (4, .int x4), (5, .ref τ.2.2.2.2), (6, .int 0), (7, .int 0)] from rfl) ?_
          refine lp_Wc (kx0_stood_B51 M x1 x2 x3 x4 τ.2.2.2.2 _ ?_) F (0, 0, τ1) _ _ hf _ _ hkn
          · intro a1 c s hf k n hkn
            refine j_iconst (pc := 159) M.1 dX0_stood_159 kc_iconst_0 ?_
            refine j_istore (pc := 160) M.1 [(7, .int 0), (2, .int x2), (4, .int x4), (5, .ref τ.2.2.2.2), (6, .int a1.1)] dX0_stood_160 rfl rfl ?_
            refine j_sub [1, 2, 3, 4, 0] (show lv_pick _ _ = [(2, .int x2), (4, .int x4), (5, .ref τ.2.2.2.2), (6, .int a1.1), (7, .int 0)] from rfl) ?_
            refine lp_Wc (kx0_stood_B162 M x2 x4 τ.2.2.2.2 a1.1 _ ?_) F (0, a1.2.2) _ _ hf _ _ hkn
            · intro a2 c s hf k n hkn
              exact kx0_stood_187 M x2 x4 τ.2.2.2.2 a1.1 a2.1 a2.2 hf hkn
        · replace hf := o_pos b4 hf
          refine j_iconst (pc := 36) M.1 dX0_stood_36 kc_iconst_m1 ?_
          exact jx_iretF (pc := 37) M dX0_stood_37 hf hkn
end
