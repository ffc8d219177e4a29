set_option maxRecDepth 100000
variable {γ : jG} {G : gG} {o B F c0 s0 : Nat} {τr : XS}
theorem dX0_city_0 : decode cX0_city 0 = .ok (.iload_n 1, 1) := by decide +kernel
theorem dX0_city_1 : decode cX0_city 1 = .ok (.iconst 4, 1) := by decide +kernel
theorem dX0_city_2 : decode cX0_city 2 = .ok (.bipush 10, 2) := by decide +kernel
theorem dX0_city_4 : decode cX0_city 4 = .ok (.invokestatic 144, 3) := by decide +kernel
theorem dX0_city_7 : decode cX0_city 7 = .ok (.ifCond .eq 34, 3) := by decide +kernel
theorem dX0_city_10 : decode cX0_city 10 = .ok (.iload_n 2, 1) := by decide +kernel
theorem dX0_city_11 : decode cX0_city 11 = .ok (.iconst 4, 1) := by decide +kernel
theorem dX0_city_12 : decode cX0_city 12 = .ok (.bipush 10, 2) := by decide +kernel
theorem dX0_city_14 : decode cX0_city 14 = .ok (.invokestatic 144, 3) := by decide +kernel
theorem dX0_city_17 : decode cX0_city 17 = .ok (.ifCond .eq 24, 3) := by decide +kernel
theorem dX0_city_20 : decode cX0_city 20 = .ok (.aload_n 0, 1) := by decide +kernel
theorem dX0_city_21 : decode cX0_city 21 = .ok (.getfield 141, 3) := by decide +kernel
theorem dX0_city_24 : decode cX0_city 24 = .ok (.ifCond .gt 17, 3) := by decide +kernel
theorem dX0_city_27 : decode cX0_city 27 = .ok (.aload_n 0, 1) := by decide +kernel
theorem dX0_city_28 : decode cX0_city 28 = .ok (.getfield 148, 3) := by decide +kernel
theorem dX0_city_31 : decode cX0_city 31 = .ok (.ifCond .gt 10, 3) := by decide +kernel
theorem dX0_city_34 : decode cX0_city 34 = .ok (.aload_n 0, 1) := by decide +kernel
theorem dX0_city_35 : decode cX0_city 35 = .ok (.getfield 151, 3) := by decide +kernel
theorem dX0_city_38 : decode cX0_city 38 = .ok (.ifCond .le 5, 3) := by decide +kernel
theorem dX0_city_41 : decode cX0_city 41 = .ok (.iconst 0, 1) := by decide +kernel
theorem dX0_city_42 : decode cX0_city 42 = .ok (.ireturn, 1) := by decide +kernel
theorem dX0_city_43 : decode cX0_city 43 = .ok (.aload_n 0, 1) := by decide +kernel
theorem dX0_city_44 : decode cX0_city 44 = .ok (.iload_n 1, 1) := by decide +kernel
theorem dX0_city_45 : decode cX0_city 45 = .ok (.putfield 13, 3) := by decide +kernel
theorem dX0_city_48 : decode cX0_city 48 = .ok (.aload_n 0, 1) := by decide +kernel
theorem dX0_city_49 : decode cX0_city 49 = .ok (.iload_n 2, 1) := by decide +kernel
theorem dX0_city_50 : decode cX0_city 50 = .ok (.putfield 19, 3) := by decide +kernel
theorem dX0_city_53 : decode cX0_city 53 = .ok (.iconst 0, 1) := by decide +kernel
theorem dX0_city_54 : decode cX0_city 54 = .ok (.istore_n 3, 1) := by decide +kernel
theorem dX0_city_55 : decode cX0_city 55 = .ok (.iload_n 3, 1) := by decide +kernel
theorem dX0_city_56 : decode cX0_city 56 = .ok (.bipush 100, 2) := by decide +kernel
theorem dX0_city_58 : decode cX0_city 58 = .ok (.if_icmp .ge 17, 3) := by decide +kernel
theorem dX0_city_61 : decode cX0_city 61 = .ok (.aload_n 0, 1) := by decide +kernel
theorem dX0_city_62 : decode cX0_city 62 = .ok (.getfield 37, 3) := by decide +kernel
theorem dX0_city_65 : decode cX0_city 65 = .ok (.iload_n 3, 1) := by decide +kernel
theorem dX0_city_66 : decode cX0_city 66 = .ok (.bipush 8, 2) := by decide +kernel
theorem dX0_city_68 : decode cX0_city 68 = .ok (.iastore, 1) := by decide +kernel
theorem dX0_city_69 : decode cX0_city 69 = .ok (.iinc 3 1, 3) := by decide +kernel
theorem dX0_city_72 : decode cX0_city 72 = .ok (.goto (-17), 3) := by decide +kernel
theorem dX0_city_75 : decode cX0_city 75 = .ok (.iconst 1, 1) := by decide +kernel
theorem dX0_city_76 : decode cX0_city 76 = .ok (.ireturn, 1) := by decide +kernel
section
variable {v : Int32}
noncomputable def x0_city_B55 (F : Nat) (R : Int32 × XS → XR Int32) (a : Int32 × XS) : XR Int32 :=
  if 100 ≤ a.1 then (some (1, a.2, 0, 0)) else (if okI a.1 100 = true then nx (xA a.2 3 a.1.toNatClampNeg 8) (fun τ1 => R (a.1 + 1, τ1)) else none)
theorem kx0_city_B55 (M : XC γ cX0_city 4 RX0 "city" G o B 2 (some .boolean) (xQi G o B v τr) c0 s0) : ∀ R : Int32 × XS → XR Int32, (∀ a c s, R a = some (v, τr, c, s) → ∀ k n, k + c ≤ c0 ∧ n + s ≤ s0 → J γ (XW G o B a.2) k n 55 [(0, .ref o), (3, .int a.1)] []) → ∀ a c s, x0_city_B55 F R a = some (v, τr, c, s) → ∀ k n, k + c ≤ c0 ∧ n + s ≤ s0 → J γ (XW G o B a.2) k n 55 [(0, .ref o), (3, .int a.1)] [] := by
  intro R hR a c s hf k n hkn
  unfold x0_city_B55 at hf
  refine j_iload_n (pc := 55) M.1 dX0_city_55 1 rfl ?_
  refine j_bipush (pc := 56) M.1 dX0_city_56 kc_bipush_100 ?_
  refine j_icmp_ge (pc := 58) M.1 75 dX0_city_58 rfl (fun b1 => ?_) (fun b1 => ?_)
  · replace hf := o_pos b1 hf
    refine j_iconst (pc := 75) M.1 dX0_city_75 kc_iconst_1 ?_
    exact jx_zretF (pc := 76) M dX0_city_76 rfl hf hkn
  · replace hf := o_neg b1 hf
    refine j_aload_n (pc := 61) M.1 dX0_city_61 0 rfl ?_
    refine jx_getA (pc := 62) M xfa_37 dX0_city_62 ?_
    refine j_iload_n (pc := 65) M.1 dX0_city_65 1 rfl ?_
    refine j_bipush (pc := 66) M.1 dX0_city_66 kc_bipush_8 ?_
    obtain ⟨b2, hf⟩ := o_need hf
    obtain ⟨τ1, e1, hf⟩ := o_nx hf
    refine jx_iast (pc := 68) M xax_3 b2 dX0_city_68 e1 ?_
    refine j_iinc (pc := 69) M.1 [(3, .int (a.1 + 1)), (0, .ref o)] dX0_city_69 1 rfl (congrArg _ kc_iconst_1) rfl rfl ?_
    refine j_goto (pc := 72) M.1 55 dX0_city_72 rfl ?_
    refine j_sub [1, 0] (show lv_pick _ _ = [(0, .ref o), (3, .int (a.1 + 1))] from rfl) ?_
    have hy := hR _ _ _ hf _ _ hkn
    exact hy
noncomputable def x0_city (F : Nat) (x1 : Int32) (x2 : Int32) (τ : XS) : XR Int32 :=
  (x0_within F x1 4 10).bind (fun r1 => if r1 = 0 then (some (0, τ, 0, 0)) else ((x0_within F x2 4 10).bind (fun r2 => if r2 = 0 then (some (0, τ, 0, 0)) else (if 0 < (τ.1.1 3) then (some (0, τ, 0, 0)) else (if 0 < (τ.1.1 4) then (some (0, τ, 0, 0)) else (if (τ.1.1 35) ≤ 0 then (nx (xS τ 0 x1) (fun τ1 => nx (xS τ1 1 x2) (fun τ2 => lp (x0_city_B55 F) F (0, τ2)))) else (some (0, τ, 0, 0))))))))
theorem met_x0_city {l : Launch} {G : gG} {o B F : Nat} {x1 : Int32} {x2 : Int32} {τ : XS} {r : Int32 × XS × Nat × Nat} (hf : x0_city F x1 x2 τ = some r) : MetX l G o B yX0_city cX0_city 4 (some .boolean) 2 [.ref o, .int x1, .int x2] τ (xQi G o B r.1 r.2.1) r.2.2.1 r.2.2.2 := by
  obtain ⟨v, τr, c, s⟩ := r
  refine metX_of (own := RX0) (mn := "city") (by decide) rfl rfl rfl (fun γ hγ M => ?_)
  subst hγ
  show J γ (XW G o B τ) 0 0 0 [(0, .ref o), (1, .int x1), (2, .int x2)] []
  have hkn : 0 + c ≤ c ∧ 0 + s ≤ s := ⟨by omega, by omega⟩
  unfold x0_city at hf
  refine j_iload_n (pc := 0) M.1 dX0_city_0 1 rfl ?_
  refine j_iconst (pc := 1) M.1 dX0_city_1 kc_iconst_4 ?_
  refine j_bipush (pc := 2) M.1 dX0_city_2 kc_bipush_10 ?_
  obtain ⟨r1, g1, hf⟩ := o_bind hf
  refine jx_calls (pc := 4) (As := [.int x1, .int 4, .int 10]) (rest := []) M xcs_X0_144 (met_x0_within g1) rfl rfl rfl rfl dX0_city_4 (kn_le0 hkn) ?_
  refine j_if_eq (pc := 7) M.1 41 dX0_city_7 rfl (fun b1 => ?_) (fun b1 => ?_)
  · replace hf := o_pos b1 hf
    refine j_iconst (pc := 41) M.1 dX0_city_41 kc_iconst_0 ?_
    exact jx_zretF (pc := 42) M dX0_city_42 rfl hf hkn
  · replace hf := o_neg b1 hf
    refine j_iload_n (pc := 10) M.1 dX0_city_10 2 rfl ?_
    refine j_iconst (pc := 11) M.1 dX0_city_11 kc_iconst_4 ?_
    refine j_bipush (pc := 12) M.1 dX0_city_12 kc_bipush_10 ?_
    obtain ⟨r2, g2, hf⟩ := o_bind hf
    refine jx_calls (pc := 14) (As := [.int x2, .int 4, .int 10]) (rest := []) M xcs_X0_144 (met_x0_within g2) rfl rfl rfl rfl dX0_city_14 (kn_le0 hkn) ?_
    refine j_if_eq (pc := 17) M.1 41 dX0_city_17 rfl (fun b2 => ?_) (fun b2 => ?_)
    · replace hf := o_pos b2 hf
      refine j_iconst (pc := 41) M.1 dX0_city_41 kc_iconst_0 ?_
      exact jx_zretF (pc := 42) M dX0_city_42 rfl hf hkn
    · replace hf := o_neg b2 hf
      refine j_aload_n (pc := 20) M.1 dX0_city_20 0 rfl ?_
      refine jx_getS (pc := 21) M xfs_141 dX0_city_21 ?_
      refine j_if_gt (pc := 24) M.1 41 dX0_city_24 rfl (fun b3 => ?_) (fun b3 => ?_)
      · replace hf := o_pos b3 hf
        refine j_iconst (pc := 41) M.1 dX0_city_41 kc_iconst_0 ?_
        exact jx_zretF (pc := 42) M dX0_city_42 rfl hf hkn
      · replace hf := o_neg b3 hf
        refine j_aload_n (pc := 27) M.1 dX0_city_27 0 rfl ?_
        refine jx_getS (pc := 28) M xfs_148 dX0_city_28 ?_
        refine j_if_gt (pc := 31) M.1 41 dX0_city_31 rfl (fun b4 => ?_) (fun b4 => ?_)
        · replace hf := o_pos b4 hf
          refine j_iconst (pc := 41) M.1 dX0_city_41 kc_iconst_0 ?_
          exact jx_zretF (pc := 42) M dX0_city_42 rfl hf hkn
        · replace hf := o_neg b4 hf
          refine j_aload_n (pc := 34) M.1 dX0_city_34 0 rfl ?_
          refine jx_getS (pc := 35) M xfs_151 dX0_city_35 ?_
          refine j_if_le (pc := 38) M.1 43 dX0_city_38 rfl (fun b5 => ?_) (fun b5 => ?_)
          · replace hf := o_pos b5 hf
            refine j_aload_n (pc := 43) M.1 dX0_city_43 0 rfl ?_
            refine j_iload_n (pc := 44) M.1 dX0_city_44 1 rfl ?_
            obtain ⟨τ1, e1, hf⟩ := o_nx hf
            refine jx_putS (pc := 45) M xfs_13 dX0_city_45 e1 ?_
            refine j_aload_n (pc := 48) M.1 dX0_city_48 0 rfl ?_
            refine j_iload_n (pc := 49) M.1 dX0_city_49 2 rfl ?_
            obtain ⟨τ2, e2, hf⟩ := o_nx hf
            refine jx_putS (pc := 50) M xfs_19 dX0_city_50 e2 ?_
            refine j_iconst (pc := 53) M.1 dX0_city_53 kc_iconst_0 ?_
            refine j_istore_n (pc := 54) M.1 [(3, .int 0), (0, .ref o), (1, .int x1), (2, .int x2)] dX0_city_54 rfl rfl ?_
            refine j_sub [1, 0] (show lv_pick _ _ = [(0, .ref o), (3, .int 0)] from rfl) ?_
            refine lp_Wc (kx0_city_B55 M) F (0, τ2) _ _ hf _ _ hkn
          · replace hf := o_neg b5 hf
            refine j_iconst (pc := 41) M.1 dX0_city_41 kc_iconst_0 ?_
            exact jx_zretF (pc := 42) M dX0_city_42 rfl hf hkn
end
theorem dX0_now_0 : decode cX0_now 0 = .ok (.iload_n 1, 1) := by decide +kernel
theorem dX0_now_1 : decode cX0_now 1 = .ok (.invokestatic 154, 3) := by decide +kernel
theorem dX0_now_4 : decode cX0_now 4 = .ok (.ifCond .eq 11, 3) := by decide +kernel
theorem dX0_now_7 : decode cX0_now 7 = .ok (.iload_n 1, 1) := by decide +kernel
theorem dX0_now_8 : decode cX0_now 8 = .ok (.aload_n 0, 1) := by decide +kernel
theorem dX0_now_9 : decode cX0_now 9 = .ok (.getfield 158, 3) := by decide +kernel
theorem dX0_now_12 : decode cX0_now 12 = .ok (.if_icmp .ge 5, 3) := by decide +kernel
theorem dX0_now_15 : decode cX0_now 15 = .ok (.iconst 0, 1) := by decide +kernel
theorem dX0_now_16 : decode cX0_now 16 = .ok (.ireturn, 1) := by decide +kernel
theorem dX0_now_17 : decode cX0_now 17 = .ok (.aload_n 0, 1) := by decide +kernel
theorem dX0_now_18 : decode cX0_now 18 = .ok (.iload_n 1, 1) := by decide +kernel
theorem dX0_now_19 : decode cX0_now 19 = .ok (.putfield 158, 3) := by decide +kernel
theorem dX0_now_22 : decode cX0_now 22 = .ok (.iconst 1, 1) := by decide +kernel
theorem dX0_now_23 : decode cX0_now 23 = .ok (.ireturn, 1) := by decide +kernel
section
variable {v : Int32}
noncomputable def x0_now (F : Nat) (x1 : Int32) (τ : XS) : XR Int32 :=
  (x0_isWeek F x1).bind (fun r1 => if r1 = 0 then (some (0, τ, 0, 0)) else (if (τ.1.1 2) ≤ x1 then (nx (xS τ 2 x1) (fun τ1 => some (1, τ1, 0, 0))) else (some (0, τ, 0, 0))))
theorem met_x0_now {l : Launch} {G : gG} {o B F : Nat} {x1 : Int32} {τ : XS} {r : Int32 × XS × Nat × Nat} (hf : x0_now F x1 τ = some r) : MetX l G o B yX0_now cX0_now 2 (some .boolean) 3 [.ref o, .int x1] τ (xQi G o B r.1 r.2.1) r.2.2.1 r.2.2.2 := by
  obtain ⟨v, τr, c, s⟩ := r
  refine metX_of (own := RX0) (mn := "now") (by decide) rfl rfl rfl (fun γ hγ M => ?_)
  subst hγ
  show J γ (XW G o B τ) 0 0 0 [(0, .ref o), (1, .int x1)] []
  have hkn : 0 + c ≤ c ∧ 0 + s ≤ s := ⟨by omega, by omega⟩
  unfold x0_now at hf
  refine j_iload_n (pc := 0) M.1 dX0_now_0 1 rfl ?_
  obtain ⟨r1, g1, hf⟩ := o_bind hf
  refine jx_calls (pc := 1) (As := [.int x1]) (rest := []) M xcs_X0_154 (met_x0_isWeek g1) rfl rfl rfl rfl dX0_now_1 (kn_le0 hkn) ?_
  refine j_if_eq (pc := 4) M.1 15 dX0_now_4 rfl (fun b1 => ?_) (fun b1 => ?_)
  · replace hf := o_pos b1 hf
    refine j_iconst (pc := 15) M.1 dX0_now_15 kc_iconst_0 ?_
    exact jx_zretF (pc := 16) M dX0_now_16 rfl hf hkn
  · replace hf := o_neg b1 hf
    refine j_iload_n (pc := 7) M.1 dX0_now_7 1 rfl ?_
    refine j_aload_n (pc := 8) M.1 dX0_now_8 0 rfl ?_
    refine jx_getS (pc := 9) M xfs_158 dX0_now_9 ?_
    refine j_icmp_ge (pc := 12) M.1 17 dX0_now_12 rfl (fun b2 => ?_) (fun b2 => ?_)
    · replace hf := o_pos b2 hf
      refine j_aload_n (pc := 17) M.1 dX0_now_17 0 rfl ?_
      refine j_iload_n (pc := 18) M.1 dX0_now_18 1 rfl ?_
      obtain ⟨τ1, e1, hf⟩ := o_nx hf
      refine jx_putS (pc := 19) M xfs_158 dX0_now_19 e1 ?_
      refine j_iconst (pc := 22) M.1 dX0_now_22 kc_iconst_1 ?_
      exact jx_zretF (pc := 23) M dX0_now_23 rfl hf hkn
    · replace hf := o_neg b2 hf
      refine j_iconst (pc := 15) M.1 dX0_now_15 kc_iconst_0 ?_
      exact jx_zretF (pc := 16) M dX0_now_16 rfl hf hkn
end
theorem dX3_init_0 : decode cX3_init 0 = .ok (.aload_n 0, 1) := by decide +kernel
theorem dX3_init_1 : decode cX3_init 1 = .ok (.invokespecial 1, 3) := by decide +kernel
theorem dX3_init_4 : decode cX3_init 4 = .ok (.aload_n 0, 1) := by decide +kernel
theorem dX3_init_5 : decode cX3_init 5 = .ok (.iload_n 1, 1) := by decide +kernel
theorem dX3_init_6 : decode cX3_init 6 = .ok (.putfield 7, 3) := by decide +kernel
theorem dX3_init_9 : decode cX3_init 9 = .ok (.aload_n 0, 1) := by decide +kernel
theorem dX3_init_10 : decode cX3_init 10 = .ok (.iload_n 2, 1) := by decide +kernel
theorem dX3_init_11 : decode cX3_init 11 = .ok (.putfield 13, 3) := by decide +kernel
theorem dX3_init_14 : decode cX3_init 14 = .ok (.aload_n 0, 1) := by decide +kernel
theorem dX3_init_15 : decode cX3_init 15 = .ok (.aload_n 3, 1) := by decide +kernel
theorem dX3_init_16 : decode cX3_init 16 = .ok (.putfield 16, 3) := by decide +kernel
theorem dX3_init_19 : decode cX3_init 19 = .ok (.return_, 1) := by decide +kernel
section
variable {v : Int32}
noncomputable def x3_init (F : Nat) (x0 : Nat) (x1 : Int32) (x2 : Int32) (x3 : Nat) (τ : XS) : XR Int32 :=
  (pF τ x0 [3] 0 (.int x1)).bind (fun τ1 => (pF τ1 x0 [3] 1 (.int x2)).bind (fun τ2 => (pF τ2 x0 [3] 2 (.ref x3)).bind (fun τ3 => some (0, τ3, 0, 0))))
theorem met_x3_init {l : Launch} {G : gG} {o B F : Nat} {x0 : Nat} {x1 : Int32} {x2 : Int32} {x3 : Nat} {τ : XS} {r : Int32 × XS × Nat × Nat} (hf : x3_init F x0 x1 x2 x3 τ = some r) : MetX l G o B yX3_init cX3_init 4 none 2 [.ref x0, .int x1, .int x2, .ref x3] τ (xQv G o B r.1 r.2.1) r.2.2.1 r.2.2.2 := by
  obtain ⟨v, τr, c, s⟩ := r
  refine metX_of (own := RX3) (mn := "<init>") (by decide) rfl rfl rfl (fun γ hγ M => ?_)
  subst hγ
  show J γ (XW G o B τ) 0 0 0 [(0, .ref x0), (1, .int x1), (2, .int x2), (3, .ref x3)] []
  have hkn : 0 + c ≤ c ∧ 0 + s ≤ s := ⟨by omega, by omega⟩
  unfold x3_init at hf
  refine j_aload_n (pc := 0) M.1 dX3_init_0 0 rfl ?_
  refine j_objInit (pc := 1) M.1 q362 dX3_init_1 (M.room (by decide)) rfl ?_
  refine j_aload_n (pc := 4) M.1 dX3_init_4 0 rfl ?_
  refine j_iload_n (pc := 5) M.1 dX3_init_5 1 rfl ?_
  obtain ⟨τ1, g1, hf⟩ := o_bind hf
  refine jx_putW (pc := 6) M q363 xfw_X3_7 rfl rfl g1 dX3_init_6 ?_
  refine j_aload_n (pc := 9) M.1 dX3_init_9 0 rfl ?_
  refine j_iload_n (pc := 10) M.1 dX3_init_10 2 rfl ?_
  obtain ⟨τ2, g2, hf⟩ := o_bind hf
  refine jx_putW (pc := 11) M q365 xfw_X3_13 rfl rfl g2 dX3_init_11 ?_
  refine j_aload_n (pc := 14) M.1 dX3_init_14 0 rfl ?_
  refine j_aload_n (pc := 15) M.1 dX3_init_15 3 rfl ?_
  obtain ⟨τ3, g3, hf⟩ := o_bind hf
  refine jx_putW (pc := 16) M q367 xfw_X3_16 rfl rfl g3 dX3_init_16 ?_
  exact jx_vretF (pc := 19) M dX3_init_19 hf hkn
end
theorem dX2_meets_0 : decode cX2_meets 0 = .ok (.aload_n 0, 1) := by decide +kernel
theorem dX2_meets_1 : decode cX2_meets 1 = .ok (.getfield 7, 3) := by decide +kernel
theorem dX2_meets_4 : decode cX2_meets 4 = .ok (.aload_n 1, 1) := by decide +kernel
theorem dX2_meets_5 : decode cX2_meets 5 = .ok (.getfield 16, 3) := by decide +kernel
theorem dX2_meets_8 : decode cX2_meets 8 = .ok (.if_icmp .gt 40, 3) := by decide +kernel
theorem dX2_meets_11 : decode cX2_meets 11 = .ok (.aload_n 1, 1) := by decide +kernel
theorem dX2_meets_12 : decode cX2_meets 12 = .ok (.getfield 7, 3) := by decide +kernel
theorem dX2_meets_15 : decode cX2_meets 15 = .ok (.aload_n 0, 1) := by decide +kernel
theorem dX2_meets_16 : decode cX2_meets 16 = .ok (.getfield 16, 3) := by decide +kernel
theorem dX2_meets_19 : decode cX2_meets 19 = .ok (.if_icmp .gt 29, 3) := by decide +kernel
theorem dX2_meets_22 : decode cX2_meets 22 = .ok (.aload_n 0, 1) := by decide +kernel
theorem dX2_meets_23 : decode cX2_meets 23 = .ok (.getfield 13, 3) := by decide +kernel
theorem dX2_meets_26 : decode cX2_meets 26 = .ok (.aload_n 1, 1) := by decide +kernel
theorem dX2_meets_27 : decode cX2_meets 27 = .ok (.getfield 19, 3) := by decide +kernel
theorem dX2_meets_30 : decode cX2_meets 30 = .ok (.if_icmp .gt 18, 3) := by decide +kernel
theorem dX2_meets_33 : decode cX2_meets 33 = .ok (.aload_n 1, 1) := by decide +kernel
theorem dX2_meets_34 : decode cX2_meets 34 = .ok (.getfield 13, 3) := by decide +kernel
theorem dX2_meets_37 : decode cX2_meets 37 = .ok (.aload_n 0, 1) := by decide +kernel
theorem dX2_meets_38 : decode cX2_meets 38 = .ok (.getfield 19, 3) := by decide +kernel
theorem dX2_meets_41 : decode cX2_meets 41 = .ok (.if_icmp .gt 7, 3) := by decide +kernel
theorem dX2_meets_44 : decode cX2_meets 44 = .ok (.iconst 1, 1) := by decide +kernel
theorem dX2_meets_45 : decode cX2_meets 45 = .ok (.goto 4, 3) := by decide +kernel
theorem dX2_meets_48 : decode cX2_meets 48 = .ok (.iconst 0, 1) := by decide +kernel
theorem dX2_meets_49 : decode cX2_meets 49 = .ok (.ireturn, 1) := by decide +kernel
section
variable {v : Int32}
noncomputable def x2_meets (F : Nat) (x0 : Nat) (x1 : Nat) (τ : XS) : XR Int32 :=
  (gI τ x0 [2] 0).bind (fun v1 => (gI τ x1 [2] 2).bind (fun v2 => if v2 < v1 then (some (0, τ, 0, 0)) else ((gI τ x1 [2] 0).bind (fun v3 => (gI τ x0 [2] 2).bind (fun v4 => if v4 < v3 then (some (0, τ, 0, 0)) else ((gI τ x0 [2] 1).bind (fun v5 => (gI τ x1 [2] 3).bind (fun v6 => if v6 < v5 then (some (0, τ, 0, 0)) else ((gI τ x1 [2] 1).bind (fun v7 => (gI τ x0 [2] 3).bind (fun v8 => if v8 < v7 then (some (0, τ, 0, 0)) else (some (1, τ, 0, 0)))))))))))))
theorem met_x2_meets {l : Launch} {G : gG} {o B F : Nat} {x0 : Nat} {x1 : Nat} {τ : XS} {r : Int32 × XS × Nat × Nat} (hf : x2_meets F x0 x1 τ = some r) : MetX l G o B yX2_meets cX2_meets 2 (some .boolean) 1 [.ref x0, .ref x1] τ (xQi G o B r.1 r.2.1) r.2.2.1 r.2.2.2 := by
  obtain ⟨v, τr, c, s⟩ := r
  refine metX_of (own := RX2) (mn := "meets") (by decide) rfl rfl rfl (fun γ hγ M => ?_)
  subst hγ
  show J γ (XW G o B τ) 0 0 0 [(0, .ref x0), (1, .ref x1)] []
  have hkn : 0 + c ≤ c ∧ 0 + s ≤ s := ⟨by omega, by omega⟩
  unfold x2_meets at hf
  refine j_aload_n (pc := 0) M.1 dX2_meets_0 0 rfl ?_
  obtain ⟨v1, g1, hf⟩ := o_bind hf
  refine jx_getI (pc := 1) M xfl_X2_7 g1 dX2_meets_1 ?_
  refine j_aload_n (pc := 4) M.1 dX2_meets_4 1 rfl ?_
  obtain ⟨v2, g2, hf⟩ := o_bind hf
  refine jx_getI (pc := 5) M xfl_X2_16 g2 dX2_meets_5 ?_
  refine j_icmp_gt (pc := 8) M.1 48 dX2_meets_8 rfl (fun b1 => ?_) (fun b1 => ?_)
  · replace hf := o_pos b1 hf
    refine j_iconst (pc := 48) M.1 dX2_meets_48 kc_iconst_0 ?_
    exact jx_zretF (pc := 49) M dX2_meets_49 rfl hf hkn
  · replace hf := o_neg b1 hf
    refine j_aload_n (pc := 11) M.1 dX2_meets_11 1 rfl ?_
    obtain ⟨v3, g3, hf⟩ := o_bind hf
    refine jx_getI (pc := 12) M xfl_X2_7 g3 dX2_meets_12 ?_
    refine j_aload_n (pc := 15) M.1 dX2_meets_15 0 rfl ?_
    obtain ⟨v4, g4, hf⟩ := o_bind hf
    refine jx_getI (pc := 16) M xfl_X2_16 g4 dX2_meets_16 ?_
    refine j_icmp_gt (pc := 19) M.1 48 dX2_meets_19 rfl (fun b2 => ?_) (fun b2 => ?_)
    · replace hf := o_pos b2 hf
      refine j_iconst (pc := 48) M.1 dX2_meets_48 kc_iconst_0 ?_
      exact jx_zretF (pc := 49) M dX2_meets_49 rfl hf hkn
    · replace hf := o_neg b2 hf
      refine j_aload_n (pc := 22) M.1 dX2_meets_22 0 rfl ?_
      obtain ⟨v5, g5, hf⟩ := o_bind hf
      refine jx_getI (pc := 23) M xfl_X2_13 g5 dX2_meets_23 ?_
      refine j_aload_n (pc := 26) M.1 dX2_meets_26 1 rfl ?_
      obtain ⟨v6, g6, hf⟩ := o_bind hf
      refine jx_getI (pc := 27) M xfl_X2_19 g6 dX2_meets_27 ?_
      refine j_icmp_gt (pc := 30) M.1 48 dX2_meets_30 rfl (fun b3 => ?_) (fun b3 => ?_)
      · replace hf := o_pos b3 hf
        refine j_iconst (pc := 48) M.1 dX2_meets_48 kc_iconst_0 ?_
        exact jx_zretF (pc := 49) M dX2_meets_49 rfl hf hkn
      · replace hf := o_neg b3 hf
        refine j_aload_n (pc := 33) M.1 dX2_meets_33 1 rfl ?_
        obtain ⟨v7, g7, hf⟩ := o_bind hf
        refine jx_getI (pc := 34) M xfl_X2_13 g7 dX2_meets_34 ?_
        refine j_aload_n (pc := 37) M.1 dX2_meets_37 0 rfl ?_
        obtain ⟨v8, g8, hf⟩ := o_bind hf
        refine jx_getI (pc := 38) M xfl_X2_19 g8 dX2_meets_38 ?_
        refine j_icmp_gt (pc := 41) M.1 48 dX2_meets_41 rfl (fun b4 => ?_) (fun b4 => ?_)
        · replace hf := o_pos b4 hf
          refine j_iconst (pc := 48) M.1 dX2_meets_48 kc_iconst_0 ?_
          exact jx_zretF (pc := 49) M dX2_meets_49 rfl hf hkn
        · replace hf := o_neg b4 hf
          refine j_iconst (pc := 44) M.1 dX2_meets_44 kc_iconst_1 ?_
          refine j_goto (pc := 45) M.1 49 dX2_meets_45 rfl ?_
          exact jx_zretF (pc := 49) M dX2_meets_49 rfl hf hkn
end
theorem dX2_init_0 : decode cX2_init 0 = .ok (.aload_n 0, 1) := by decide +kernel
theorem dX2_init_1 : decode cX2_init 1 = .ok (.invokespecial 1, 3) := by decide +kernel
theorem dX2_init_4 : decode cX2_init 4 = .ok (.aload_n 0, 1) := by decide +kernel
theorem dX2_init_5 : decode cX2_init 5 = .ok (.iload_n 1, 1) := by decide +kernel
theorem dX2_init_6 : decode cX2_init 6 = .ok (.putfield 7, 3) := by decide +kernel
theorem dX2_init_9 : decode cX2_init 9 = .ok (.aload_n 0, 1) := by decide +kernel
theorem dX2_init_10 : decode cX2_init 10 = .ok (.iload_n 2, 1) := by decide +kernel
theorem dX2_init_11 : decode cX2_init 11 = .ok (.putfield 13, 3) := by decide +kernel
theorem dX2_init_14 : decode cX2_init 14 = .ok (.aload_n 0, 1) := by decide +kernel
theorem dX2_init_15 : decode cX2_init 15 = .ok (.iload_n 3, 1) := by decide +kernel
theorem dX2_init_16 : decode cX2_init 16 = .ok (.putfield 16, 3) := by decide +kernel
theorem dX2_init_19 : decode cX2_init 19 = .ok (.aload_n 0, 1) := by decide +kernel
theorem dX2_init_20 : decode cX2_init 20 = .ok (.iload 4, 2) := by decide +kernel
theorem dX2_init_22 : decode cX2_init 22 = .ok (.putfield 19, 3) := by decide +kernel
theorem dX2_init_25 : decode cX2_init 25 = .ok (.return_, 1) := by decide +kernel
section
variable {v : Int32}
noncomputable def x2_init (F : Nat) (x0 : Nat) (x1 : Int32) (x2 : Int32) (x3 : Int32) (x4 : Int32) (τ : XS) : XR Int32 :=
  (pF τ x0 [2] 0 (.int x1)).bind (fun τ1 => (pF τ1 x0 [2] 1 (.int x2)).bind (fun τ2 => (pF τ2 x0 [2] 2 (.int x3)).bind (fun τ3 => (pF τ3 x0 [2] 3 (.int x4)).bind (fun τ4 => some (0, τ4, 0, 0)))))
theorem met_x2_init {l : Launch} {G : gG} {o B F : Nat} {x0 : Nat} {x1 : Int32} {x2 : Int32} {x3 : Int32} {x4 : Int32} {τ : XS} {r : Int32 × XS × Nat × Nat} (hf : x2_init F x0 x1 x2 x3 x4 τ = some r) : MetX l G o B yX2_init cX2_init 5 none 2 [.ref x0, .int x1, .int x2, .int x3, .int x4] τ (xQv G o B r.1 r.2.1) r.2.2.1 r.2.2.2 := by
  obtain ⟨v, τr, c, s⟩ := r
  refine metX_of (own := RX2) (mn := "<init>") (by decide) rfl rfl rfl (fun γ hγ M => ?_)
  subst hγ
  show J γ (XW G o B τ) 0 0 0 [(0, .ref x0), (1, .int x1), (2, .int x2), (3, .int x3), (4, .int x4)] []
  have hkn : 0 + c ≤ c ∧ 0 + s ≤ s := ⟨by omega, by omega⟩
  unfold x2_init at hf
  refine j_aload_n (pc := 0) M.1 dX2_init_0 0 rfl ?_
  refine j_objInit (pc := 1) M.1 q340 dX2_init_1 (M.room (by decide)) rfl ?_
  refine j_aload_n (pc := 4) M.1 dX2_init_4 0 rfl ?_
  refine j_iload_n (pc := 5) M.1 dX2_init_5 1 rfl ?_
  obtain ⟨τ1, g1, hf⟩ := o_bind hf
  refine jx_putW (pc := 6) M q341 xfw_X2_7 rfl rfl g1 dX2_init_6 ?_
  refine j_aload_n (pc := 9) M.1 dX2_init_9 0 rfl ?_
  refine j_iload_n (pc := 10) M.1 dX2_init_10 2 rfl ?_
  obtain ⟨τ2, g2, hf⟩ := o_bind hf
  refine jx_putW (pc := 11) M q342 xfw_X2_13 rfl rfl g2 dX2_init_11 ?_
  refine j_aload_n (pc := 14) M.1 dX2_init_14 0 rfl ?_
  refine j_iload_n (pc := 15) M.1 dX2_init_15 3 rfl ?_
  obtain ⟨τ3, g3, hf⟩ := o_bind hf
  refine jx_putW (pc := 16) M q343 xfw_X2_16 rfl rfl g3 dX2_init_16 ?_
  refine j_aload_n (pc := 19) M.1 dX2_init_19 0 rfl ?_
  refine j_iload (pc := 20) M.1 dX2_init_20 4 rfl ?_
  obtain ⟨τ4, g4, hf⟩ := o_bind hf
  refine jx_putW (pc := 22) M q344 xfw_X2_19 rfl rfl g4 dX2_init_22 ?_
  exact jx_vretF (pc := 25) M dX2_init_25 hf hkn
end
theorem dX0_isCell_0 : decode cX0_isCell 0 = .ok (.iload_n 1, 1) := by decide +kernel
theorem dX0_isCell_1 : decode cX0_isCell 1 = .ok (.aload_n 0, 1) := by decide +kernel
theorem dX0_isCell_2 : decode cX0_isCell 2 = .ok (.getfield 13, 3) := by decide +kernel
theorem dX0_isCell_5 : decode cX0_isCell 5 = .ok (.aload_n 0, 1) := by decide +kernel
theorem dX0_isCell_6 : decode cX0_isCell 6 = .ok (.getfield 19, 3) := by decide +kernel
theorem dX0_isCell_9 : decode cX0_isCell 9 = .ok (.imul, 1) := by decide +kernel
theorem dX0_isCell_10 : decode cX0_isCell 10 = .ok (.invokestatic 137, 3) := by decide +kernel
theorem dX0_isCell_13 : decode cX0_isCell 13 = .ok (.ireturn, 1) := by decide +kernel
section
variable {v : Int32}
noncomputable def x0_isCell (F : Nat) (x1 : Int32) (τ : XS) : XR Int32 :=
  (x0_in F x1 ((τ.1.1 0) * (τ.1.1 1))).bind (fun r1 => if okB r1 = true then some (r1, τ, 0, 0) else none)
theorem met_x0_isCell {l : Launch} {G : gG} {o B F : Nat} {x1 : Int32} {τ : XS} {r : Int32 × XS × Nat × Nat} (hf : x0_isCell F x1 τ = some r) : MetX l G o B yX0_isCell cX0_isCell 2 (some .boolean) 2 [.ref o, .int x1] τ (xQi G o B r.1 r.2.1) r.2.2.1 r.2.2.2 := by
  obtain ⟨v, τr, c, s⟩ := r
  refine metX_of (own := RX0) (mn := "isCell") (by decide) rfl rfl rfl (fun γ hγ M => ?_)
  subst hγ
  show J γ (XW G o B τ) 0 0 0 [(0, .ref o), (1, .int x1)] []
  have hkn : 0 + c ≤ c ∧ 0 + s ≤ s := ⟨by omega, by omega⟩
  unfold x0_isCell at hf
  refine j_iload_n (pc := 0) M.1 dX0_isCell_0 1 rfl ?_
  refine j_aload_n (pc := 1) M.1 dX0_isCell_1 0 rfl ?_
  refine jx_getS (pc := 2) M xfs_13 dX0_isCell_2 ?_
  refine j_aload_n (pc := 5) M.1 dX0_isCell_5 0 rfl ?_
  refine jx_getS (pc := 6) M xfs_19 dX0_isCell_6 ?_
  refine j_imul (pc := 9) M.1 dX0_isCell_9 ?_
  obtain ⟨r1, g1, hf⟩ := o_bind hf
  refine jx_calls (pc := 10) (As := [.int x1, .int ((τ.1.1 0) * (τ.1.1 1))]) (rest := []) M xcs_X0_137 (met_x0_in g1) rfl rfl rfl rfl dX0_isCell_10 (kn_le0 hkn) ?_
  obtain ⟨b1, hf⟩ := o_need hf
  exact jx_zretF (pc := 13) M dX0_isCell_13 b1 hf hkn
end
theorem dX0_between_0 : decode cX0_between 0 = .ok (.aload_n 0, 1) := by decide +kernel
theorem dX0_between_1 : decode cX0_between 1 = .ok (.iload_n 1, 1) := by decide +kernel
theorem dX0_between_2 : decode cX0_between 2 = .ok (.invokevirtual 161, 3) := by decide +kernel
theorem dX0_between_5 : decode cX0_between 5 = .ok (.ifCond .eq 41, 3) := by decide +kernel
theorem dX0_between_8 : decode cX0_between 8 = .ok (.aload_n 0, 1) := by decide +kernel
theorem dX0_between_9 : decode cX0_between 9 = .ok (.iload_n 2, 1) := by decide +kernel
theorem dX0_between_10 : decode cX0_between 10 = .ok (.invokevirtual 161, 3) := by decide +kernel
theorem dX0_between_13 : decode cX0_between 13 = .ok (.ifCond .eq 33, 3) := by decide +kernel
theorem dX0_between_16 : decode cX0_between 16 = .ok (.iload_n 1, 1) := by decide +kernel
theorem dX0_between_17 : decode cX0_between 17 = .ok (.aload_n 0, 1) := by decide +kernel
theorem dX0_between_18 : decode cX0_between 18 = .ok (.getfield 13, 3) := by decide +kernel
theorem dX0_between_21 : decode cX0_between 21 = .ok (.irem, 1) := by decide +kernel
theorem dX0_between_22 : decode cX0_between 22 = .ok (.iload_n 2, 1) := by decide +kernel
theorem dX0_between_23 : decode cX0_between 23 = .ok (.aload_n 0, 1) := by decide +kernel
theorem dX0_between_24 : decode cX0_between 24 = .ok (.getfield 13, 3) := by decide +kernel
theorem dX0_between_27 : decode cX0_between 27 = .ok (.irem, 1) := by decide +kernel
theorem dX0_between_28 : decode cX0_between 28 = .ok (.if_icmp .gt 18, 3) := by decide +kernel
theorem dX0_between_31 : decode cX0_between 31 = .ok (.iload_n 1, 1) := by decide +kernel
theorem dX0_between_32 : decode cX0_between 32 = .ok (.aload_n 0, 1) := by decide +kernel
theorem dX0_between_33 : decode cX0_between 33 = .ok (.getfield 13, 3) := by decide +kernel
theorem dX0_between_36 : decode cX0_between 36 = .ok (.idiv, 1) := by decide +kernel
theorem dX0_between_37 : decode cX0_between 37 = .ok (.iload_n 2, 1) := by decide +kernel
theorem dX0_between_38 : decode cX0_between 38 = .ok (.aload_n 0, 1) := by decide +kernel
theorem dX0_between_39 : decode cX0_between 39 = .ok (.getfield 13, 3) := by decide +kernel
theorem dX0_between_42 : decode cX0_between 42 = .ok (.idiv, 1) := by decide +kernel
theorem dX0_between_43 : decode cX0_between 43 = .ok (.if_icmp .le 5, 3) := by decide +kernel
theorem dX0_between_46 : decode cX0_between 46 = .ok (.aconst_null, 1) := by decide +kernel
theorem dX0_between_47 : decode cX0_between 47 = .ok (.areturn, 1) := by decide +kernel
theorem dX0_between_48 : decode cX0_between 48 = .ok (.new 164, 3) := by decide +kernel
theorem dX0_between_51 : decode cX0_between 51 = .ok (.dup, 1) := by decide +kernel
theorem dX0_between_52 : decode cX0_between 52 = .ok (.iload_n 1, 1) := by decide +kernel
theorem dX0_between_53 : decode cX0_between 53 = .ok (.aload_n 0, 1) := by decide +kernel
theorem dX0_between_54 : decode cX0_between 54 = .ok (.getfield 13, 3) := by decide +kernel
theorem dX0_between_57 : decode cX0_between 57 = .ok (.irem, 1) := by decide +kernel
theorem dX0_between_58 : decode cX0_between 58 = .ok (.iload_n 1, 1) := by decide +kernel
theorem dX0_between_59 : decode cX0_between 59 = .ok (.aload_n 0, 1) := by decide +kernel
theorem dX0_between_60 : decode cX0_between 60 = .ok (.getfield 13, 3) := by decide +kernel
theorem dX0_between_63 : decode cX0_between 63 = .ok (.idiv, 1) := by decide +kernel
theorem dX0_between_64 : decode cX0_between 64 = .ok (.iload_n 2, 1) := by decide +kernel
theorem dX0_between_65 : decode cX0_between 65 = .ok (.aload_n 0, 1) := by decide +kernel
theorem dX0_between_66 : decode cX0_between 66 = .ok (.getfield 13, 3) := by decide +kernel
theorem dX0_between_69 : decode cX0_between 69 = .ok (.irem, 1) := by decide +kernel
theorem dX0_between_70 : decode cX0_between 70 = .ok (.iload_n 2, 1) := by decide +kernel
theorem dX0_between_71 : decode cX0_between 71 = .ok (.aload_n 0, 1) := by decide +kernel
theorem dX0_between_72 : decode cX0_between 72 = .ok (.getfield 13, 3) := by decide +kernel
theorem dX0_between_75 : decode cX0_between 75 = .ok (.idiv, 1) := by decide +kernel
theorem dX0_between_76 : decode cX0_between 76 = .ok (.invokespecial 166, 3) := by decide +kernel
theorem dX0_between_79 : decode cX0_between 79 = .ok (.areturn, 1) := by decide +kernel
section
variable {v : Option Nat}
noncomputable def x0_between (F : Nat) (x1 : Int32) (x2 : Int32) (τ : XS) : XR (Option Nat) :=
  (x0_isCell F x1 τ).bind (fun r1 => tk r1.2.2.1 r1.2.2.2 (if r1.1 = 0 then (some (none, r1.2.1, 0, 0)) else ((x0_isCell F x2 r1.2.1).bind (fun r2 => tk r2.2.2.1 r2.2.2.2 (if r2.1 = 0 then (some (none, r2.2.1, 0, 0)) else (if ¬ (r2.2.1.1.1 0) = 0 then if ¬ (r2.2.1.1.1 0) = 0 then if (jrem x2 (r2.2.1.1.1 0)) < (jrem x1 (r2.2.1.1.1 0)) then (some (none, r2.2.1, 0, 0)) else (if ¬ (r2.2.1.1.1 0) = 0 then if ¬ (r2.2.1.1.1 0) = 0 then if (x1 / (r2.2.1.1.1 0)) ≤ (x2 / (r2.2.1.1.1 0)) then (nx (xN r2.2.1 (.inr (2, fun q => defaultValue (tyX2 q)))) (fun τ1 => tk 1 4 (if ¬ (τ1.1.1 0) = 0 then if ¬ (τ1.1.1 0) = 0 then if ¬ (τ1.1.1 0) = 0 then if ¬ (τ1.1.1 0) = 0 then (x2_init F r2.2.1.2.2.2.2 (jrem x1 (τ1.1.1 0)) (x1 / (τ1.1.1 0)) (jrem x2 (τ1.1.1 0)) (x2 / (τ1.1.1 0)) τ1).bind (fun r3 => tk r3.2.2.1 r3.2.2.2 (some (some r2.2.1.2.2.2.2, r3.2.1, 0, 0))) else none else none else none else none))) else (some (none, r2.2.1, 0, 0)) else none else none) else none else none))))))
theorem met_x0_between {l : Launch} {G : gG} {o B F : Nat} {x1 : Int32} {x2 : Int32} {τ : XS} {r : Option Nat × XS × Nat × Nat} (hf : x0_between F x1 x2 τ = some r) : MetX l G o B yX0_between cX0_between 3 (some (.object "AshCity$Rectangle")) 3 [.ref o, .int x1, .int x2] τ (xQq G o B r.1 r.2.1) r.2.2.1 r.2.2.2 := by
  obtain ⟨v, τr, c, s⟩ := r
  refine metX_of (own := RX0) (mn := "between") (by decide) rfl rfl rfl (fun γ hγ M => ?_)
  subst hγ
  show J γ (XW G o B τ) 0 0 0 [(0, .ref o), (1, .int x1), (2, .int x2)] []
  have hkn : 0 + c ≤ c ∧ 0 + s ≤ s := ⟨by omega, by omega⟩
  unfold x0_between at hf
  refine j_aload_n (pc := 0) M.1 dX0_between_0 0 rfl ?_
  refine j_iload_n (pc := 1) M.1 dX0_between_1 1 rfl ?_
  obtain ⟨r1, g1, hf⟩ := o_bind hf
  obtain ⟨c1, s1, hf, hc1, hs1⟩ := o_tk hf
  replace hkn := kn_step hkn hc1 hs1
  refine jx_i M (x_runV (pc := 2) (As := [.int x1]) (rest := []) (V := xV o τ) M xcw_X0_161 (met_x0_isCell g1) (fun H h => h.1 o _ xH_o) (by decide) rfl rfl rfl dX0_between_2 (kn_le hkn)) ?_
  refine j_if_eq (pc := 5) M.1 46 dX0_between_5 rfl (fun b1 => ?_) (fun b1 => ?_)
  · replace hf := o_pos b1 hf
    refine j_null (pc := 46) M.1 dX0_between_46 ?_
    exact jx_aretF (pc := 47) (w := none) M dX0_between_47 hf hkn
  · replace hf := o_neg b1 hf
    refine j_aload_n (pc := 8) M.1 dX0_between_8 0 rfl ?_
    refine j_iload_n (pc := 9) M.1 dX0_between_9 2 rfl ?_
    obtain ⟨r2, g2, hf⟩ := o_bind hf
    obtain ⟨c2, s2, hf, hc2, hs2⟩ := o_tk hf
    replace hkn := kn_step hkn hc2 hs2
    refine jx_i M (x_runV (pc := 10) (As := [.int x2]) (rest := []) (V := xV o r1.2.1) M xcw_X0_161 (met_x0_isCell g2) (fun H h => h.1 o _ xH_o) (by decide) rfl rfl rfl dX0_between_10 (kn_le hkn)) ?_
    refine j_if_eq (pc := 13) M.1 46 dX0_between_13 rfl (fun b2 => ?_) (fun b2 => ?_)
    · replace hf := o_pos b2 hf
      refine j_null (pc := 46) M.1 dX0_between_46 ?_
      exact jx_aretF (pc := 47) (w := none) M dX0_between_47 hf hkn
    · replace hf := o_neg b2 hf
      refine j_iload_n (pc := 16) M.1 dX0_between_16 1 rfl ?_
      refine j_aload_n (pc := 17) M.1 dX0_between_17 0 rfl ?_
      refine jx_getS (pc := 18) M xfs_13 dX0_between_18 ?_
      obtain ⟨b3, hf⟩ := o_need hf
      refine j_irem (pc := 21) M.1 dX0_between_21 b3 ?_
      refine j_iload_n (pc := 22) M.1 dX0_between_22 2 rfl ?_
      refine j_aload_n (pc := 23) M.1 dX0_between_23 0 rfl ?_
      refine jx_getS (pc := 24) M xfs_13 dX0_between_24 ?_
      obtain ⟨b4, hf⟩ := o_need hf
      refine j_irem (pc := 27) M.1 dX0_between_27 b4 ?_
      refine j_icmp_gt (pc := 28) M.1 46 dX0_between_28 rfl (fun b5 => ?_) (fun b5 => ?_)
      · replace hf := o_pos b5 hf
        refine j_null (pc := 46) M.1 dX0_between_46 ?_
        exact jx_aretF (pc := 47) (w := none) M dX0_between_47 hf hkn
      · replace hf := o_neg b5 hf
        refine j_iload_n (pc := 31) M.1 dX0_between_31 1 rfl ?_
        refine j_aload_n (pc := 32) M.1 dX0_between_32 0 rfl ?_
        refine jx_getS (pc := 33) M xfs_13 dX0_between_33 ?_
        obtain ⟨b6, hf⟩ := o_need hf
        refine j_idiv (pc := 36) M.1 dX0_between_36 b6 ?_
        refine j_iload_n (pc := 37) M.1 dX0_between_37 2 rfl ?_
        refine j_aload_n (pc := 38) M.1 dX0_between_38 0 rfl ?_
        refine jx_getS (pc := 39) M xfs_13 dX0_between_39 ?_
        obtain ⟨b7, hf⟩ := o_need hf
        refine j_idiv (pc := 42) M.1 dX0_between_42 b7 ?_
        refine j_icmp_le (pc := 43) M.1 48 dX0_between_43 rfl (fun b8 => ?_) (fun b8 => ?_)
        · replace hf := o_pos b8 hf
          obtain ⟨τ1, e1, hf⟩ := o_nx hf
          obtain ⟨c3, s3, hf, hc3, hs3⟩ := o_tk hf
          replace hkn := kn_step hkn hc3 hs3
          refine jx_new (pc := 48) M xnew_X0_164 dX0_between_48 (kn_le hkn) e1 ?_
          refine j_dup (pc := 51) M.1 dX0_between_51 rfl ?_
          refine j_iload_n (pc := 52) M.1 dX0_between_52 1 rfl ?_
          refine j_aload_n (pc := 53) M.1 dX0_between_53 0 rfl ?_
          refine jx_getS (pc := 54) M xfs_13 dX0_between_54 ?_
          obtain ⟨b9, hf⟩ := o_need hf
          refine j_irem (pc := 57) M.1 dX0_between_57 b9 ?_
          refine j_iload_n (pc := 58) M.1 dX0_between_58 1 rfl ?_
          refine j_aload_n (pc := 59) M.1 dX0_between_59 0 rfl ?_
          refine jx_getS (pc := 60) M xfs_13 dX0_between_60 ?_
          obtain ⟨b10, hf⟩ := o_need hf
          refine j_idiv (pc := 63) M.1 dX0_between_63 b10 ?_
          refine j_iload_n (pc := 64) M.1 dX0_between_64 2 rfl ?_
          refine j_aload_n (pc := 65) M.1 dX0_between_65 0 rfl ?_
          refine jx_getS (pc := 66) M xfs_13 dX0_between_66 ?_
          obtain ⟨b11, hf⟩ := o_need hf
          refine j_irem (pc := 69) M.1 dX0_between_69 b11 ?_
          refine j_iload_n (pc := 70) M.1 dX0_between_70 2 rfl ?_
          refine j_aload_n (pc := 71) M.1 dX0_between_71 0 rfl ?_
          refine jx_getS (pc := 72) M xfs_13 dX0_between_72 ?_
          obtain ⟨b12, hf⟩ := o_need hf
          refine j_idiv (pc := 75) M.1 dX0_between_75 b12 ?_
          obtain ⟨r3, g3, hf⟩ := o_bind hf
          obtain ⟨c4, s4, hf, hc4, hs4⟩ := o_tk hf
          replace hkn := kn_step hkn hc4 hs4
          refine jx_v (r := r3.1) M (x_runI (pc := 76) (As := [.int (jrem x1 (τ1.1.1 0)), .int (x1 / (τ1.1.1 0)), .int (jrem x2 (τ1.1.1 0)), .int (x2 / (τ1.1.1 0))]) (rest := [.ref r2.2.1.2.2.2.2]) M xci_X0_166 (met_x2_init g3) (by decide) rfl rfl rfl dX0_between_76 (kn_le hkn)) ?_
          exact jx_aretF (pc := 79) (w := some r2.2.1.2.2.2.2) M dX0_between_79 hf hkn
        · replace hf := o_neg b8 hf
          refine j_null (pc := 46) M.1 dX0_between_46 ?_
          exact jx_aretF (pc := 47) (w := none) M dX0_between_47 hf hkn
end
theorem dX0_place_0 : decode cX0_place 0 = .ok (.aload_n 0, 1) := by decide +kernel
theorem dX0_place_1 : decode cX0_place 1 = .ok (.iload_n 2, 1) := by decide +kernel
theorem dX0_place_2 : decode cX0_place 2 = .ok (.iload_n 3, 1) := by decide +kernel
theorem dX0_place_3 : decode cX0_place 3 = .ok (.invokevirtual 169, 3) := by decide +kernel
theorem dX0_place_6 : decode cX0_place 6 = .ok (.astore 4, 2) := by decide +kernel
theorem dX0_place_8 : decode cX0_place 8 = .ok (.iload_n 1, 1) := by decide +kernel
theorem dX0_place_9 : decode cX0_place 9 = .ok (.iconst 3, 1) := by decide +kernel
theorem dX0_place_10 : decode cX0_place 10 = .ok (.invokestatic 137, 3) := by decide +kernel
theorem dX0_place_13 : decode cX0_place 13 = .ok (.ifCond .eq 17, 3) := by decide +kernel
theorem dX0_place_16 : decode cX0_place 16 = .ok (.aload 4, 2) := by decide +kernel
theorem dX0_place_18 : decode cX0_place 18 = .ok (.ifnull 12, 3) := by decide +kernel
theorem dX0_place_21 : decode cX0_place 21 = .ok (.aload_n 0, 1) := by decide +kernel
theorem dX0_place_22 : decode cX0_place 22 = .ok (.getfield 141, 3) := by decide +kernel
theorem dX0_place_25 : decode cX0_place 25 = .ok (.bipush 30, 2) := by decide +kernel
theorem dX0_place_27 : decode cX0_place 27 = .ok (.if_icmp .ne 5, 3) := by decide +kernel
theorem dX0_place_30 : decode cX0_place 30 = .ok (.iconst (-1), 1) := by decide +kernel
theorem dX0_place_31 : decode cX0_place 31 = .ok (.ireturn, 1) := by decide +kernel
theorem dX0_place_32 : decode cX0_place 32 = .ok (.iconst 0, 1) := by decide +kernel
theorem dX0_place_33 : decode cX0_place 33 = .ok (.istore 5, 2) := by decide +kernel
theorem dX0_place_35 : decode cX0_place 35 = .ok (.iload 5, 2) := by decide +kernel
theorem dX0_place_37 : decode cX0_place 37 = .ok (.aload_n 0, 1) := by decide +kernel
theorem dX0_place_38 : decode cX0_place 38 = .ok (.getfield 141, 3) := by decide +kernel
theorem dX0_place_41 : decode cX0_place 41 = .ok (.if_icmp .ge 29, 3) := by decide +kernel
theorem dX0_place_44 : decode cX0_place 44 = .ok (.aload_n 0, 1) := by decide +kernel
theorem dX0_place_45 : decode cX0_place 45 = .ok (.getfield 24, 3) := by decide +kernel
theorem dX0_place_48 : decode cX0_place 48 = .ok (.iload 5, 2) := by decide +kernel
theorem dX0_place_50 : decode cX0_place 50 = .ok (.aaload, 1) := by decide +kernel
theorem dX0_place_51 : decode cX0_place 51 = .ok (.getfield 173, 3) := by decide +kernel
theorem dX0_place_54 : decode cX0_place 54 = .ok (.aload 4, 2) := by decide +kernel
theorem dX0_place_56 : decode cX0_place 56 = .ok (.invokevirtual 177, 3) := by decide +kernel
theorem dX0_place_59 : decode cX0_place 59 = .ok (.ifCond .eq 5, 3) := by decide +kernel
theorem dX0_place_62 : decode cX0_place 62 = .ok (.iconst (-1), 1) := by decide +kernel
theorem dX0_place_63 : decode cX0_place 63 = .ok (.ireturn, 1) := by decide +kernel
theorem dX0_place_64 : decode cX0_place 64 = .ok (.iinc 5 1, 3) := by decide +kernel
theorem dX0_place_67 : decode cX0_place 67 = .ok (.goto (-32), 3) := by decide +kernel
theorem dX0_place_70 : decode cX0_place 70 = .ok (.aload_n 0, 1) := by decide +kernel
theorem dX0_place_71 : decode cX0_place 71 = .ok (.getfield 24, 3) := by decide +kernel
theorem dX0_place_74 : decode cX0_place 74 = .ok (.aload_n 0, 1) := by decide +kernel
theorem dX0_place_75 : decode cX0_place 75 = .ok (.getfield 141, 3) := by decide +kernel
theorem dX0_place_78 : decode cX0_place 78 = .ok (.new 22, 3) := by decide +kernel
theorem dX0_place_81 : decode cX0_place 81 = .ok (.dup, 1) := by decide +kernel
theorem dX0_place_82 : decode cX0_place 82 = .ok (.aload_n 0, 1) := by decide +kernel
theorem dX0_place_83 : decode cX0_place 83 = .ok (.getfield 141, 3) := by decide +kernel
theorem dX0_place_86 : decode cX0_place 86 = .ok (.iload_n 1, 1) := by decide +kernel
theorem dX0_place_87 : decode cX0_place 87 = .ok (.aload 4, 2) := by decide +kernel
theorem dX0_place_89 : decode cX0_place 89 = .ok (.invokespecial 181, 3) := by decide +kernel
theorem dX0_place_92 : decode cX0_place 92 = .ok (.aastore, 1) := by decide +kernel
theorem dX0_place_93 : decode cX0_place 93 = .ok (.aload_n 0, 1) := by decide +kernel
theorem dX0_place_94 : decode cX0_place 94 = .ok (.dup, 1) := by decide +kernel
theorem dX0_place_95 : decode cX0_place 95 = .ok (.getfield 141, 3) := by decide +kernel
theorem dX0_place_98 : decode cX0_place 98 = .ok (.iconst 1, 1) := by decide +kernel
theorem dX0_place_99 : decode cX0_place 99 = .ok (.iadd, 1) := by decide +kernel
theorem dX0_place_100 : decode cX0_place 100 = .ok (.putfield 141, 3) := by decide +kernel
theorem dX0_place_103 : decode cX0_place 103 = .ok (.aload_n 0, 1) := by decide +kernel
theorem dX0_place_104 : decode cX0_place 104 = .ok (.getfield 141, 3) := by decide +kernel
theorem dX0_place_107 : decode cX0_place 107 = .ok (.iconst 1, 1) := by decide +kernel
theorem dX0_place_108 : decode cX0_place 108 = .ok (.isub, 1) := by decide +kernel
theorem dX0_place_109 : decode cX0_place 109 = .ok (.ireturn, 1) := by decide +kernel
section
variable {v : Int32}
noncomputable def x0_place_B35 (F : Nat) (K70 : Int32 × XS → XR Int32) (x1 : Int32) (x4 : Option Nat) (R : Int32 × XS → XR Int32) (a : Int32 × XS) : XR Int32 :=
  if (a.2.1.1 3) ≤ a.1 then (K70 (a.1, a.2)) else (if okI a.1 30 = true then (a.2.2.1 0 a.1.toNatClampNeg).bind (fun n1 => (gN a.2 n1 [3] 2).bind (fun n2 => (x4).bind (fun a1 => if isC a.2 n2 [2] = true then (x2_meets F n2 a1 a.2).bind (fun r1 => tk r1.2.2.1 r1.2.2.2 (if r1.1 = 0 then (R (a.1 + 1, r1.2.1)) else (some ((-1), r1.2.1, 0, 0)))) else none))) else none)
theorem kx0_place_B35 (M : XC γ cX0_place 6 RX0 "place" G o B 4 (some .int) (xQi G o B v τr) c0 s0) (x1 : Int32) (x4 : Option Nat) (K70 : Int32 × XS → XR Int32) (hK70 : ∀ a c s, K70 a = some (v, τr, c, s) → ∀ k n, k + c ≤ c0 ∧ n + s ≤ s0 → J γ (XW G o B a.2) k n 70 [(0, .ref o), (1, .int x1), (4, va_rf x4)] []) : ∀ R : Int32 × XS → XR Int32, (∀ a c s, R a = some (v, τr, c, s) → ∀ k n, k + c ≤ c0 ∧ n + s ≤ s0 → J γ (XW G o B a.2) k n 35 [(0, .ref o), (1, .int x1), (4, va_rf x4), (5, .int a.1)] []) → ∀ a c s, x0_place_B35 F K70 x1 x4 R a = some (v, τr, c, s) → ∀ k n, k + c ≤ c0 ∧ n + s ≤ s0 → J γ (XW G o B a.2) k n 35 [(0, .ref o), (1, .int x1), (4, va_rf x4), (5, .int a.1)] [] := by
  intro R hR a c s hf k n hkn
  unfold x0_place_B35 at hf
  refine j_iload (pc := 35) M.1 dX0_place_35 3 rfl ?_
  refine j_aload_n (pc := 37) M.1 dX0_place_37 0 rfl ?_
  refine jx_getS (pc := 38) M xfs_141 dX0_place_38 ?_
  refine j_icmp_ge (pc := 41) M.1 70 dX0_place_41 rfl (fun b1 => ?_) (fun b1 => ?_)
  · replace hf := o_pos b1 hf
    refine j_sub [0, 1, 2] (show lv_pick _ _ = [(0, .ref o), (1, .int x1), (4, va_rf x4)] from rfl) ?_
    have hy := hK70 _ _ _ hf _ _ hkn
    exact hy
  · replace hf := o_neg b1 hf
    refine j_aload_n (pc := 44) M.1 dX0_place_44 0 rfl ?_
    refine jx_getA (pc := 45) M xfa_24 dX0_place_45 ?_
    refine j_iload (pc := 48) M.1 dX0_place_48 3 rfl ?_
    obtain ⟨b2, hf⟩ := o_need hf
    obtain ⟨n1, g1, hf⟩ := o_bind hf
    refine jx_aald (pc := 50) M xax_0 (by decide) xrt_3 b2 g1 dX0_place_50 ?_
    obtain ⟨n2, g2, hf⟩ := o_bind hf
    refine jx_getN (pc := 51) M xfl_X0_173 g2 dX0_place_51 ?_
    refine j_aloadq (pc := 54) M.1 dX0_place_54 2 rfl ?_
    obtain ⟨a1, hq1, hf⟩ := o_bind hf
    refine j_st (show _ = [.ref a1, .ref n2] by simp only [hq1, va_rf]) ?_
    obtain ⟨b3, hf⟩ := o_need hf
    obtain ⟨r1, g3, hf⟩ := o_bind hf
    obtain ⟨c1, s1, hf, hc1, hs1⟩ := o_tk hf
    replace hkn := kn_step hkn hc1 hs1
    refine jx_i M (x_runW (pc := 56) (As := [.ref a1]) (rest := []) M xcw_X0_177 (met_x2_meets g3) b3 (by decide) rfl rfl rfl dX0_place_56 (kn_le hkn)) ?_
    refine j_if_eq (pc := 59) M.1 64 dX0_place_59 rfl (fun b4 => ?_) (fun b4 => ?_)
    · replace hf := o_pos b4 hf
      refine j_iinc (pc := 64) M.1 [(5, .int (a.1 + 1)), (0, .ref o), (1, .int x1), (4, va_rf x4)] dX0_place_64 3 rfl (congrArg _ kc_iconst_1) rfl (by cases x4 <;> rfl) ?_
      refine j_goto (pc := 67) M.1 35 dX0_place_67 rfl ?_
      refine j_sub [1, 2, 3, 0] (show lv_pick _ _ = [(0, .ref o), (1, .int x1), (4, va_rf x4), (5, .int (a.1 + 1))] from rfl) ?_
      have hy := hR _ _ _ hf _ _ hkn
      exact hy
    · replace hf := o_neg b4 hf
      refine j_iconst (pc := 62) M.1 dX0_place_62 kc_iconst_m1 ?_
      exact jx_iretF (pc := 63) M dX0_place_63 hf hkn
noncomputable def x0_place (F : Nat) (x1 : Int32) (x2 : Int32) (x3 : Int32) (τ : XS) : XR Int32 :=
  (x0_between F x2 x3 τ).bind (fun r1 => tk r1.2.2.1 r1.2.2.2 ((x0_in F x1 3).bind (fun r2 => if r2 = 0 then (some ((-1), r1.2.1, 0, 0)) else (if r1.1 = none then (some ((-1), r1.2.1, 0, 0)) else (if (r1.2.1.1.1 3) = 30 then (some ((-1), r1.2.1, 0, 0)) else (lp (x0_place_B35 F (fun a1 => nx (xN a1.2 (.inr (3, fun q => defaultValue (tyX3 q)))) (fun τ1 => tk 1 3 ((r1.1).bind (fun a2 => (x3_init F a1.2.2.2.2.2 (τ1.1.1 3) x1 a2 τ1).bind (fun r3 => tk r3.2.2.1 r3.2.2.2 (if isC r3.2.1 a1.2.2.2.2.2 [3] = true then if okI (a1.2.1.1 3) 30 = true then nx (xR r3.2.1 0 (a1.2.1.1 3).toNatClampNeg (some a1.2.2.2.2.2)) (fun τ2 => nx (xS τ2 3 ((τ2.1.1 3) + 1)) (fun τ3 => some ((τ3.1.1 3) - 1, τ3, 0, 0))) else none else none)))))) x1 r1.1) F (0, r1.2.1)))))))
theorem met_x0_place {l : Launch} {G : gG} {o B F : Nat} {x1 : Int32} {x2 : Int32} {x3 : Int32} {τ : XS} {r : Int32 × XS × Nat × Nat} (hf : x0_place F x1 x2 x3 τ = some r) : MetX l G o B yX0_place cX0_place 6 (some .int) 4 [.ref o, .int x1, .int x2, .int x3] τ (xQi G o B r.1 r.2.1) r.2.2.1 r.2.2.2 := by
  obtain ⟨v, τr, c, s⟩ := r
  refine metX_of (own := RX0) (mn := "place") (by decide) rfl rfl rfl (fun γ hγ M => ?_)
  subst hγ
  show J γ (XW G o B τ) 0 0 0 [(0, .ref o), (1, .int x1), (2, .int x2), (3, .int x3)] []
  have hkn : 0 + c ≤ c ∧ 0 + s ≤ s := ⟨by omega, by omega⟩
  unfold x0_place at hf
  refine j_aload_n (pc := 0) M.1 dX0_place_0 0 rfl ?_
  refine j_iload_n (pc := 1) M.1 dX0_place_1 2 rfl ?_
  refine j_iload_n (pc := 2) M.1 dX0_place_2 3 rfl ?_
  obtain ⟨r1, g1, hf⟩ := o_bind hf
  obtain ⟨c1, s1, hf, hc1, hs1⟩ := o_tk hf
  replace hkn := kn_step hkn hc1 hs1
  refine jx_q M (x_runV (pc := 3) (As := [.int x2, .int x3]) (rest := []) (V := xV o τ) M xcw_X0_169 (met_x0_between g1) (fun H h => h.1 o _ xH_o) (by decide) rfl rfl rfl dX0_place_3 (kn_le hkn)) ?_
  refine j_astoreq (pc := 6) M.1 [(4, va_rf r1.1), (0, .ref o), (1, .int x1), (2, .int x2), (3, .int x3)] dX0_place_6 rfl rfl ?_
  refine j_iload_n (pc := 8) M.1 dX0_place_8 2 rfl ?_
  refine j_iconst (pc := 9) M.1 dX0_place_9 kc_iconst_3 ?_
  obtain ⟨r2, g2, hf⟩ := o_bind hf
  refine jx_calls (pc := 10) (As := [.int x1, .int 3]) (rest := []) M xcs_X0_137 (met_x0_in g2) rfl rfl rfl rfl dX0_place_10 (kn_le0 hkn) ?_
  refine j_if_eq (pc := 13) M.1 30 dX0_place_13 rfl (fun b1 => ?_) (fun b1 => ?_)
  · replace hf := o_pos b1 hf
    refine j_iconst (pc := 30) M.1 dX0_place_30 kc_iconst_m1 ?_
    exact jx_iretF (pc := 31) M dX0_place_31 hf hkn
  · replace hf := o_neg b1 hf
    refine j_aloadq (pc := 16) M.1 dX0_place_16 0 rfl ?_
    refine j_ifnull (pc := 18) (x := r1.1) M.1 30 dX0_place_18 rfl (fun b2 => ?_) (fun b2 => ?_)
    · replace hf := o_pos b2 hf
      refine j_iconst (pc := 30) M.1 dX0_place_30 kc_iconst_m1 ?_
      exact jx_iretF (pc := 31) M dX0_place_31 hf hkn
    · replace hf := o_neg b2 hf
      refine j_aload_n (pc := 21) M.1 dX0_place_21 1 rfl ?_
      refine jx_getS (pc := 22) M xfs_141 dX0_place_22 ?_
      refine j_bipush (pc := 25) M.1 dX0_place_25 kc_bipush_30 ?_
      refine j_icmp_ne (pc := 27) M.1 32 dX0_place_27 rfl (fun b3 => ?_) (fun b3 => ?_)
      · replace hf := o_neg b3 hf
        refine j_iconst (pc := 32) M.1 dX0_place_32 kc_iconst_0 ?_
        refine j_istore (pc := 33) M.1 [(5, .int 0), (4, va_rf r1.1), (0, .ref o), (1, .int x1), (2, .int x2), (3, .int x3)] dX0_place_33 rfl (by cases r1.1 <;> rfl) ?_
        refine j_sub [2, 3, 1, 0] (show lv_pick _ _ = [(0, .ref o), (1, .int x1), (4, va_rf r1.1), (5, .int 0)] from rfl) ?_
        refine lp_Wc (kx0_place_B35 M x1 r1.1 _ ?_) F (0, r1.2.1) _ _ hf _ _ hkn
        · intro a1 c s hf k n hkn
          refine j_aload_n (pc := 70) M.1 dX0_place_70 0 rfl ?_
          refine jx_getA (pc := 71) M xfa_24 dX0_place_71 ?_
          refine j_aload_n (pc := 74) M.1 dX0_place_74 0 rfl ?_
          refine jx_getS (pc := 75) M xfs_141 dX0_place_75 ?_
          obtain ⟨τ1, e1, hf⟩ := o_nx hf
          obtain ⟨c2, s2, hf, hc2, hs2⟩ := o_tk hf
          replace hkn := kn_step hkn hc2 hs2
          refine jx_new (pc := 78) M xnew_X0_22 dX0_place_78 (kn_le hkn) e1 ?_
          refine j_dup (pc := 81) M.1 dX0_place_81 rfl ?_
          refine j_aload_n (pc := 82) M.1 dX0_place_82 0 rfl ?_
          refine jx_getS (pc := 83) M xfs_141 dX0_place_83 ?_
          refine j_iload_n (pc := 86) M.1 dX0_place_86 1 rfl ?_
          refine j_aloadq (pc := 87) M.1 dX0_place_87 2 rfl ?_
          obtain ⟨a2, hq1, hf⟩ := o_bind hf
          refine j_st (show _ = [.ref a2, .int x1, .int (τ1.1.1 3), .ref a1.2.2.2.2.2, .ref a1.2.2.2.2.2, .int (a1.2.1.1 3), .ref (o + 1 + 0)] by simp only [hq1, va_rf]) ?_
          obtain ⟨r3, g3, hf⟩ := o_bind hf
          obtain ⟨c3, s3, hf, hc3, hs3⟩ := o_tk hf
          replace hkn := kn_step hkn hc3 hs3
          refine jx_v (r := r3.1) M (x_runI (pc := 89) (As := [.int (τ1.1.1 3), .int x1, .ref a2]) (rest := [.ref a1.2.2.2.2.2, .int (a1.2.1.1 3), .ref (o + 1 + 0)]) M xci_X0_181 (met_x3_init g3) (by decide) rfl rfl rfl dX0_place_89 (kn_le hkn)) ?_
          obtain ⟨b4, hf⟩ := o_need hf
          obtain ⟨b5, hf⟩ := o_need hf
          obtain ⟨τ2, e2, hf⟩ := o_nx hf
          refine jx_aast (pc := 92) M xax_0 (by decide) (by decide) xel_3 b4 b5 dX0_place_92 e2 ?_
          refine j_aload_n (pc := 93) M.1 dX0_place_93 0 rfl ?_
          refine j_dup (pc := 94) M.1 dX0_place_94 rfl ?_
          refine jx_getS (pc := 95) M xfs_141 dX0_place_95 ?_
          refine j_iconst (pc := 98) M.1 dX0_place_98 kc_iconst_1 ?_
          refine j_iadd (pc := 99) M.1 dX0_place_99 ?_
          obtain ⟨τ3, e3, hf⟩ := o_nx hf
          refine jx_putS (pc := 100) M xfs_141 dX0_place_100 e3 ?_
          refine j_aload_n (pc := 103) M.1 dX0_place_103 0 rfl ?_
          refine jx_getS (pc := 104) M xfs_141 dX0_place_104 ?_
          refine j_iconst (pc := 107) M.1 dX0_place_107 kc_iconst_1 ?_
          refine j_isub (pc := 108) M.1 dX0_place_108 ?_
          exact jx_iretF (pc := 109) M dX0_place_109 hf hkn
      · replace hf := o_pos b3 hf
        refine j_iconst (pc := 30) M.1 dX0_place_30 kc_iconst_m1 ?_
        exact jx_iretF (pc := 31) M dX0_place_31 hf hkn
end
theorem dX2_has_0 : decode cX2_has 0 = .ok (.iload_n 1, 1) := by decide +kernel
theorem dX2_has_1 : decode cX2_has 1 = .ok (.aload_n 0, 1) := by decide +kernel
theorem dX2_has_2 : decode cX2_has 2 = .ok (.getfield 7, 3) := by decide +kernel
theorem dX2_has_5 : decode cX2_has 5 = .ok (.aload_n 0, 1) := by decide +kernel
theorem dX2_has_6 : decode cX2_has 6 = .ok (.getfield 16, 3) := by decide +kernel
theorem dX2_has_9 : decode cX2_has 9 = .ok (.invokestatic 22, 3) := by decide +kernel
theorem dX2_has_12 : decode cX2_has 12 = .ok (.ifCond .eq 22, 3) := by decide +kernel
theorem dX2_has_15 : decode cX2_has 15 = .ok (.iload_n 2, 1) := by decide +kernel
theorem dX2_has_16 : decode cX2_has 16 = .ok (.aload_n 0, 1) := by decide +kernel
theorem dX2_has_17 : decode cX2_has 17 = .ok (.getfield 13, 3) := by decide +kernel
theorem dX2_has_20 : decode cX2_has 20 = .ok (.aload_n 0, 1) := by decide +kernel
theorem dX2_has_21 : decode cX2_has 21 = .ok (.getfield 19, 3) := by decide +kernel
theorem dX2_has_24 : decode cX2_has 24 = .ok (.invokestatic 22, 3) := by decide +kernel
theorem dX2_has_27 : decode cX2_has 27 = .ok (.ifCond .eq 7, 3) := by decide +kernel
theorem dX2_has_30 : decode cX2_has 30 = .ok (.iconst 1, 1) := by decide +kernel
theorem dX2_has_31 : decode cX2_has 31 = .ok (.goto 4, 3) := by decide +kernel
theorem dX2_has_34 : decode cX2_has 34 = .ok (.iconst 0, 1) := by decide +kernel
theorem dX2_has_35 : decode cX2_has 35 = .ok (.ireturn, 1) := by decide +kernel
section
variable {v : Int32}
noncomputable def x2_has (F : Nat) (x0 : Nat) (x1 : Int32) (x2 : Int32) (τ : XS) : XR Int32 :=
  (gI τ x0 [2] 0).bind (fun v1 => (gI τ x0 [2] 2).bind (fun v2 => (x0_within F x1 v1 v2).bind (fun r1 => if r1 = 0 then (some (0, τ, 0, 0)) else ((gI τ x0 [2] 1).bind (fun v3 => (gI τ x0 [2] 3).bind (fun v4 => (x0_within F x2 v3 v4).bind (fun r2 => if r2 = 0 then (some (0, τ, 0, 0)) else (some (1, τ, 0, 0)))))))))
theorem met_x2_has {l : Launch} {G : gG} {o B F : Nat} {x0 : Nat} {x1 : Int32} {x2 : Int32} {τ : XS} {r : Int32 × XS × Nat × Nat} (hf : x2_has F x0 x1 x2 τ = some r) : MetX l G o B yX2_has cX2_has 3 (some .boolean) 2 [.ref x0, .int x1, .int x2] τ (xQi G o B r.1 r.2.1) r.2.2.1 r.2.2.2 := by
  obtain ⟨v, τr, c, s⟩ := r
  refine metX_of (own := RX2) (mn := "has") (by decide) rfl rfl rfl (fun γ hγ M => ?_)
  subst hγ
  show J γ (XW G o B τ) 0 0 0 [(0, .ref x0), (1, .int x1), (2, .int x2)] []
  have hkn : 0 + c ≤ c ∧ 0 + s ≤ s := ⟨by omega, by omega⟩
  unfold x2_has at hf
  refine j_iload_n (pc := 0) M.1 dX2_has_0 1 rfl ?_
  refine j_aload_n (pc := 1) M.1 dX2_has_1 0 rfl ?_
  obtain ⟨v1, g1, hf⟩ := o_bind hf
  refine jx_getI (pc := 2) M xfl_X2_7 g1 dX2_has_2 ?_
  refine j_aload_n (pc := 5) M.1 dX2_has_5 0 rfl ?_
  obtain ⟨v2, g2, hf⟩ := o_bind hf
  refine jx_getI (pc := 6) M xfl_X2_16 g2 dX2_has_6 ?_
  obtain ⟨r1, g3, hf⟩ := o_bind hf
  refine jx_callsN (pc := 9) (As := [.int x1, .int v1, .int v2]) (rest := []) M xcn_X2_22 (met_x0_within g3) rfl rfl rfl rfl dX2_has_9 (kn_le0 hkn) ?_
  refine j_if_eq (pc := 12) M.1 34 dX2_has_12 rfl (fun b1 => ?_) (fun b1 => ?_)
  · replace hf := o_pos b1 hf
    refine j_iconst (pc := 34) M.1 dX2_has_34 kc_iconst_0 ?_
    exact jx_zretF (pc := 35) M dX2_has_35 rfl hf hkn
  · replace hf := o_neg b1 hf
    refine j_iload_n (pc := 15) M.1 dX2_has_15 2 rfl ?_
    refine j_aload_n (pc := 16) M.1 dX2_has_16 0 rfl ?_
    obtain ⟨v3, g4, hf⟩ := o_bind hf
    refine jx_getI (pc := 17) M xfl_X2_13 g4 dX2_has_17 ?_
    refine j_aload_n (pc := 20) M.1 dX2_has_20 0 rfl ?_
    obtain ⟨v4, g5, hf⟩ := o_bind hf
    refine jx_getI (pc := 21) M xfl_X2_19 g5 dX2_has_21 ?_
    obtain ⟨r2, g6, hf⟩ := o_bind hf
    refine jx_callsN (pc := 24) (As := [.int x2, .int v3, .int v4]) (rest := []) M xcn_X2_22 (met_x0_within g6) rfl rfl rfl rfl dX2_has_24 (kn_le0 hkn) ?_
    refine j_if_eq (pc := 27) M.1 34 dX2_has_27 rfl (fun b2 => ?_) (fun b2 => ?_)
    · replace hf := o_pos b2 hf
      refine j_iconst (pc := 34) M.1 dX2_has_34 kc_iconst_0 ?_
      exact jx_zretF (pc := 35) M dX2_has_35 rfl hf hkn
    · replace hf := o_neg b2 hf
      refine j_iconst (pc := 30) M.1 dX2_has_30 kc_iconst_1 ?_
      refine j_goto (pc := 31) M.1 35 dX2_has_31 rfl ?_
      exact jx_zretF (pc := 35) M dX2_has_35 rfl hf hkn
end
theorem dX0_placeOf_0 : decode cX0_placeOf 0 = .ok (.aload_n 0, 1) := by decide +kernel
theorem dX0_placeOf_1 : decode cX0_placeOf 1 = .ok (.iload_n 1, 1) := by decide +kernel
theorem dX0_placeOf_2 : decode cX0_placeOf 2 = .ok (.invokevirtual 161, 3) := by decide +kernel
theorem dX0_placeOf_5 : decode cX0_placeOf 5 = .ok (.ifCond .ne 5, 3) := by decide +kernel
theorem dX0_placeOf_8 : decode cX0_placeOf 8 = .ok (.iconst (-1), 1) := by decide +kernel
theorem dX0_placeOf_9 : decode cX0_placeOf 9 = .ok (.ireturn, 1) := by decide +kernel
theorem dX0_placeOf_10 : decode cX0_placeOf 10 = .ok (.iconst 0, 1) := by decide +kernel
theorem dX0_placeOf_11 : decode cX0_placeOf 11 = .ok (.istore_n 2, 1) := by decide +kernel
theorem dX0_placeOf_12 : decode cX0_placeOf 12 = .ok (.iload_n 2, 1) := by decide +kernel
theorem dX0_placeOf_13 : decode cX0_placeOf 13 = .ok (.aload_n 0, 1) := by decide +kernel
theorem dX0_placeOf_14 : decode cX0_placeOf 14 = .ok (.getfield 141, 3) := by decide +kernel
theorem dX0_placeOf_17 : decode cX0_placeOf 17 = .ok (.if_icmp .ge 38, 3) := by decide +kernel
theorem dX0_placeOf_20 : decode cX0_placeOf 20 = .ok (.aload_n 0, 1) := by decide +kernel
theorem dX0_placeOf_21 : decode cX0_placeOf 21 = .ok (.getfield 24, 3) := by decide +kernel
theorem dX0_placeOf_24 : decode cX0_placeOf 24 = .ok (.iload_n 2, 1) := by decide +kernel
theorem dX0_placeOf_25 : decode cX0_placeOf 25 = .ok (.aaload, 1) := by decide +kernel
theorem dX0_placeOf_26 : decode cX0_placeOf 26 = .ok (.getfield 173, 3) := by decide +kernel
theorem dX0_placeOf_29 : decode cX0_placeOf 29 = .ok (.iload_n 1, 1) := by decide +kernel
theorem dX0_placeOf_30 : decode cX0_placeOf 30 = .ok (.aload_n 0, 1) := by decide +kernel
theorem dX0_placeOf_31 : decode cX0_placeOf 31 = .ok (.getfield 13, 3) := by decide +kernel
theorem dX0_placeOf_34 : decode cX0_placeOf 34 = .ok (.irem, 1) := by decide +kernel
theorem dX0_placeOf_35 : decode cX0_placeOf 35 = .ok (.iload_n 1, 1) := by decide +kernel
theorem dX0_placeOf_36 : decode cX0_placeOf 36 = .ok (.aload_n 0, 1) := by decide +kernel
theorem dX0_placeOf_37 : decode cX0_placeOf 37 = .ok (.getfield 13, 3) := by decide +kernel
theorem dX0_placeOf_40 : decode cX0_placeOf 40 = .ok (.idiv, 1) := by decide +kernel
theorem dX0_placeOf_41 : decode cX0_placeOf 41 = .ok (.invokevirtual 184, 3) := by decide +kernel
theorem dX0_placeOf_44 : decode cX0_placeOf 44 = .ok (.ifCond .eq 5, 3) := by decide +kernel
theorem dX0_placeOf_47 : decode cX0_placeOf 47 = .ok (.iload_n 2, 1) := by decide +kernel
theorem dX0_placeOf_48 : decode cX0_placeOf 48 = .ok (.ireturn, 1) := by decide +kernel
theorem dX0_placeOf_49 : decode cX0_placeOf 49 = .ok (.iinc 2 1, 3) := by decide +kernel
theorem dX0_placeOf_52 : decode cX0_placeOf 52 = .ok (.goto (-40), 3) := by decide +kernel
theorem dX0_placeOf_55 : decode cX0_placeOf 55 = .ok (.iconst (-1), 1) := by decide +kernel
theorem dX0_placeOf_56 : decode cX0_placeOf 56 = .ok (.ireturn, 1) := by decide +kernel
section
variable {v : Int32}
noncomputable def x0_placeOf_B12 (F : Nat) (x1 : Int32) (R : Int32 × XS → XR Int32) (a : Int32 × XS) : XR Int32 :=
  if (a.2.1.1 3) ≤ a.1 then (some ((-1), a.2, 0, 0)) else (if okI a.1 30 = true then (a.2.2.1 0 a.1.toNatClampNeg).bind (fun n1 => (gN a.2 n1 [3] 2).bind (fun n2 => if ¬ (a.2.1.1 0) = 0 then if ¬ (a.2.1.1 0) = 0 then if isC a.2 n2 [2] = true then (x2_has F n2 (jrem x1 (a.2.1.1 0)) (x1 / (a.2.1.1 0)) a.2).bind (fun r1 => tk r1.2.2.1 r1.2.2.2 (if r1.1 = 0 then (R (a.1 + 1, r1.2.1)) else (some (a.1, r1.2.1, 0, 0)))) else none else none else none)) else none)
theorem kx0_placeOf_B12 (M : XC γ cX0_placeOf 3 RX0 "placeOf" G o B 3 (some .int) (xQi G o B v τr) c0 s0) (x1 : Int32) : ∀ R : Int32 × XS → XR Int32, (∀ a c s, R a = some (v, τr, c, s) → ∀ k n, k + c ≤ c0 ∧ n + s ≤ s0 → J γ (XW G o B a.2) k n 12 [(0, .ref o), (1, .int x1), (2, .int a.1)] []) → ∀ a c s, x0_placeOf_B12 F x1 R a = some (v, τr, c, s) → ∀ k n, k + c ≤ c0 ∧ n + s ≤ s0 → J γ (XW G o B a.2) k n 12 [(0, .ref o), (1, .int x1), (2, .int a.1)] [] := by
  intro R hR a c s hf k n hkn
  unfold x0_placeOf_B12 at hf
  refine j_iload_n (pc := 12) M.1 dX0_placeOf_12 2 rfl ?_
  refine j_aload_n (pc := 13) M.1 dX0_placeOf_13 0 rfl ?_
  refine jx_getS (pc := 14) M xfs_141 dX0_placeOf_14 ?_
  refine j_icmp_ge (pc := 17) M.1 55 dX0_placeOf_17 rfl (fun b1 => ?_) (fun b1 => ?_)
  · replace hf := o_pos b1 hf
    refine j_iconst (pc := 55) M.1 dX0_placeOf_55 kc_iconst_m1 ?_
    exact jx_iretF (pc := 56) M dX0_placeOf_56 hf hkn
  · replace hf := o_neg b1 hf
    refine j_aload_n (pc := 20) M.1 dX0_placeOf_20 0 rfl ?_
    refine jx_getA (pc := 21) M xfa_24 dX0_placeOf_21 ?_
    refine j_iload_n (pc := 24) M.1 dX0_placeOf_24 2 rfl ?_
    obtain ⟨b2, hf⟩ := o_need hf
    obtain ⟨n1, g1, hf⟩ := o_bind hf
    refine jx_aald (pc := 25) M xax_0 (by decide) xrt_3 b2 g1 dX0_placeOf_25 ?_
    obtain ⟨n2, g2, hf⟩ := o_bind hf
    refine jx_getN (pc := 26) M xfl_X0_173 g2 dX0_placeOf_26 ?_
    refine j_iload_n (pc := 29) M.1 dX0_placeOf_29 1 rfl ?_
    refine j_aload_n (pc := 30) M.1 dX0_placeOf_30 0 rfl ?_
    refine jx_getS (pc := 31) M xfs_13 dX0_placeOf_31 ?_
    obtain ⟨b3, hf⟩ := o_need hf
    refine j_irem (pc := 34) M.1 dX0_placeOf_34 b3 ?_
    refine j_iload_n (pc := 35) M.1 dX0_placeOf_35 1 rfl ?_
    refine j_aload_n (pc := 36) M.1 dX0_placeOf_36 0 rfl ?_
    refine jx_getS (pc := 37) M xfs_13 dX0_placeOf_37 ?_
    obtain ⟨b4, hf⟩ := o_need hf
    refine j_idiv (pc := 40) M.1 dX0_placeOf_40 b4 ?_
    obtain ⟨b5, hf⟩ := o_need hf
    obtain ⟨r1, g3, hf⟩ := o_bind hf
    obtain ⟨c1, s1, hf, hc1, hs1⟩ := o_tk hf
    replace hkn := kn_step hkn hc1 hs1
    refine jx_i M (x_runW (pc := 41) (As := [.int (jrem x1 (a.2.1.1 0)), .int (x1 / (a.2.1.1 0))]) (rest := []) M xcw_X0_184 (met_x2_has g3) b5 (by decide) rfl rfl rfl dX0_placeOf_41 (kn_le hkn)) ?_
    refine j_if_eq (pc := 44) M.1 49 dX0_placeOf_44 rfl (fun b6 => ?_) (fun b6 => ?_)
    · replace hf := o_pos b6 hf
      refine j_iinc (pc := 49) M.1 [(2, .int (a.1 + 1)), (0, .ref o), (1, .int x1)] dX0_placeOf_49 2 rfl (congrArg _ kc_iconst_1) rfl rfl ?_
      refine j_goto (pc := 52) M.1 12 dX0_placeOf_52 rfl ?_
      refine j_sub [1, 2, 0] (show lv_pick _ _ = [(0, .ref o), (1, .int x1), (2, .int (a.1 + 1))] from rfl) ?_
      have hy := hR _ _ _ hf _ _ hkn
      exact hy
    · replace hf := o_neg b6 hf
      refine j_iload_n (pc := 47) M.1 dX0_placeOf_47 2 rfl ?_
      exact jx_iretF (pc := 48) M dX0_placeOf_48 hf hkn
noncomputable def x0_placeOf (F : Nat) (x1 : Int32) (τ : XS) : XR Int32 :=
  (x0_isCell F x1 τ).bind (fun r1 => tk r1.2.2.1 r1.2.2.2 (if r1.1 = 0 then (some ((-1), r1.2.1, 0, 0)) else (lp (x0_placeOf_B12 F x1) F (0, r1.2.1))))
theorem met_x0_placeOf {l : Launch} {G : gG} {o B F : Nat} {x1 : Int32} {τ : XS} {r : Int32 × XS × Nat × Nat} (hf : x0_placeOf F x1 τ = some r) : MetX l G o B yX0_placeOf cX0_placeOf 3 (some .int) 3 [.ref o, .int x1] τ (xQi G o B r.1 r.2.1) r.2.2.1 r.2.2.2 := by
  obtain ⟨v, τr, c, s⟩ := r
  refine metX_of (own := RX0) (mn := "placeOf") (by decide) rfl rfl rfl (fun γ hγ M => ?_)
  subst hγ
  show J γ (XW G o B τ) 0 0 0 [(0, .ref o), (1, .int x1)] []
  have hkn : 0 + c ≤ c ∧ 0 + s ≤ s := ⟨by omega, by omega⟩
  unfold x0_placeOf at hf
  refine j_aload_n (pc := 0) M.1 dX0_placeOf_0 0 rfl ?_
  refine j_iload_n (pc := 1) M.1 dX0_placeOf_1 1 rfl ?_
  obtain ⟨r1, g1, hf⟩ := o_bind hf
  obtain ⟨c1, s1, hf, hc1, hs1⟩ := o_tk hf
  replace hkn := kn_step hkn hc1 hs1
  refine jx_i M (x_runV (pc := 2) (As := [.int x1]) (rest := []) (V := xV o τ) M xcw_X0_161 (met_x0_isCell g1) (fun H h => h.1 o _ xH_o) (by decide) rfl rfl rfl dX0_placeOf_2 (kn_le hkn)) ?_
  refine j_if_ne (pc := 5) M.1 10 dX0_placeOf_5 rfl (fun b1 => ?_) (fun b1 => ?_)
  · replace hf := o_neg b1 hf
    refine j_iconst (pc := 10) M.1 dX0_placeOf_10 kc_iconst_0 ?_
    refine j_istore_n (pc := 11) M.1 [(2, .int 0), (0, .ref o), (1, .int x1)] dX0_placeOf_11 rfl rfl ?_
    refine j_sub [1, 2, 0] (show lv_pick _ _ = [(0, .ref o), (1, .int x1), (2, .int 0)] from rfl) ?_
    refine lp_Wc (kx0_placeOf_B12 M x1) F (0, r1.2.1) _ _ hf _ _ hkn
  · replace hf := o_pos b1 hf
    refine j_iconst (pc := 8) M.1 dX0_placeOf_8 kc_iconst_m1 ?_
    exact jx_iretF (pc := 9) M dX0_placeOf_9 hf hkn
end
theorem dX4_isAhead_0 : decode cX4_isAhead 0 = .ok (.aload_n 0, 1) := by decide +kernel
theorem dX4_isAhead_1 : decode cX4_isAhead 1 = .ok (.getfield 31, 3) := by decide +kernel
theorem dX4_isAhead_4 : decode cX4_isAhead 4 = .ok (.aload_n 1, 1) := by decide +kernel
theorem dX4_isAhead_5 : decode cX4_isAhead 5 = .ok (.getfield 31, 3) := by decide +kernel
theorem dX4_isAhead_8 : decode cX4_isAhead 8 = .ok (.if_icmp .lt 25, 3) := by decide +kernel
theorem dX4_isAhead_11 : decode cX4_isAhead 11 = .ok (.aload_n 0, 1) := by decide +kernel
theorem dX4_isAhead_12 : decode cX4_isAhead 12 = .ok (.getfield 31, 3) := by decide +kernel
theorem dX4_isAhead_15 : decode cX4_isAhead 15 = .ok (.aload_n 1, 1) := by decide +kernel
theorem dX4_isAhead_16 : decode cX4_isAhead 16 = .ok (.getfield 31, 3) := by decide +kernel
theorem dX4_isAhead_19 : decode cX4_isAhead 19 = .ok (.if_icmp .ne 18, 3) := by decide +kernel
theorem dX4_isAhead_22 : decode cX4_isAhead 22 = .ok (.aload_n 0, 1) := by decide +kernel
theorem dX4_isAhead_23 : decode cX4_isAhead 23 = .ok (.getfield 15, 3) := by decide +kernel
theorem dX4_isAhead_26 : decode cX4_isAhead 26 = .ok (.aload_n 1, 1) := by decide +kernel
theorem dX4_isAhead_27 : decode cX4_isAhead 27 = .ok (.getfield 15, 3) := by decide +kernel
theorem dX4_isAhead_30 : decode cX4_isAhead 30 = .ok (.if_icmp .ge 7, 3) := by decide +kernel
theorem dX4_isAhead_33 : decode cX4_isAhead 33 = .ok (.iconst 1, 1) := by decide +kernel
theorem dX4_isAhead_34 : decode cX4_isAhead 34 = .ok (.goto 4, 3) := by decide +kernel
theorem dX4_isAhead_37 : decode cX4_isAhead 37 = .ok (.iconst 0, 1) := by decide +kernel
theorem dX4_isAhead_38 : decode cX4_isAhead 38 = .ok (.ireturn, 1) := by decide +kernel
section
variable {v : Int32}
noncomputable def x4_isAhead (F : Nat) (x0 : Nat) (x1 : Nat) (τ : XS) : XR Int32 :=
  (gI τ x0 [5, 6, 7] 4).bind (fun v1 => (gI τ x1 [5, 6, 7] 4).bind (fun v2 => if v1 < v2 then (some (1, τ, 0, 0)) else ((gI τ x0 [5, 6, 7] 4).bind (fun v3 => (gI τ x1 [5, 6, 7] 4).bind (fun v4 => if v3 = v4 then ((gI τ x0 [5, 6, 7] 0).bind (fun v5 => (gI τ x1 [5, 6, 7] 0).bind (fun v6 => if v6 ≤ v5 then (some (0, τ, 0, 0)) else (some (1, τ, 0, 0))))) else (some (0, τ, 0, 0)))))))
theorem met_x4_isAhead {l : Launch} {G : gG} {o B F : Nat} {x0 : Nat} {x1 : Nat} {τ : XS} {r : Int32 × XS × Nat × Nat} (hf : x4_isAhead F x0 x1 τ = some r) : MetX l G o B yX4_isAhead cX4_isAhead 2 (some .boolean) 1 [.ref x0, .ref x1] τ (xQi G o B r.1 r.2.1) r.2.2.1 r.2.2.2 := by
  obtain ⟨v, τr, c, s⟩ := r
  refine metX_of (own := RX4) (mn := "isAhead") (by decide) rfl rfl rfl (fun γ hγ M => ?_)
  subst hγ
  show J γ (XW G o B τ) 0 0 0 [(0, .ref x0), (1, .ref x1)] []
  have hkn : 0 + c ≤ c ∧ 0 + s ≤ s := ⟨by omega, by omega⟩
  unfold x4_isAhead at hf
  refine j_aload_n (pc := 0) M.1 dX4_isAhead_0 0 rfl ?_
  obtain ⟨v1, g1, hf⟩ := o_bind hf
  refine jx_getI (pc := 1) M xfl_X4_31 g1 dX4_isAhead_1 ?_
  refine j_aload_n (pc := 4) M.1 dX4_isAhead_4 1 rfl ?_
  obtain ⟨v2, g2, hf⟩ := o_bind hf
  refine jx_getI (pc := 5) M xfl_X4_31 g2 dX4_isAhead_5 ?_
  refine j_icmp_lt (pc := 8) M.1 33 dX4_isAhead_8 rfl (fun b1 => ?_) (fun b1 => ?_)
  · replace hf := o_pos b1 hf
    refine j_iconst (pc := 33) M.1 dX4_isAhead_33 kc_iconst_1 ?_
    refine j_goto (pc := 34) M.1 38 dX4_isAhead_34 rfl ?_
    exact jx_zretF (pc := 38) M dX4_isAhead_38 rfl hf hkn
  · replace hf := o_neg b1 hf
    refine j_aload_n (pc := 11) M.1 dX4_isAhead_11 0 rfl ?_
    obtain ⟨v3, g3, hf⟩ := o_bind hf
    refine jx_getI (pc := 12) M xfl_X4_31 g3 dX4_isAhead_12 ?_
    refine j_aload_n (pc := 15) M.1 dX4_isAhead_15 1 rfl ?_
    obtain ⟨v4, g4, hf⟩ := o_bind hf
    refine jx_getI (pc := 16) M xfl_X4_31 g4 dX4_isAhead_16 ?_
    refine j_icmp_ne (pc := 19) M.1 37 dX4_isAhead_19 rfl (fun b2 => ?_) (fun b2 => ?_)
    · replace hf := o_neg b2 hf
      refine j_iconst (pc := 37) M.1 dX4_isAhead_37 kc_iconst_0 ?_
      exact jx_zretF (pc := 38) M dX4_isAhead_38 rfl hf hkn
    · replace hf := o_pos b2 hf
      refine j_aload_n (pc := 22) M.1 dX4_isAhead_22 0 rfl ?_
      obtain ⟨v5, g5, hf⟩ := o_bind hf
      refine jx_getI (pc := 23) M xfl_X4_15 g5 dX4_isAhead_23 ?_
      refine j_aload_n (pc := 26) M.1 dX4_isAhead_26 1 rfl ?_
      obtain ⟨v6, g6, hf⟩ := o_bind hf
      refine jx_getI (pc := 27) M xfl_X4_15 g6 dX4_isAhead_27 ?_
      refine j_icmp_ge (pc := 30) M.1 37 dX4_isAhead_30 rfl (fun b3 => ?_) (fun b3 => ?_)
      · replace hf := o_pos b3 hf
        refine j_iconst (pc := 37) M.1 dX4_isAhead_37 kc_iconst_0 ?_
        exact jx_zretF (pc := 38) M dX4_isAhead_38 rfl hf hkn
      · replace hf := o_neg b3 hf
        refine j_iconst (pc := 33) M.1 dX4_isAhead_33 kc_iconst_1 ?_
        refine j_goto (pc := 34) M.1 38 dX4_isAhead_34 rfl ?_
        exact jx_zretF (pc := 38) M dX4_isAhead_38 rfl hf hkn
end
theorem dX4_init_0 : decode cX4_init 0 = .ok (.aload_n 0, 1) := by decide +kernel
theorem dX4_init_1 : decode cX4_init 1 = .ok (.invokespecial 3, 3) := by decide +kernel
theorem dX4_init_4 : decode cX4_init 4 = .ok (.aload_n 0, 1) := by decide +kernel
theorem dX4_init_5 : decode cX4_init 5 = .ok (.iconst (-1), 1) := by decide +kernel
theorem dX4_init_6 : decode cX4_init 6 = .ok (.putfield 9, 3) := by decide +kernel
theorem dX4_init_9 : decode cX4_init 9 = .ok (.aload_n 0, 1) := by decide +kernel
theorem dX4_init_10 : decode cX4_init 10 = .ok (.iload_n 1, 1) := by decide +kernel
theorem dX4_init_11 : decode cX4_init 11 = .ok (.putfield 15, 3) := by decide +kernel
theorem dX4_init_14 : decode cX4_init 14 = .ok (.aload_n 0, 1) := by decide +kernel
theorem dX4_init_15 : decode cX4_init 15 = .ok (.iload_n 2, 1) := by decide +kernel
theorem dX4_init_16 : decode cX4_init 16 = .ok (.putfield 18, 3) := by decide +kernel
theorem dX4_init_19 : decode cX4_init 19 = .ok (.aload_n 0, 1) := by decide +kernel
theorem dX4_init_20 : decode cX4_init 20 = .ok (.aload_n 3, 1) := by decide +kernel
theorem dX4_init_21 : decode cX4_init 21 = .ok (.putfield 21, 3) := by decide +kernel
theorem dX4_init_24 : decode cX4_init 24 = .ok (.aload_n 0, 1) := by decide +kernel
theorem dX4_init_25 : decode cX4_init 25 = .ok (.iload 4, 2) := by decide +kernel
theorem dX4_init_27 : decode cX4_init 27 = .ok (.putfield 25, 3) := by decide +kernel
theorem dX4_init_30 : decode cX4_init 30 = .ok (.aload_n 0, 1) := by decide +kernel
theorem dX4_init_31 : decode cX4_init 31 = .ok (.iload 5, 2) := by decide +kernel
theorem dX4_init_33 : decode cX4_init 33 = .ok (.putfield 28, 3) := by decide +kernel
theorem dX4_init_36 : decode cX4_init 36 = .ok (.aload_n 0, 1) := by decide +kernel
theorem dX4_init_37 : decode cX4_init 37 = .ok (.iload 6, 2) := by decide +kernel
theorem dX4_init_39 : decode cX4_init 39 = .ok (.putfield 31, 3) := by decide +kernel
theorem dX4_init_42 : decode cX4_init 42 = .ok (.aload_n 0, 1) := by decide +kernel
theorem dX4_init_43 : decode cX4_init 43 = .ok (.iload 7, 2) := by decide +kernel
theorem dX4_init_45 : decode cX4_init 45 = .ok (.putfield 34, 3) := by decide +kernel
theorem dX4_init_48 : decode cX4_init 48 = .ok (.aload_n 0, 1) := by decide +kernel
theorem dX4_init_49 : decode cX4_init 49 = .ok (.iload 8, 2) := by decide +kernel
theorem dX4_init_51 : decode cX4_init 51 = .ok (.putfield 37, 3) := by decide +kernel
theorem dX4_init_54 : decode cX4_init 54 = .ok (.return_, 1) := by decide +kernel
section
variable {v : Int32}
noncomputable def x4_init (F : Nat) (x0 : Nat) (x1 : Int32) (x2 : Int32) (x3 : Nat) (x4 : Int32) (x5 : Int32) (x6 : Int32) (x7 : Int32) (x8 : Int32) (τ : XS) : XR Int32 :=
  (pF τ x0 [5, 6, 7] 8 (.int ((-1)))).bind (fun τ1 => (pF τ1 x0 [5, 6, 7] 0 (.int x1)).bind (fun τ2 => (pF τ2 x0 [5, 6, 7] 1 (.int x2)).bind (fun τ3 => (pF τ3 x0 [5, 6, 7] 7 (.ref x3)).bind (fun τ4 => (pF τ4 x0 [5, 6, 7] 2 (.int x4)).bind (fun τ5 => (pF τ5 x0 [5, 6, 7] 3 (.int x5)).bind (fun τ6 => (pF τ6 x0 [5, 6, 7] 4 (.int x6)).bind (fun τ7 => (pF τ7 x0 [5, 6, 7] 5 (.int x7)).bind (fun τ8 => (pF τ8 x0 [5, 6, 7] 6 (.int x8)).bind (fun τ9 => some (0, τ9, 0, 0))))))))))
theorem met_x4_init {l : Launch} {G : gG} {o B F : Nat} {x0 : Nat} {x1 : Int32} {x2 : Int32} {x3 : Nat} {x4 : Int32} {x5 : Int32} {x6 : Int32} {x7 : Int32} {x8 : Int32} {τ : XS} {r : Int32 × XS × Nat × Nat} (hf : x4_init F x0 x1 x2 x3 x4 x5 x6 x7 x8 τ = some r) : MetX l G o B yX4_init cX4_init 9 none 2 [.ref x0, .int x1, .int x2, .ref x3, .int x4, .int x5, .int x6, .int x7, .int x8] τ (xQv G o B r.1 r.2.1) r.2.2.1 r.2.2.2 := by
  obtain ⟨v, τr, c, s⟩ := r
  refine metX_of (own := RX4) (mn := "<init>") (by decide) rfl rfl rfl (fun γ hγ M => ?_)
  subst hγ
  show J γ (XW G o B τ) 0 0 0 [(0, .ref x0), (1, .int x1), (2, .int x2), (3, .ref x3), (4, .int x4), (5, .int x5), (6, .int x6), (7, .int x7), (8, .int x8)] []
  have hkn : 0 + c ≤ c ∧ 0 + s ≤ s := ⟨by omega, by omega⟩
  unfold x4_init at hf
  refine j_aload_n (pc := 0) M.1 dX4_init_0 0 rfl ?_
  refine j_objInit (pc := 1) M.1 q404 dX4_init_1 (M.room (by decide)) rfl ?_
  refine j_aload_n (pc := 4) M.1 dX4_init_4 0 rfl ?_
  refine j_iconst (pc := 5) M.1 dX4_init_5 kc_iconst_m1 ?_
  obtain ⟨τ1, g1, hf⟩ := o_bind hf
  refine jx_putV (pc := 6) M xfl_X4_9 rfl rfl g1 dX4_init_6 ?_
  refine j_aload_n (pc := 9) M.1 dX4_init_9 0 rfl ?_
  refine j_iload_n (pc := 10) M.1 dX4_init_10 1 rfl ?_
  obtain ⟨τ2, g2, hf⟩ := o_bind hf
  refine jx_putW (pc := 11) M q405 xfw_X4_15 rfl rfl g2 dX4_init_11 ?_
  refine j_aload_n (pc := 14) M.1 dX4_init_14 0 rfl ?_
  refine j_iload_n (pc := 15) M.1 dX4_init_15 2 rfl ?_
  obtain ⟨τ3, g3, hf⟩ := o_bind hf
  refine jx_putW (pc := 16) M q407 xfw_X4_18 rfl rfl g3 dX4_init_16 ?_
  refine j_aload_n (pc := 19) M.1 dX4_init_19 0 rfl ?_
  refine j_aload_n (pc := 20) M.1 dX4_init_20 3 rfl ?_
  obtain ⟨τ4, g4, hf⟩ := o_bind hf
  refine jx_putW (pc := 21) M q418 xfw_X4_21 rfl rfl g4 dX4_init_21 ?_
  refine j_aload_n (pc := 24) M.1 dX4_init_24 0 rfl ?_
  refine j_iload (pc := 25) M.1 dX4_init_25 4 rfl ?_
  obtain ⟨τ5, g5, hf⟩ := o_bind hf
  refine jx_putW (pc := 27) M q409 xfw_X4_25 rfl rfl g5 dX4_init_27 ?_
  refine j_aload_n (pc := 30) M.1 dX4_init_30 0 rfl ?_
  refine j_iload (pc := 31) M.1 dX4_init_31 5 rfl ?_
  obtain ⟨τ6, g6, hf⟩ := o_bind hf
  refine jx_putW (pc := 33) M q411 xfw_X4_28 rfl rfl g6 dX4_init_33 ?_
  refine j_aload_n (pc := 36) M.1 dX4_init_36 0 rfl ?_
  refine j_iload (pc := 37) M.1 dX4_init_37 6 rfl ?_
  obtain ⟨τ7, g7, hf⟩ := o_bind hf
  refine jx_putW (pc := 39) M q413 xfw_X4_31 rfl rfl g7 dX4_init_39 ?_
  refine j_aload_n (pc := 42) M.1 dX4_init_42 0 rfl ?_
  refine j_iload (pc := 43) M.1 dX4_init_43 7 rfl ?_
  obtain ⟨τ8, g8, hf⟩ := o_bind hf
  refine jx_putW (pc := 45) M q415 xfw_X4_34 rfl rfl g8 dX4_init_45 ?_
  refine j_aload_n (pc := 48) M.1 dX4_init_48 0 rfl ?_
  refine j_iload (pc := 49) M.1 dX4_init_49 8 rfl ?_
  obtain ⟨τ9, g9, hf⟩ := o_bind hf
  refine jx_putW (pc := 51) M q417 xfw_X4_37 rfl rfl g9 dX4_init_51 ?_
  exact jx_vretF (pc := 54) M dX4_init_54 hf hkn
end
theorem dX5_init_0 : decode cX5_init 0 = .ok (.aload_n 0, 1) := by decide +kernel
theorem dX5_init_1 : decode cX5_init 1 = .ok (.iload_n 1, 1) := by decide +kernel
theorem dX5_init_2 : decode cX5_init 2 = .ok (.iload_n 2, 1) := by decide +kernel
theorem dX5_init_3 : decode cX5_init 3 = .ok (.aload_n 3, 1) := by decide +kernel
theorem dX5_init_4 : decode cX5_init 4 = .ok (.iconst 0, 1) := by decide +kernel
theorem dX5_init_5 : decode cX5_init 5 = .ok (.iload 4, 2) := by decide +kernel
theorem dX5_init_7 : decode cX5_init 7 = .ok (.iload 5, 2) := by decide +kernel
theorem dX5_init_9 : decode cX5_init 9 = .ok (.iload 6, 2) := by decide +kernel
theorem dX5_init_11 : decode cX5_init 11 = .ok (.iload 7, 2) := by decide +kernel
theorem dX5_init_13 : decode cX5_init 13 = .ok (.invokespecial 3, 3) := by decide +kernel
theorem dX5_init_16 : decode cX5_init 16 = .ok (.return_, 1) := by decide +kernel
section
variable {v : Int32}
noncomputable def x5_init (F : Nat) (x0 : Nat) (x1 : Int32) (x2 : Int32) (x3 : Nat) (x4 : Int32) (x5 : Int32) (x6 : Int32) (x7 : Int32) (τ : XS) : XR Int32 :=
  (x4_init F x0 x1 x2 x3 0 x4 x5 x6 x7 τ).bind (fun r1 => tk r1.2.2.1 r1.2.2.2 (some (0, r1.2.1, 0, 0)))
theorem met_x5_init {l : Launch} {G : gG} {o B F : Nat} {x0 : Nat} {x1 : Int32} {x2 : Int32} {x3 : Nat} {x4 : Int32} {x5 : Int32} {x6 : Int32} {x7 : Int32} {τ : XS} {r : Int32 × XS × Nat × Nat} (hf : x5_init F x0 x1 x2 x3 x4 x5 x6 x7 τ = some r) : MetX l G o B yX5_init cX5_init 8 none 3 [.ref x0, .int x1, .int x2, .ref x3, .int x4, .int x5, .int x6, .int x7] τ (xQv G o B r.1 r.2.1) r.2.2.1 r.2.2.2 := by
  obtain ⟨v, τr, c, s⟩ := r
  refine metX_of (own := RX5) (mn := "<init>") (by decide) rfl rfl rfl (fun γ hγ M => ?_)
  subst hγ
  show J γ (XW G o B τ) 0 0 0 [(0, .ref x0), (1, .int x1), (2, .int x2), (3, .ref x3), (4, .int x4), (5, .int x5), (6, .int x6), (7, .int x7)] []
  have hkn : 0 + c ≤ c ∧ 0 + s ≤ s := ⟨by omega, by omega⟩
  unfold x5_init at hf
  refine j_aload_n (pc := 0) M.1 dX5_init_0 0 rfl ?_
  refine j_iload_n (pc := 1) M.1 dX5_init_1 1 rfl ?_
  refine j_iload_n (pc := 2) M.1 dX5_init_2 2 rfl ?_
  refine j_aload_n (pc := 3) M.1 dX5_init_3 3 rfl ?_
  refine j_iconst (pc := 4) M.1 dX5_init_4 kc_iconst_0 ?_
  refine j_iload (pc := 5) M.1 dX5_init_5 4 rfl ?_
  refine j_iload (pc := 7) M.1 dX5_init_7 5 rfl ?_
  refine j_iload (pc := 9) M.1 dX5_init_9 6 rfl ?_
  refine j_iload (pc := 11) M.1 dX5_init_11 7 rfl ?_
  obtain ⟨r1, g1, hf⟩ := o_bind hf
  obtain ⟨c1, s1, hf, hc1, hs1⟩ := o_tk hf
  replace hkn := kn_step hkn hc1 hs1
  refine jx_v (r := r1.1) M (x_runI (pc := 13) (As := [.int x1, .int x2, .ref x3, .int 0, .int x4, .int x5, .int x6, .int x7]) (rest := []) M xci_X5_3 (met_x4_init g1) (by decide) rfl rfl rfl dX5_init_13 (kn_le hkn)) ?_
  exact jx_vretF (pc := 16) M dX5_init_16 hf hkn
end
theorem dX7_init_0 : decode cX7_init 0 = .ok (.aload_n 0, 1) := by decide +kernel
theorem dX7_init_1 : decode cX7_init 1 = .ok (.iload_n 1, 1) := by decide +kernel
theorem dX7_init_2 : decode cX7_init 2 = .ok (.iload_n 2, 1) := by decide +kernel
theorem dX7_init_3 : decode cX7_init 3 = .ok (.aload_n 3, 1) := by decide +kernel
theorem dX7_init_4 : decode cX7_init 4 = .ok (.iload 4, 2) := by decide +kernel
theorem dX7_init_6 : decode cX7_init 6 = .ok (.iload 5, 2) := by decide +kernel
theorem dX7_init_8 : decode cX7_init 8 = .ok (.iload 6, 2) := by decide +kernel
theorem dX7_init_10 : decode cX7_init 10 = .ok (.iload 7, 2) := by decide +kernel
theorem dX7_init_12 : decode cX7_init 12 = .ok (.iload 8, 2) := by decide +kernel
theorem dX7_init_14 : decode cX7_init 14 = .ok (.invokespecial 3, 3) := by decide +kernel
theorem dX7_init_17 : decode cX7_init 17 = .ok (.return_, 1) := by decide +kernel
section
variable {v : Int32}
noncomputable def x7_init (F : Nat) (x0 : Nat) (x1 : Int32) (x2 : Int32) (x3 : Nat) (x4 : Int32) (x5 : Int32) (x6 : Int32) (x7 : Int32) (x8 : Int32) (τ : XS) : XR Int32 :=
  (x4_init F x0 x1 x2 x3 x4 x5 x6 x7 x8 τ).bind (fun r1 => tk r1.2.2.1 r1.2.2.2 (some (0, r1.2.1, 0, 0)))
theorem met_x7_init {l : Launch} {G : gG} {o B F : Nat} {x0 : Nat} {x1 : Int32} {x2 : Int32} {x3 : Nat} {x4 : Int32} {x5 : Int32} {x6 : Int32} {x7 : Int32} {x8 : Int32} {τ : XS} {r : Int32 × XS × Nat × Nat} (hf : x7_init F x0 x1 x2 x3 x4 x5 x6 x7 x8 τ = some r) : MetX l G o B yX7_init cX7_init 9 none 3 [.ref x0, .int x1, .int x2, .ref x3, .int x4, .int x5, .int x6, .int x7, .int x8] τ (xQv G o B r.1 r.2.1) r.2.2.1 r.2.2.2 := by
  obtain ⟨v, τr, c, s⟩ := r
  refine metX_of (own := RX7) (mn := "<init>") (by decide) rfl rfl rfl (fun γ hγ M => ?_)
  subst hγ
  show J γ (XW G o B τ) 0 0 0 [(0, .ref x0), (1, .int x1), (2, .int x2), (3, .ref x3), (4, .int x4), (5, .int x5), (6, .int x6), (7, .int x7), (8, .int x8)] []
  have hkn : 0 + c ≤ c ∧ 0 + s ≤ s := ⟨by omega, by omega⟩
  unfold x7_init at hf
  refine j_aload_n (pc := 0) M.1 dX7_init_0 0 rfl ?_
  refine j_iload_n (pc := 1) M.1 dX7_init_1 1 rfl ?_
  refine j_iload_n (pc := 2) M.1 dX7_init_2 2 rfl ?_
  refine j_aload_n (pc := 3) M.1 dX7_init_3 3 rfl ?_
  refine j_iload (pc := 4) M.1 dX7_init_4 4 rfl ?_
  refine j_iload (pc := 6) M.1 dX7_init_6 5 rfl ?_
  refine j_iload (pc := 8) M.1 dX7_init_8 6 rfl ?_
  refine j_iload (pc := 10) M.1 dX7_init_10 7 rfl ?_
  refine j_iload (pc := 12) M.1 dX7_init_12 8 rfl ?_
  obtain ⟨r1, g1, hf⟩ := o_bind hf
  obtain ⟨c1, s1, hf, hc1, hs1⟩ := o_tk hf
  replace hkn := kn_step hkn hc1 hs1
  refine jx_v (r := r1.1) M (x_runI (pc := 14) (As := [.int x1, .int x2, .ref x3, .int x4, .int x5, .int x6, .int x7, .int x8]) (rest := []) M xci_X7_3 (met_x4_init g1) (by decide) rfl rfl rfl dX7_init_14 (kn_le hkn)) ?_
  exact jx_vretF (pc := 17) M dX7_init_17 hf hkn
end
theorem dX6_init_0 : decode cX6_init 0 = .ok (.aload_n 0, 1) := by decide +kernel
theorem dX6_init_1 : decode cX6_init 1 = .ok (.iload_n 1, 1) := by decide +kernel
theorem dX6_init_2 : decode cX6_init 2 = .ok (.iload_n 2, 1) := by decide +kernel
theorem dX6_init_3 : decode cX6_init 3 = .ok (.aload_n 3, 1) := by decide +kernel
theorem dX6_init_4 : decode cX6_init 4 = .ok (.iload 4, 2) := by decide +kernel
theorem dX6_init_6 : decode cX6_init 6 = .ok (.iload 5, 2) := by decide +kernel
theorem dX6_init_8 : decode cX6_init 8 = .ok (.iload 6, 2) := by decide +kernel
theorem dX6_init_10 : decode cX6_init 10 = .ok (.iload 7, 2) := by decide +kernel
theorem dX6_init_12 : decode cX6_init 12 = .ok (.iload 8, 2) := by decide +kernel
theorem dX6_init_14 : decode cX6_init 14 = .ok (.invokespecial 3, 3) := by decide +kernel
theorem dX6_init_17 : decode cX6_init 17 = .ok (.return_, 1) := by decide +kernel
section
variable {v : Int32}
noncomputable def x6_init (F : Nat) (x0 : Nat) (x1 : Int32) (x2 : Int32) (x3 : Nat) (x4 : Int32) (x5 : Int32) (x6 : Int32) (x7 : Int32) (x8 : Int32) (τ : XS) : XR Int32 :=
  (x4_init F x0 x1 x2 x3 x4 x5 x6 x7 x8 τ).bind (fun r1 => tk r1.2.2.1 r1.2.2.2 (some (0, r1.2.1, 0, 0)))
theorem met_x6_init {l : Launch} {G : gG} {o B F : Nat} {x0 : Nat} {x1 : Int32} {x2 : Int32} {x3 : Nat} {x4 : Int32} {x5 : Int32} {x6 : Int32} {x7 : Int32} {x8 : Int32} {τ : XS} {r : Int32 × XS × Nat × Nat} (hf : x6_init F x0 x1 x2 x3 x4 x5 x6 x7 x8 τ = some r) : MetX l G o B yX6_init cX6_init 9 none 3 [.ref x0, .int x1, .int x2, .ref x3, .int x4, .int x5, .int x6, .int x7, .int x8] τ (xQv G o B r.1 r.2.1) r.2.2.1 r.2.2.2 := by
  obtain ⟨v, τr, c, s⟩ := r
  refine metX_of (own := RX6) (mn := "<init>") (by decide) rfl rfl rfl (fun γ hγ M => ?_)
  subst hγ
  show J γ (XW G o B τ) 0 0 0 [(0, .ref x0), (1, .int x1), (2, .int x2), (3, .ref x3), (4, .int x4), (5, .int x5), (6, .int x6), (7, .int x7), (8, .int x8)] []
  have hkn : 0 + c ≤ c ∧ 0 + s ≤ s := ⟨by omega, by omega⟩
  unfold x6_init at hf
  refine j_aload_n (pc := 0) M.1 dX6_init_0 0 rfl ?_
  refine j_iload_n (pc := 1) M.1 dX6_init_1 1 rfl ?_
  refine j_iload_n (pc := 2) M.1 dX6_init_2 2 rfl ?_
  refine j_aload_n (pc := 3) M.1 dX6_init_3 3 rfl ?_
  refine j_iload (pc := 4) M.1 dX6_init_4 4 rfl ?_
  refine j_iload (pc := 6) M.1 dX6_init_6 5 rfl ?_
  refine j_iload (pc := 8) M.1 dX6_init_8 6 rfl ?_
  refine j_iload (pc := 10) M.1 dX6_init_10 7 rfl ?_
  refine j_iload (pc := 12) M.1 dX6_init_12 8 rfl ?_
  obtain ⟨r1, g1, hf⟩ := o_bind hf
  obtain ⟨c1, s1, hf, hc1, hs1⟩ := o_tk hf
  replace hkn := kn_step hkn hc1 hs1
  refine jx_v (r := r1.1) M (x_runI (pc := 14) (As := [.int x1, .int x2, .ref x3, .int x4, .int x5, .int x6, .int x7, .int x8]) (rest := []) M xci_X6_3 (met_x4_init g1) (by decide) rfl rfl rfl dX6_init_14 (kn_le hkn)) ?_
  exact jx_vretF (pc := 17) M dX6_init_17 hf hkn
end
theorem dX0_isSpan_0 : decode cX0_isSpan 0 = .ok (.iload_n 1, 1) := by decide +kernel
theorem dX0_isSpan_1 : decode cX0_isSpan 1 = .ok (.ifCond .lt 20, 3) := by decide +kernel
theorem dX0_isSpan_4 : decode cX0_isSpan 4 = .ok (.iload_n 1, 1) := by decide +kernel
theorem dX0_isSpan_5 : decode cX0_isSpan 5 = .ok (.iload_n 2, 1) := by decide +kernel
theorem dX0_isSpan_6 : decode cX0_isSpan 6 = .ok (.if_icmp .gt 15, 3) := by decide +kernel
theorem dX0_isSpan_9 : decode cX0_isSpan 9 = .ok (.iload_n 2, 1) := by decide +kernel
theorem dX0_isSpan_10 : decode cX0_isSpan 10 = .ok (.aload_n 0, 1) := by decide +kernel
theorem dX0_isSpan_11 : decode cX0_isSpan 11 = .ok (.getfield 158, 3) := by decide +kernel
theorem dX0_isSpan_14 : decode cX0_isSpan 14 = .ok (.if_icmp .gt 7, 3) := by decide +kernel
theorem dX0_isSpan_17 : decode cX0_isSpan 17 = .ok (.iconst 1, 1) := by decide +kernel
theorem dX0_isSpan_18 : decode cX0_isSpan 18 = .ok (.goto 4, 3) := by decide +kernel
theorem dX0_isSpan_21 : decode cX0_isSpan 21 = .ok (.iconst 0, 1) := by decide +kernel
theorem dX0_isSpan_22 : decode cX0_isSpan 22 = .ok (.ireturn, 1) := by decide +kernel
section
variable {v : Int32}
noncomputable def x0_isSpan (F : Nat) (x1 : Int32) (x2 : Int32) (τ : XS) : XR Int32 :=
  if x1 < 0 then (some (0, τ, 0, 0)) else (if x2 < x1 then (some (0, τ, 0, 0)) else (if (τ.1.1 2) < x2 then (some (0, τ, 0, 0)) else (some (1, τ, 0, 0))))
theorem met_x0_isSpan {l : Launch} {G : gG} {o B F : Nat} {x1 : Int32} {x2 : Int32} {τ : XS} {r : Int32 × XS × Nat × Nat} (hf : x0_isSpan F x1 x2 τ = some r) : MetX l G o B yX0_isSpan cX0_isSpan 3 (some .boolean) 1 [.ref o, .int x1, .int x2] τ (xQi G o B r.1 r.2.1) r.2.2.1 r.2.2.2 := by
  obtain ⟨v, τr, c, s⟩ := r
  refine metX_of (own := RX0) (mn := "isSpan") (by decide) rfl rfl rfl (fun γ hγ M => ?_)
  subst hγ
  show J γ (XW G o B τ) 0 0 0 [(0, .ref o), (1, .int x1), (2, .int x2)] []
  have hkn : 0 + c ≤ c ∧ 0 + s ≤ s := ⟨by omega, by omega⟩
  unfold x0_isSpan at hf
  refine j_iload_n (pc := 0) M.1 dX0_isSpan_0 1 rfl ?_
  refine j_if_lt (pc := 1) M.1 21 dX0_isSpan_1 rfl (fun b1 => ?_) (fun b1 => ?_)
  · replace hf := o_pos b1 hf
    refine j_iconst (pc := 21) M.1 dX0_isSpan_21 kc_iconst_0 ?_
    exact jx_zretF (pc := 22) M dX0_isSpan_22 rfl hf hkn
  · replace hf := o_neg b1 hf
    refine j_iload_n (pc := 4) M.1 dX0_isSpan_4 1 rfl ?_
    refine j_iload_n (pc := 5) M.1 dX0_isSpan_5 2 rfl ?_
    refine j_icmp_gt (pc := 6) M.1 21 dX0_isSpan_6 rfl (fun b2 => ?_) (fun b2 => ?_)
    · replace hf := o_pos b2 hf
      refine j_iconst (pc := 21) M.1 dX0_isSpan_21 kc_iconst_0 ?_
      exact jx_zretF (pc := 22) M dX0_isSpan_22 rfl hf hkn
    · replace hf := o_neg b2 hf
      refine j_iload_n (pc := 9) M.1 dX0_isSpan_9 2 rfl ?_
      refine j_aload_n (pc := 10) M.1 dX0_isSpan_10 0 rfl ?_
      refine jx_getS (pc := 11) M xfs_158 dX0_isSpan_11 ?_
      refine j_icmp_gt (pc := 14) M.1 21 dX0_isSpan_14 rfl (fun b3 => ?_) (fun b3 => ?_)
      · replace hf := o_pos b3 hf
        refine j_iconst (pc := 21) M.1 dX0_isSpan_21 kc_iconst_0 ?_
        exact jx_zretF (pc := 22) M dX0_isSpan_22 rfl hf hkn
      · replace hf := o_neg b3 hf
        refine j_iconst (pc := 17) M.1 dX0_isSpan_17 kc_iconst_1 ?_
        refine j_goto (pc := 18) M.1 22 dX0_isSpan_18 rfl ?_
        exact jx_zretF (pc := 22) M dX0_isSpan_22 rfl hf hkn
end
theorem dX0_dig_0 : decode cX0_dig 0 = .ok (.aload_n 0, 1) := by decide +kernel
theorem dX0_dig_1 : decode cX0_dig 1 = .ok (.iload_n 3, 1) := by decide +kernel
theorem dX0_dig_2 : decode cX0_dig 2 = .ok (.iload 4, 2) := by decide +kernel
theorem dX0_dig_4 : decode cX0_dig 4 = .ok (.invokevirtual 169, 3) := by decide +kernel
theorem dX0_dig_7 : decode cX0_dig 7 = .ok (.astore 9, 2) := by decide +kernel
theorem dX0_dig_9 : decode cX0_dig 9 = .ok (.iload_n 1, 1) := by decide +kernel
theorem dX0_dig_10 : decode cX0_dig 10 = .ok (.bipush 8, 2) := by decide +kernel
theorem dX0_dig_12 : decode cX0_dig 12 = .ok (.invokestatic 137, 3) := by decide +kernel
theorem dX0_dig_15 : decode cX0_dig 15 = .ok (.ifCond .eq 65, 3) := by decide +kernel
theorem dX0_dig_18 : decode cX0_dig 18 = .ok (.iload_n 2, 1) := by decide +kernel
theorem dX0_dig_19 : decode cX0_dig 19 = .ok (.iconst 3, 1) := by decide +kernel
theorem dX0_dig_20 : decode cX0_dig 20 = .ok (.invokestatic 137, 3) := by decide +kernel
theorem dX0_dig_23 : decode cX0_dig 23 = .ok (.ifCond .eq 57, 3) := by decide +kernel
theorem dX0_dig_26 : decode cX0_dig 26 = .ok (.aload 9, 2) := by decide +kernel
theorem dX0_dig_28 : decode cX0_dig 28 = .ok (.ifnull 52, 3) := by decide +kernel
theorem dX0_dig_31 : decode cX0_dig 31 = .ok (.iload 5, 2) := by decide +kernel
theorem dX0_dig_33 : decode cX0_dig 33 = .ok (.invokestatic 187, 3) := by decide +kernel
theorem dX0_dig_36 : decode cX0_dig 36 = .ok (.ifCond .eq 44, 3) := by decide +kernel
theorem dX0_dig_39 : decode cX0_dig 39 = .ok (.iload 6, 2) := by decide +kernel
theorem dX0_dig_41 : decode cX0_dig 41 = .ok (.iload 5, 2) := by decide +kernel
theorem dX0_dig_43 : decode cX0_dig 43 = .ok (.bipush 7, 2) := by decide +kernel
theorem dX0_dig_45 : decode cX0_dig 45 = .ok (.invokestatic 144, 3) := by decide +kernel
theorem dX0_dig_48 : decode cX0_dig 48 = .ok (.ifCond .eq 32, 3) := by decide +kernel
theorem dX0_dig_51 : decode cX0_dig 51 = .ok (.iload_n 2, 1) := by decide +kernel
theorem dX0_dig_52 : decode cX0_dig 52 = .ok (.ifCond .ne 8, 3) := by decide +kernel
theorem dX0_dig_55 : decode cX0_dig 55 = .ok (.iload 5, 2) := by decide +kernel
theorem dX0_dig_57 : decode cX0_dig 57 = .ok (.ifCond .gt 23, 3) := by decide +kernel
theorem dX0_dig_60 : decode cX0_dig 60 = .ok (.aload_n 0, 1) := by decide +kernel
theorem dX0_dig_61 : decode cX0_dig 61 = .ok (.iload 7, 2) := by decide +kernel
theorem dX0_dig_63 : decode cX0_dig 63 = .ok (.iload 8, 2) := by decide +kernel
theorem dX0_dig_65 : decode cX0_dig 65 = .ok (.invokevirtual 190, 3) := by decide +kernel
theorem dX0_dig_68 : decode cX0_dig 68 = .ok (.ifCond .eq 12, 3) := by decide +kernel
theorem dX0_dig_71 : decode cX0_dig 71 = .ok (.aload_n 0, 1) := by decide +kernel
theorem dX0_dig_72 : decode cX0_dig 72 = .ok (.getfield 148, 3) := by decide +kernel
theorem dX0_dig_75 : decode cX0_dig 75 = .ok (.bipush 100, 2) := by decide +kernel
theorem dX0_dig_77 : decode cX0_dig 77 = .ok (.if_icmp .ne 5, 3) := by decide +kernel
theorem dX0_dig_80 : decode cX0_dig 80 = .ok (.iconst (-1), 1) := by decide +kernel
theorem dX0_dig_81 : decode cX0_dig 81 = .ok (.ireturn, 1) := by decide +kernel
theorem dX0_dig_82 : decode cX0_dig 82 = .ok (.iload_n 2, 1) := by decide +kernel
theorem dX0_dig_83 : decode cX0_dig 83 = .ok (.ifCond .ne 30, 3) := by decide +kernel
theorem dX0_dig_86 : decode cX0_dig 86 = .ok (.new 193, 3) := by decide +kernel
theorem dX0_dig_89 : decode cX0_dig 89 = .ok (.dup, 1) := by decide +kernel
theorem dX0_dig_90 : decode cX0_dig 90 = .ok (.aload_n 0, 1) := by decide +kernel
theorem dX0_dig_91 : decode cX0_dig 91 = .ok (.getfield 148, 3) := by decide +kernel
theorem dX0_dig_94 : decode cX0_dig 94 = .ok (.iload_n 1, 1) := by decide +kernel
theorem dX0_dig_95 : decode cX0_dig 95 = .ok (.aload 9, 2) := by decide +kernel
theorem dX0_dig_97 : decode cX0_dig 97 = .ok (.iload 6, 2) := by decide +kernel
theorem dX0_dig_99 : decode cX0_dig 99 = .ok (.iload 7, 2) := by decide +kernel
theorem dX0_dig_101 : decode cX0_dig 101 = .ok (.iload 8, 2) := by decide +kernel
theorem dX0_dig_103 : decode cX0_dig 103 = .ok (.aload_n 0, 1) := by decide +kernel
theorem dX0_dig_104 : decode cX0_dig 104 = .ok (.getfield 158, 3) := by decide +kernel
theorem dX0_dig_107 : decode cX0_dig 107 = .ok (.invokespecial 195, 3) := by decide +kernel
theorem dX0_dig_110 : decode cX0_dig 110 = .ok (.goto 63, 3) := by decide +kernel
theorem dX0_dig_113 : decode cX0_dig 113 = .ok (.iload_n 2, 1) := by decide +kernel
theorem dX0_dig_114 : decode cX0_dig 114 = .ok (.iconst 1, 1) := by decide +kernel
theorem dX0_dig_115 : decode cX0_dig 115 = .ok (.if_icmp .ne 32, 3) := by decide +kernel
theorem dX0_dig_118 : decode cX0_dig 118 = .ok (.new 198, 3) := by decide +kernel
theorem dX0_dig_121 : decode cX0_dig 121 = .ok (.dup, 1) := by decide +kernel
theorem dX0_dig_122 : decode cX0_dig 122 = .ok (.aload_n 0, 1) := by decide +kernel
theorem dX0_dig_123 : decode cX0_dig 123 = .ok (.getfield 148, 3) := by decide +kernel
theorem dX0_dig_126 : decode cX0_dig 126 = .ok (.iload_n 1, 1) := by decide +kernel
theorem dX0_dig_127 : decode cX0_dig 127 = .ok (.aload 9, 2) := by decide +kernel
theorem dX0_dig_129 : decode cX0_dig 129 = .ok (.iload 5, 2) := by decide +kernel
theorem dX0_dig_131 : decode cX0_dig 131 = .ok (.iload 6, 2) := by decide +kernel
theorem dX0_dig_133 : decode cX0_dig 133 = .ok (.iload 7, 2) := by decide +kernel
theorem dX0_dig_135 : decode cX0_dig 135 = .ok (.iload 8, 2) := by decide +kernel
theorem dX0_dig_137 : decode cX0_dig 137 = .ok (.aload_n 0, 1) := by decide +kernel
theorem dX0_dig_138 : decode cX0_dig 138 = .ok (.getfield 158, 3) := by decide +kernel
theorem dX0_dig_141 : decode cX0_dig 141 = .ok (.invokespecial 200, 3) := by decide +kernel
theorem dX0_dig_144 : decode cX0_dig 144 = .ok (.goto 29, 3) := by decide +kernel
theorem dX0_dig_147 : decode cX0_dig 147 = .ok (.new 203, 3) := by decide +kernel
theorem dX0_dig_150 : decode cX0_dig 150 = .ok (.dup, 1) := by decide +kernel
theorem dX0_dig_151 : decode cX0_dig 151 = .ok (.aload_n 0, 1) := by decide +kernel
theorem dX0_dig_152 : decode cX0_dig 152 = .ok (.getfield 148, 3) := by decide +kernel
theorem dX0_dig_155 : decode cX0_dig 155 = .ok (.iload_n 1, 1) := by decide +kernel
theorem dX0_dig_156 : decode cX0_dig 156 = .ok (.aload 9, 2) := by decide +kernel
theorem dX0_dig_158 : decode cX0_dig 158 = .ok (.iload 5, 2) := by decide +kernel
theorem dX0_dig_160 : decode cX0_dig 160 = .ok (.iload 6, 2) := by decide +kernel
theorem dX0_dig_162 : decode cX0_dig 162 = .ok (.iload 7, 2) := by decide +kernel
theorem dX0_dig_164 : decode cX0_dig 164 = .ok (.iload 8, 2) := by decide +kernel
theorem dX0_dig_166 : decode cX0_dig 166 = .ok (.aload_n 0, 1) := by decide +kernel
theorem dX0_dig_167 : decode cX0_dig 167 = .ok (.getfield 158, 3) := by decide +kernel
theorem dX0_dig_170 : decode cX0_dig 170 = .ok (.invokespecial 205, 3) := by decide +kernel
theorem dX0_dig_173 : decode cX0_dig 173 = .ok (.astore 10, 2) := by decide +kernel
theorem dX0_dig_175 : decode cX0_dig 175 = .ok (.aload_n 0, 1) := by decide +kernel
theorem dX0_dig_176 : decode cX0_dig 176 = .ok (.getfield 30, 3) := by decide +kernel
theorem dX0_dig_179 : decode cX0_dig 179 = .ok (.aload_n 0, 1) := by decide +kernel
theorem dX0_dig_180 : decode cX0_dig 180 = .ok (.getfield 148, 3) := by decide +kernel
theorem dX0_dig_183 : decode cX0_dig 183 = .ok (.aload 10, 2) := by decide +kernel
theorem dX0_dig_185 : decode cX0_dig 185 = .ok (.aastore, 1) := by decide +kernel
theorem dX0_dig_186 : decode cX0_dig 186 = .ok (.aload_n 0, 1) := by decide +kernel
theorem dX0_dig_187 : decode cX0_dig 187 = .ok (.getfield 148, 3) := by decide +kernel
theorem dX0_dig_190 : decode cX0_dig 190 = .ok (.istore 11, 2) := by decide +kernel
theorem dX0_dig_192 : decode cX0_dig 192 = .ok (.iload 11, 2) := by decide +kernel
theorem dX0_dig_194 : decode cX0_dig 194 = .ok (.ifCond .le 42, 3) := by decide +kernel
theorem dX0_dig_197 : decode cX0_dig 197 = .ok (.aload 10, 2) := by decide +kernel
theorem dX0_dig_199 : decode cX0_dig 199 = .ok (.aload_n 0, 1) := by decide +kernel
theorem dX0_dig_200 : decode cX0_dig 200 = .ok (.getfield 34, 3) := by decide +kernel
theorem dX0_dig_203 : decode cX0_dig 203 = .ok (.iload 11, 2) := by decide +kernel
theorem dX0_dig_205 : decode cX0_dig 205 = .ok (.iconst 1, 1) := by decide +kernel
theorem dX0_dig_206 : decode cX0_dig 206 = .ok (.isub, 1) := by decide +kernel
theorem dX0_dig_207 : decode cX0_dig 207 = .ok (.aaload, 1) := by decide +kernel
theorem dX0_dig_208 : decode cX0_dig 208 = .ok (.invokevirtual 206, 3) := by decide +kernel
theorem dX0_dig_211 : decode cX0_dig 211 = .ok (.ifCond .eq 25, 3) := by decide +kernel
theorem dX0_dig_214 : decode cX0_dig 214 = .ok (.aload_n 0, 1) := by decide +kernel
theorem dX0_dig_215 : decode cX0_dig 215 = .ok (.getfield 34, 3) := by decide +kernel
theorem dX0_dig_218 : decode cX0_dig 218 = .ok (.iload 11, 2) := by decide +kernel
theorem dX0_dig_220 : decode cX0_dig 220 = .ok (.aload_n 0, 1) := by decide +kernel
theorem dX0_dig_221 : decode cX0_dig 221 = .ok (.getfield 34, 3) := by decide +kernel
theorem dX0_dig_224 : decode cX0_dig 224 = .ok (.iload 11, 2) := by decide +kernel
theorem dX0_dig_226 : decode cX0_dig 226 = .ok (.iconst 1, 1) := by decide +kernel
theorem dX0_dig_227 : decode cX0_dig 227 = .ok (.isub, 1) := by decide +kernel
theorem dX0_dig_228 : decode cX0_dig 228 = .ok (.aaload, 1) := by decide +kernel
theorem dX0_dig_229 : decode cX0_dig 229 = .ok (.aastore, 1) := by decide +kernel
theorem dX0_dig_230 : decode cX0_dig 230 = .ok (.iinc 11 (-1), 3) := by decide +kernel
theorem dX0_dig_233 : decode cX0_dig 233 = .ok (.goto (-41), 3) := by decide +kernel
theorem dX0_dig_236 : decode cX0_dig 236 = .ok (.aload_n 0, 1) := by decide +kernel
theorem dX0_dig_237 : decode cX0_dig 237 = .ok (.getfield 34, 3) := by decide +kernel
theorem dX0_dig_240 : decode cX0_dig 240 = .ok (.iload 11, 2) := by decide +kernel
theorem dX0_dig_242 : decode cX0_dig 242 = .ok (.aload 10, 2) := by decide +kernel
theorem dX0_dig_244 : decode cX0_dig 244 = .ok (.aastore, 1) := by decide +kernel
theorem dX0_dig_245 : decode cX0_dig 245 = .ok (.aload_n 0, 1) := by decide +kernel
theorem dX0_dig_246 : decode cX0_dig 246 = .ok (.dup, 1) := by decide +kernel
theorem dX0_dig_247 : decode cX0_dig 247 = .ok (.getfield 148, 3) := by decide +kernel
theorem dX0_dig_250 : decode cX0_dig 250 = .ok (.iconst 1, 1) := by decide +kernel
theorem dX0_dig_251 : decode cX0_dig 251 = .ok (.iadd, 1) := by decide +kernel
theorem dX0_dig_252 : decode cX0_dig 252 = .ok (.putfield 148, 3) := by decide +kernel
theorem dX0_dig_255 : decode cX0_dig 255 = .ok (.aload_n 0, 1) := by decide +kernel
theorem dX0_dig_256 : decode cX0_dig 256 = .ok (.getfield 148, 3) := by decide +kernel
theorem dX0_dig_259 : decode cX0_dig 259 = .ok (.iconst 1, 1) := by decide +kernel
theorem dX0_dig_260 : decode cX0_dig 260 = .ok (.isub, 1) := by decide +kernel
theorem dX0_dig_261 : decode cX0_dig 261 = .ok (.ireturn, 1) := by decide +kernel
section
variable {v : Int32}
noncomputable def x0_dig_B192 (F : Nat) (K236 : Int32 × XS → XR Int32) (x10 : Nat) (R : Int32 × XS → XR Int32) (a : Int32 × XS) : XR Int32 :=
  if a.1 ≤ 0 then (K236 (a.1, a.2)) else (if okI (a.1 - 1) 100 = true then (a.2.2.1 2 (a.1 - 1).toNatClampNeg).bind (fun n1 => if isC a.2 x10 [5, 6, 7] = true then (x4_isAhead F x10 n1 a.2).bind (fun r1 => tk r1.2.2.1 r1.2.2.2 (if r1.1 = 0 then (K236 (a.1, r1.2.1)) else (if okI (a.1 - 1) 100 = true then (r1.2.1.2.1 2 (a.1 - 1).toNatClampNeg).bind (fun n2 => if isC r1.2.1 n2 [5, 6, 7] = true then if okI a.1 100 = true then nx (xR r1.2.1 2 a.1.toNatClampNeg (some n2)) (fun τ1 => R (a.1 + (-1), τ1)) else none else none) else none))) else none) else none)
theorem kx0_dig_B192 (M : XC γ cX0_dig 12 RX0 "dig" G o B 4 (some .int) (xQi G o B v τr) c0 s0) (x10 : Nat) (K236 : Int32 × XS → XR Int32) (hK236 : ∀ a c s, K236 a = some (v, τr, c, s) → ∀ k n, k + c ≤ c0 ∧ n + s ≤ s0 → J γ (XW G o B a.2) k n 236 [(0, .ref o), (10, .ref x10), (11, .int a.1)] []) : ∀ R : Int32 × XS → XR Int32, (∀ a c s, R a = some (v, τr, c, s) → ∀ k n, k + c ≤ c0 ∧ n + s ≤ s0 → J γ (XW G o B a.2) k n 192 [(0, .ref o), (10, .ref x10), (11, .int a.1)] []) → ∀ a c s, x0_dig_B192 F K236 x10 R a = some (v, τr, c, s) → ∀ k n, k + c ≤ c0 ∧ n + s ≤ s0 → J γ (XW G o B a.2) k n 192 [(0, .ref o), (10, .ref x10), (11, .int a.1)] [] := by
  intro R hR a c s hf k n hkn
  unfold x0_dig_B192 at hf
  refine j_iload (pc := 192) M.1 dX0_dig_192 2 rfl ?_
  refine j_if_le (pc := 194) M.1 236 dX0_dig_194 rfl (fun b1 => ?_) (fun b1 => ?_)
  · replace hf := o_pos b1 hf
    have hy := hK236 _ _ _ hf _ _ hkn
    exact hy
  · replace hf := o_neg b1 hf
    refine j_aload (pc := 197) M.1 dX0_dig_197 1 rfl ?_
    refine j_aload_n (pc := 199) M.1 dX0_dig_199 0 rfl ?_
    refine jx_getA (pc := 200) M xfa_34 dX0_dig_200 ?_
    refine j_iload (pc := 203) M.1 dX0_dig_203 2 rfl ?_
    refine j_iconst (pc := 205) M.1 dX0_dig_205 kc_iconst_1 ?_
    refine j_isub (pc := 206) M.1 dX0_dig_206 ?_
    obtain ⟨b2, hf⟩ := o_need hf
    obtain ⟨n1, g1, hf⟩ := o_bind hf
    refine jx_aald (pc := 207) M xax_2 (by decide) xrt_4 b2 g1 dX0_dig_207 ?_
    obtain ⟨b3, hf⟩ := o_need hf
    obtain ⟨r1, g2, hf⟩ := o_bind hf
    obtain ⟨c1, s1, hf, hc1, hs1⟩ := o_tk hf
    replace hkn := kn_step hkn hc1 hs1
    refine jx_i M (x_runU (pc := 208) (As := [.ref n1]) (rest := []) M xcu_X0_206 (met_x4_isAhead g2) b3 (by decide) rfl rfl rfl dX0_dig_208 (kn_le hkn)) ?_
    refine j_if_eq (pc := 211) M.1 236 dX0_dig_211 rfl (fun b4 => ?_) (fun b4 => ?_)
    · replace hf := o_pos b4 hf
      have hy := hK236 _ _ _ hf _ _ hkn
      exact hy
    · replace hf := o_neg b4 hf
      refine j_aload_n (pc := 214) M.1 dX0_dig_214 0 rfl ?_
      refine jx_getA (pc := 215) M xfa_34 dX0_dig_215 ?_
      refine j_iload (pc := 218) M.1 dX0_dig_218 2 rfl ?_
      refine j_aload_n (pc := 220) M.1 dX0_dig_220 0 rfl ?_
      refine jx_getA (pc := 221) M xfa_34 dX0_dig_221 ?_
      refine j_iload (pc := 224) M.1 dX0_dig_224 2 rfl ?_
      refine j_iconst (pc := 226) M.1 dX0_dig_226 kc_iconst_1 ?_
      refine j_isub (pc := 227) M.1 dX0_dig_227 ?_
      obtain ⟨b5, hf⟩ := o_need hf
      obtain ⟨n2, g3, hf⟩ := o_bind hf
      refine jx_aald (pc := 228) M xax_2 (by decide) xrt_4 b5 g3 dX0_dig_228 ?_
      obtain ⟨b6, hf⟩ := o_need hf
      obtain ⟨b7, hf⟩ := o_need hf
      obtain ⟨τ1, e1, hf⟩ := o_nx hf
      refine jx_aast (pc := 229) M xax_2 (by decide) (by decide) xel_4 b6 b7 dX0_dig_229 e1 ?_
      refine j_iinc (pc := 230) M.1 [(11, .int (a.1 + (-1))), (0, .ref o), (10, .ref x10)] dX0_dig_230 2 rfl (congrArg _ kc_iconst_m1) rfl rfl ?_
      refine j_goto (pc := 233) M.1 192 dX0_dig_233 rfl ?_
      refine j_sub [1, 2, 0] (show lv_pick _ _ = [(0, .ref o), (10, .ref x10), (11, .int (a.1 + (-1)))] from rfl) ?_
      have hy := hR _ _ _ hf _ _ hkn
      exact hy
noncomputable def x0_dig_236 (F : Nat) (x10 : Nat) (x11 : Int32) (τ : XS) : XR Int32 :=
  if isC τ x10 [5, 6, 7] = true then if okI x11 100 = true then nx (xR τ 2 x11.toNatClampNeg (some x10)) (fun τ1 => nx (xS τ1 4 ((τ1.1.1 4) + 1)) (fun τ2 => some ((τ2.1.1 4) - 1, τ2, 0, 0))) else none else none
theorem kx0_dig_236 (M : XC γ cX0_dig 12 RX0 "dig" G o B 4 (some .int) (xQi G o B v τr) c0 s0) (x10 : Nat) (x11 : Int32) (τ : XS) {c s k n : Nat} (hf : x0_dig_236 F x10 x11 τ = some (v, τr, c, s)) (hkn : k + c ≤ c0 ∧ n + s ≤ s0) : J γ (XW G o B τ) k n 236 [(0, .ref o), (10, .ref x10), (11, .int x11)] [] := by
  unfold x0_dig_236 at hf
  refine j_aload_n (pc := 236) M.1 dX0_dig_236 0 rfl ?_
  refine jx_getA (pc := 237) M xfa_34 dX0_dig_237 ?_
  refine j_iload (pc := 240) M.1 dX0_dig_240 2 rfl ?_
  refine j_aload (pc := 242) M.1 dX0_dig_242 1 rfl ?_
  obtain ⟨b1, hf⟩ := o_need hf
  obtain ⟨b2, hf⟩ := o_need hf
  obtain ⟨τ1, e1, hf⟩ := o_nx hf
  refine jx_aast (pc := 244) M xax_2 (by decide) (by decide) xel_4 b1 b2 dX0_dig_244 e1 ?_
  refine j_aload_n (pc := 245) M.1 dX0_dig_245 0 rfl ?_
  refine j_dup (pc := 246) M.1 dX0_dig_246 rfl ?_
  refine jx_getS (pc := 247) M xfs_148 dX0_dig_247 ?_
  refine j_iconst (pc := 250) M.1 dX0_dig_250 kc_iconst_1 ?_
  refine j_iadd (pc := 251) M.1 dX0_dig_251 ?_
  obtain ⟨τ2, e2, hf⟩ := o_nx hf
  refine jx_putS (pc := 252) M xfs_148 dX0_dig_252 e2 ?_
  refine j_aload_n (pc := 255) M.1 dX0_dig_255 0 rfl ?_
  refine jx_getS (pc := 256) M xfs_148 dX0_dig_256 ?_
  refine j_iconst (pc := 259) M.1 dX0_dig_259 kc_iconst_1 ?_
  refine j_isub (pc := 260) M.1 dX0_dig_260 ?_
  exact jx_iretF (pc := 261) M dX0_dig_261 hf hkn
noncomputable def x0_dig_173 (F : Nat) (u0 : Nat) (τ : XS) : XR Int32 :=
  if isC τ u0 [5, 6, 7] = true then if okI (τ.1.1 4) 100 = true then nx (xR τ 1 (τ.1.1 4).toNatClampNeg (some u0)) (fun τ1 => lp (x0_dig_B192 F (fun a1 => x0_dig_236 F u0 a1.1 a1.2) u0) F (τ1.1.1 4, τ1)) else none else none
theorem kx0_dig_173 (M : XC γ cX0_dig 12 RX0 "dig" G o B 4 (some .int) (xQi G o B v τr) c0 s0) (u0 : Nat) (τ : XS) {c s k n : Nat} (hf : x0_dig_173 F u0 τ = some (v, τr, c, s)) (hkn : k + c ≤ c0 ∧ n + s ≤ s0) : J γ (XW G o B τ) k n 173 [(0, .ref o)] [.ref u0] := by
  unfold x0_dig_173 at hf
  refine j_astore (pc := 173) M.1 [(10, .ref u0), (0, .ref o)] dX0_dig_173 rfl rfl ?_
  refine j_aload_n (pc := 175) M.1 dX0_dig_175 1 rfl ?_
  refine jx_getA (pc := 176) M xfa_30 dX0_dig_176 ?_
  refine j_aload_n (pc := 179) M.1 dX0_dig_179 1 rfl ?_
  refine jx_getS (pc := 180) M xfs_148 dX0_dig_180 ?_
  refine j_aload (pc := 183) M.1 dX0_dig_183 0 rfl ?_
  obtain ⟨b1, hf⟩ := o_need hf
  obtain ⟨b2, hf⟩ := o_need hf
  obtain ⟨τ1, e1, hf⟩ := o_nx hf
  refine jx_aast (pc := 185) M xax_1 (by decide) (by decide) xel_4 b1 b2 dX0_dig_185 e1 ?_
  refine j_aload_n (pc := 186) M.1 dX0_dig_186 1 rfl ?_
  refine jx_getS (pc := 187) M xfs_148 dX0_dig_187 ?_
  refine j_istore (pc := 190) M.1 [(11, .int (τ1.1.1 4)), (10, .ref u0), (0, .ref o)] dX0_dig_190 rfl rfl ?_
  refine j_sub [2, 1, 0] (show lv_pick _ _ = [(0, .ref o), (10, .ref u0), (11, .int (τ1.1.1 4))] from rfl) ?_
  refine lp_Wc (kx0_dig_B192 M u0 _ ?_) F (τ1.1.1 4, τ1) _ _ hf _ _ hkn
  · intro a1 c s hf k n hkn
    exact kx0_dig_236 M u0 a1.1 a1.2 hf hkn
noncomputable def x0_dig_60 (F : Nat) (x1 : Int32) (x2 : Int32) (x5 : Int32) (x6 : Int32) (x7 : Int32) (x8 : Int32) (x9 : Option Nat) (τ : XS) : XR Int32 :=
  (x0_isSpan F x7 x8 τ).bind (fun r1 => tk r1.2.2.1 r1.2.2.2 (if r1.1 = 0 then (some ((-1), r1.2.1, 0, 0)) else (if (r1.2.1.1.1 4) = 100 then (some ((-1), r1.2.1, 0, 0)) else (if x2 = 0 then (nx (xN r1.2.1 (.inr (5, fun q => defaultValue (tyX5 q)))) (fun τ3 => tk 1 9 ((x9).bind (fun a3 => (x5_init F r1.2.1.2.2.2.2 (τ3.1.1 4) x1 a3 x6 x7 x8 (τ3.1.1 2) τ3).bind (fun r4 => tk r4.2.2.1 r4.2.2.2 (x0_dig_173 F r1.2.1.2.2.2.2 r4.2.1)))))) else (if x2 = 1 then (nx (xN r1.2.1 (.inr (6, fun q => defaultValue (tyX6 q)))) (fun τ2 => tk 1 9 ((x9).bind (fun a2 => (x6_init F r1.2.1.2.2.2.2 (τ2.1.1 4) x1 a2 x5 x6 x7 x8 (τ2.1.1 2) τ2).bind (fun r3 => tk r3.2.2.1 r3.2.2.2 (x0_dig_173 F r1.2.1.2.2.2.2 r3.2.1)))))) else (nx (xN r1.2.1 (.inr (7, fun q => defaultValue (tyX7 q)))) (fun τ1 => tk 1 9 ((x9).bind (fun a1 => (x7_init F r1.2.1.2.2.2.2 (τ1.1.1 4) x1 a1 x5 x6 x7 x8 (τ1.1.1 2) τ1).bind (fun r2 => tk r2.2.2.1 r2.2.2.2 (x0_dig_173 F r1.2.1.2.2.2.2 r2.2.1)))))))))))
theorem kx0_dig_60 (M : XC γ cX0_dig 12 RX0 "dig" G o B 4 (some .int) (xQi G o B v τr) c0 s0) (x1 : Int32) (x2 : Int32) (x5 : Int32) (x6 : Int32) (x7 : Int32) (x8 : Int32) (x9 : Option Nat) (τ : XS) {c s k n : Nat} (hf : x0_dig_60 F x1 x2 x5 x6 x7 x8 x9 τ = some (v, τr, c, s)) (hkn : k + c ≤ c0 ∧ n + s ≤ s0) : J γ (XW G o B τ) k n 60 [(0, .ref o), (1, .int x1), (2, .int x2), (5, .int x5), (6, .int x6), (7, .int x7), (8, .int x8), (9, va_rf x9)] [] := by
  unfold x0_dig_60 at hf
  refine j_aload_n (pc := 60) M.1 dX0_dig_60 0 rfl ?_
  refine j_iload (pc := 61) M.1 dX0_dig_61 5 rfl ?_
  refine j_iload (pc := 63) M.1 dX0_dig_63 6 rfl ?_
  obtain ⟨r1, g1, hf⟩ := o_bind hf
  obtain ⟨c1, s1, hf, hc1, hs1⟩ := o_tk hf
  replace hkn := kn_step hkn hc1 hs1
  refine jx_i M (x_runV (pc := 65) (As := [.int x7, .int x8]) (rest := []) (V := xV o τ) M xcw_X0_190 (met_x0_isSpan g1) (fun H h => h.1 o _ xH_o) (by decide) rfl rfl rfl dX0_dig_65 (kn_le hkn)) ?_
  refine j_if_eq (pc := 68) M.1 80 dX0_dig_68 rfl (fun b1 => ?_) (fun b1 => ?_)
  · replace hf := o_pos b1 hf
    refine j_iconst (pc := 80) M.1 dX0_dig_80 kc_iconst_m1 ?_
    exact jx_iretF (pc := 81) M dX0_dig_81 hf hkn
  · replace hf := o_neg b1 hf
    refine j_aload_n (pc := 71) M.1 dX0_dig_71 0 rfl ?_
    refine jx_getS (pc := 72) M xfs_148 dX0_dig_72 ?_
    refine j_bipush (pc := 75) M.1 dX0_dig_75 kc_bipush_100 ?_
    refine j_icmp_ne (pc := 77) M.1 82 dX0_dig_77 rfl (fun b2 => ?_) (fun b2 => ?_)
    · replace hf := o_neg b2 hf
      refine j_iload_n (pc := 82) M.1 dX0_dig_82 2 rfl ?_
      refine j_if_ne (pc := 83) M.1 113 dX0_dig_83 rfl (fun b3 => ?_) (fun b3 => ?_)
      · replace hf := o_neg b3 hf
        refine j_iload_n (pc := 113) M.1 dX0_dig_113 2 rfl ?_
        refine j_iconst (pc := 114) M.1 dX0_dig_114 kc_iconst_1 ?_
        refine j_icmp_ne (pc := 115) M.1 147 dX0_dig_115 rfl (fun b4 => ?_) (fun b4 => ?_)
        · replace hf := o_neg b4 hf
          obtain ⟨τ1, e1, hf⟩ := o_nx hf
          obtain ⟨c2, s2, hf, hc2, hs2⟩ := o_tk hf
          replace hkn := kn_step hkn hc2 hs2
          refine jx_new (pc := 147) M xnew_X0_203 dX0_dig_147 (kn_le hkn) e1 ?_
          refine j_dup (pc := 150) M.1 dX0_dig_150 rfl ?_
          refine j_aload_n (pc := 151) M.1 dX0_dig_151 0 rfl ?_
          refine jx_getS (pc := 152) M xfs_148 dX0_dig_152 ?_
          refine j_iload_n (pc := 155) M.1 dX0_dig_155 1 rfl ?_
          refine j_aloadq (pc := 156) M.1 dX0_dig_156 7 rfl ?_
          refine j_iload (pc := 158) M.1 dX0_dig_158 3 rfl ?_
          refine j_iload (pc := 160) M.1 dX0_dig_160 4 rfl ?_
          refine j_iload (pc := 162) M.1 dX0_dig_162 5 rfl ?_
          refine j_iload (pc := 164) M.1 dX0_dig_164 6 rfl ?_
          refine j_aload_n (pc := 166) M.1 dX0_dig_166 0 rfl ?_
          refine jx_getS (pc := 167) M xfs_158 dX0_dig_167 ?_
          obtain ⟨a1, hq1, hf⟩ := o_bind hf
          refine j_st (show _ = [.int (τ1.1.1 2), .int x8, .int x7, .int x6, .int x5, .ref a1, .int x1, .int (τ1.1.1 4), .ref r1.2.1.2.2.2.2, .ref r1.2.1.2.2.2.2] by simp only [hq1, va_rf]) ?_
          obtain ⟨r2, g2, hf⟩ := o_bind hf
          obtain ⟨c3, s3, hf, hc3, hs3⟩ := o_tk hf
          replace hkn := kn_step hkn hc3 hs3
          refine jx_v (r := r2.1) M (x_runI (pc := 170) (As := [.int (τ1.1.1 4), .int x1, .ref a1, .int x5, .int x6, .int x7, .int x8, .int (τ1.1.1 2)]) (rest := [.ref r1.2.1.2.2.2.2]) M xci_X0_205 (met_x7_init g2) (by decide) rfl rfl rfl dX0_dig_170 (kn_le hkn)) ?_
          refine j_sub [0] (show lv_pick _ _ = [(0, .ref o)] from rfl) ?_
          exact kx0_dig_173 M r1.2.1.2.2.2.2 r2.2.1 hf hkn
        · replace hf := o_pos b4 hf
          obtain ⟨τ2, e2, hf⟩ := o_nx hf
          obtain ⟨c4, s4, hf, hc4, hs4⟩ := o_tk hf
          replace hkn := kn_step hkn hc4 hs4
          refine jx_new (pc := 118) M xnew_X0_198 dX0_dig_118 (kn_le hkn) e2 ?_
          refine j_dup (pc := 121) M.1 dX0_dig_121 rfl ?_
          refine j_aload_n (pc := 122) M.1 dX0_dig_122 0 rfl ?_
          refine jx_getS (pc := 123) M xfs_148 dX0_dig_123 ?_
          refine j_iload_n (pc := 126) M.1 dX0_dig_126 1 rfl ?_
          refine j_aloadq (pc := 127) M.1 dX0_dig_127 7 rfl ?_
          refine j_iload (pc := 129) M.1 dX0_dig_129 3 rfl ?_
          refine j_iload (pc := 131) M.1 dX0_dig_131 4 rfl ?_
          refine j_iload (pc := 133) M.1 dX0_dig_133 5 rfl ?_
          refine j_iload (pc := 135) M.1 dX0_dig_135 6 rfl ?_
          refine j_aload_n (pc := 137) M.1 dX0_dig_137 0 rfl ?_
          refine jx_getS (pc := 138) M xfs_158 dX0_dig_138 ?_
          obtain ⟨a2, hq2, hf⟩ := o_bind hf
          refine j_st (show _ = [.int (τ2.1.1 2), .int x8, .int x7, .int x6, .int x5, .ref a2, .int x1, .int (τ2.1.1 4), .ref r1.2.1.2.2.2.2, .ref r1.2.1.2.2.2.2] by simp only [hq2, va_rf]) ?_
          obtain ⟨r3, g3, hf⟩ := o_bind hf
          obtain ⟨c5, s5, hf, hc5, hs5⟩ := o_tk hf
          replace hkn := kn_step hkn hc5 hs5
          refine jx_v (r := r3.1) M (x_runI (pc := 141) (As := [.int (τ2.1.1 4), .int x1, .ref a2, .int x5, .int x6, .int x7, .int x8, .int (τ2.1.1 2)]) (rest := [.ref r1.2.1.2.2.2.2]) M xci_X0_200 (met_x6_init g3) (by decide) rfl rfl rfl dX0_dig_141 (kn_le hkn)) ?_
          refine j_goto (pc := 144) M.1 173 dX0_dig_144 rfl ?_
          refine j_sub [0] (show lv_pick _ _ = [(0, .ref o)] from rfl) ?_
          exact kx0_dig_173 M r1.2.1.2.2.2.2 r3.2.1 hf hkn
      · replace hf := o_pos b3 hf
        obtain ⟨τ3, e3, hf⟩ := o_nx hf
        obtain ⟨c6, s6, hf, hc6, hs6⟩ := o_tk hf
        replace hkn := kn_step hkn hc6 hs6
        refine jx_new (pc := 86) M xnew_X0_193 dX0_dig_86 (kn_le hkn) e3 ?_
        refine j_dup (pc := 89) M.1 dX0_dig_89 rfl ?_
        refine j_aload_n (pc := 90) M.1 dX0_dig_90 0 rfl ?_
        refine jx_getS (pc := 91) M xfs_148 dX0_dig_91 ?_
        refine j_iload_n (pc := 94) M.1 dX0_dig_94 1 rfl ?_
        refine j_aloadq (pc := 95) M.1 dX0_dig_95 7 rfl ?_
        refine j_iload (pc := 97) M.1 dX0_dig_97 4 rfl ?_
        refine j_iload (pc := 99) M.1 dX0_dig_99 5 rfl ?_
        refine j_iload (pc := 101) M.1 dX0_dig_101 6 rfl ?_
        refine j_aload_n (pc := 103) M.1 dX0_dig_103 0 rfl ?_
        refine jx_getS (pc := 104) M xfs_158 dX0_dig_104 ?_
        obtain ⟨a3, hq3, hf⟩ := o_bind hf
        refine j_st (show _ = [.int (τ3.1.1 2), .int x8, .int x7, .int x6, .ref a3, .int x1, .int (τ3.1.1 4), .ref r1.2.1.2.2.2.2, .ref r1.2.1.2.2.2.2] by simp only [hq3, va_rf]) ?_
        obtain ⟨r4, g4, hf⟩ := o_bind hf
        obtain ⟨c7, s7, hf, hc7, hs7⟩ := o_tk hf
        replace hkn := kn_step hkn hc7 hs7
        refine jx_v (r := r4.1) M (x_runI (pc := 107) (As := [.int (τ3.1.1 4), .int x1, .ref a3, .int x6, .int x7, .int x8, .int (τ3.1.1 2)]) (rest := [.ref r1.2.1.2.2.2.2]) M xci_X0_195 (met_x5_init g4) (by decide) rfl rfl rfl dX0_dig_107 (kn_le hkn)) ?_
        refine j_goto (pc := 110) M.1 173 dX0_dig_110 rfl ?_
        refine j_sub [0] (show lv_pick _ _ = [(0, .ref o)] from rfl) ?_
        exact kx0_dig_173 M r1.2.1.2.2.2.2 r4.2.1 hf hkn
    · replace hf := o_pos b2 hf
      refine j_iconst (pc := 80) M.1 dX0_dig_80 kc_iconst_m1 ?_
      exact jx_iretF (pc := 81) M dX0_dig_81 hf hkn
noncomputable def x0_dig (F : Nat) (x1 : Int32) (x2 : Int32) (x3 : Int32) (x4 : Int32) (x5 : Int32) (x6 : Int32) (x7 : Int32) (x8 : Int32) (τ : XS) : XR Int32 :=
  (x0_between F x3 x4 τ).bind (fun r1 => tk r1.2.2.1 r1.2.2.2 ((x0_in F x1 8).bind (fun r2 => if r2 = 0 then (some ((-1), r1.2.1, 0, 0)) else ((x0_in F x2 3).bind (fun r3 => if r3 = 0 then (some ((-1), r1.2.1, 0, 0)) else (if r1.1 = none then (some ((-1), r1.2.1, 0, 0)) else ((x0_isLayer F x5).bind (fun r4 => if r4 = 0 then (some ((-1), r1.2.1, 0, 0)) else ((x0_within F x6 x5 7).bind (fun r5 => if r5 = 0 then (some ((-1), r1.2.1, 0, 0)) else (if x2 = 0 then (if 0 < x5 then (some ((-1), r1.2.1, 0, 0)) else (x0_dig_60 F x1 x2 x5 x6 x7 x8 r1.1 r1.2.1)) else (x0_dig_60 F x1 x2 x5 x6 x7 x8 r1.1 r1.2.1))))))))))))
theorem met_x0_dig {l : Launch} {G : gG} {o B F : Nat} {x1 : Int32} {x2 : Int32} {x3 : Int32} {x4 : Int32} {x5 : Int32} {x6 : Int32} {x7 : Int32} {x8 : Int32} {τ : XS} {r : Int32 × XS × Nat × Nat} (hf : x0_dig F x1 x2 x3 x4 x5 x6 x7 x8 τ = some r) : MetX l G o B yX0_dig cX0_dig 12 (some .int) 4 [.ref o, .int x1, .int x2, .int x3, .int x4, .int x5, .int x6, .int x7, .int x8] τ (xQi G o B r.1 r.2.1) r.2.2.1 r.2.2.2 := by
  obtain ⟨v, τr, c, s⟩ := r
  refine metX_of (own := RX0) (mn := "dig") (by decide) rfl rfl rfl (fun γ hγ M => ?_)
  subst hγ
  show J γ (XW G o B τ) 0 0 0 [(0, .ref o), (1, .int x1), (2, .int x2), (3, .int x3), (4, .int x4), (5, .int x5), (6, .int x6), (7, .int x7), (8, .int x8)] []
  have hkn : 0 + c ≤ c ∧ 0 + s ≤ s := ⟨by omega, by omega⟩
  unfold x0_dig at hf
  refine j_aload_n (pc := 0) M.1 dX0_dig_0 0 rfl ?_
  refine j_iload_n (pc := 1) M.1 dX0_dig_1 3 rfl ?_
  refine j_iload (pc := 2) M.1 dX0_dig_2 4 rfl ?_
  obtain ⟨r1, g1, hf⟩ := o_bind hf
  obtain ⟨c1, s1, hf, hc1, hs1⟩ := o_tk hf
  replace hkn := kn_step hkn hc1 hs1
  refine jx_q M (x_runV (pc := 4) (As := [.int x3, .int x4]) (rest := []) (V := xV o τ) M xcw_X0_169 (met_x0_between g1) (fun H h => h.1 o _ xH_o) (by decide) rfl rfl rfl dX0_dig_4 (kn_le hkn)) ?_
  refine j_astoreq (pc := 7) M.1 [(9, va_rf r1.1), (0, .ref o), (1, .int x1), (2, .int x2), (3, .int x3), (4, .int x4), (5, .int x5), (6, .int x6), (7, .int x7), (8, .int x8)] dX0_dig_7 rfl rfl ?_
  refine j_iload_n (pc := 9) M.1 dX0_dig_9 2 rfl ?_
  refine j_bipush (pc := 10) M.1 dX0_dig_10 kc_bipush_8 ?_
  obtain ⟨r2, g2, hf⟩ := o_bind hf
  refine jx_calls (pc := 12) (As := [.int x1, .int 8]) (rest := []) M xcs_X0_137 (met_x0_in g2) rfl rfl rfl rfl dX0_dig_12 (kn_le0 hkn) ?_
  refine j_if_eq (pc := 15) M.1 80 dX0_dig_15 rfl (fun b1 => ?_) (fun b1 => ?_)
  · replace hf := o_pos b1 hf
    refine j_iconst (pc := 80) M.1 dX0_dig_80 kc_iconst_m1 ?_
    exact jx_iretF (pc := 81) M dX0_dig_81 hf hkn
  · replace hf := o_neg b1 hf
    refine j_iload_n (pc := 18) M.1 dX0_dig_18 3 rfl ?_
    refine j_iconst (pc := 19) M.1 dX0_dig_19 kc_iconst_3 ?_
    obtain ⟨r3, g3, hf⟩ := o_bind hf
    refine jx_calls (pc := 20) (As := [.int x2, .int 3]) (rest := []) M xcs_X0_137 (met_x0_in g3) rfl rfl rfl rfl dX0_dig_20 (kn_le0 hkn) ?_
    refine j_if_eq (pc := 23) M.1 80 dX0_dig_23 rfl (fun b2 => ?_) (fun b2 => ?_)
    · replace hf := o_pos b2 hf
      refine j_iconst (pc := 80) M.1 dX0_dig_80 kc_iconst_m1 ?_
      exact jx_iretF (pc := 81) M dX0_dig_81 hf hkn
    · replace hf := o_neg b2 hf
      refine j_aloadq (pc := 26) M.1 dX0_dig_26 0 rfl ?_
      refine j_ifnull (pc := 28) (x := r1.1) M.1 80 dX0_dig_28 rfl (fun b3 => ?_) (fun b3 => ?_)
      · replace hf := o_pos b3 hf
        refine j_iconst (pc := 80) M.1 dX0_dig_80 kc_iconst_m1 ?_
        exact jx_iretF (pc := 81) M dX0_dig_81 hf hkn
      · replace hf := o_neg b3 hf
        refine j_iload (pc := 31) M.1 dX0_dig_31 6 rfl ?_
        obtain ⟨r4, g4, hf⟩ := o_bind hf
        refine jx_calls (pc := 33) (As := [.int x5]) (rest := []) M xcs_X0_187 (met_x0_isLayer g4) rfl rfl rfl rfl dX0_dig_33 (kn_le0 hkn) ?_
        refine j_if_eq (pc := 36) M.1 80 dX0_dig_36 rfl (fun b4 => ?_) (fun b4 => ?_)
        · replace hf := o_pos b4 hf
          refine j_iconst (pc := 80) M.1 dX0_dig_80 kc_iconst_m1 ?_
          exact jx_iretF (pc := 81) M dX0_dig_81 hf hkn
        · replace hf := o_neg b4 hf
          refine j_iload (pc := 39) M.1 dX0_dig_39 7 rfl ?_
          refine j_iload (pc := 41) M.1 dX0_dig_41 6 rfl ?_
          refine j_bipush (pc := 43) M.1 dX0_dig_43 kc_bipush_7 ?_
          obtain ⟨r5, g5, hf⟩ := o_bind hf
          refine jx_calls (pc := 45) (As := [.int x6, .int x5, .int 7]) (rest := []) M xcs_X0_144 (met_x0_within g5) rfl rfl rfl rfl dX0_dig_45 (kn_le0 hkn) ?_
          refine j_if_eq (pc := 48) M.1 80 dX0_dig_48 rfl (fun b5 => ?_) (fun b5 => ?_)
          · replace hf := o_pos b5 hf
            refine j_iconst (pc := 80) M.1 dX0_dig_80 kc_iconst_m1 ?_
            exact jx_iretF (pc := 81) M dX0_dig_81 hf hkn
          · replace hf := o_neg b5 hf
            refine j_iload_n (pc := 51) M.1 dX0_dig_51 3 rfl ?_
            refine j_if_ne (pc := 52) M.1 60 dX0_dig_52 rfl (fun b6 => ?_) (fun b6 => ?_)
            · replace hf := o_neg b6 hf
              refine j_sub [1, 2, 3, 6, 7, 8, 9, 0] (show lv_pick _ _ = [(0, .ref o), (1, .int x1), (2, .int x2), (5, .int x5), (6, .int x6), (7, .int x7), (8, .int x8), (9, va_rf r1.1)] from rfl) ?_
              exact kx0_dig_60 M x1 x2 x5 x6 x7 x8 r1.1 r1.2.1 hf hkn
            · replace hf := o_pos b6 hf
              refine j_iload (pc := 55) M.1 dX0_dig_55 6 rfl ?_
              refine j_if_gt (pc := 57) M.1 80 dX0_dig_57 rfl (fun b7 => ?_) (fun b7 => ?_)
              · replace hf := o_pos b7 hf
                refine j_iconst (pc := 80) M.1 dX0_dig_80 kc_iconst_m1 ?_
                exact jx_iretF (pc := 81) M dX0_dig_81 hf hkn
              · replace hf := o_neg b7 hf
                refine j_sub [1, 2, 3, 6, 7, 8, 9, 0] (show lv_pick _ _ = [(0, .ref o), (1, .int x1), (2, .int x2), (5, .int x5), (6, .int x6), (7, .int x7), (8, .int x8), (9, va_rf r1.1)] from rfl) ?_
                exact kx0_dig_60 M x1 x2 x5 x6 x7 x8 r1.1 r1.2.1 hf hkn
end
theorem dX0_strike_0 : decode cX0_strike 0 = .ok (.iload_n 1, 1) := by decide +kernel
theorem dX0_strike_1 : decode cX0_strike 1 = .ok (.aload_n 0, 1) := by decide +kernel
theorem dX0_strike_2 : decode cX0_strike 2 = .ok (.getfield 148, 3) := by decide +kernel
theorem dX0_strike_5 : decode cX0_strike 5 = .ok (.invokestatic 137, 3) := by decide +kernel
theorem dX0_strike_8 : decode cX0_strike 8 = .ok (.ifCond .eq 16, 3) := by decide +kernel
theorem dX0_strike_11 : decode cX0_strike 11 = .ok (.aload_n 0, 1) := by decide +kernel
theorem dX0_strike_12 : decode cX0_strike 12 = .ok (.getfield 30, 3) := by decide +kernel
theorem dX0_strike_15 : decode cX0_strike 15 = .ok (.iload_n 1, 1) := by decide +kernel
theorem dX0_strike_16 : decode cX0_strike 16 = .ok (.aaload, 1) := by decide +kernel
theorem dX0_strike_17 : decode cX0_strike 17 = .ok (.getfield 210, 3) := by decide +kernel
theorem dX0_strike_20 : decode cX0_strike 20 = .ok (.iconst (-1), 1) := by decide +kernel
theorem dX0_strike_21 : decode cX0_strike 21 = .ok (.if_icmp .eq 5, 3) := by decide +kernel
theorem dX0_strike_24 : decode cX0_strike 24 = .ok (.iconst 0, 1) := by decide +kernel
theorem dX0_strike_25 : decode cX0_strike 25 = .ok (.ireturn, 1) := by decide +kernel
theorem dX0_strike_26 : decode cX0_strike 26 = .ok (.aload_n 0, 1) := by decide +kernel
theorem dX0_strike_27 : decode cX0_strike 27 = .ok (.getfield 30, 3) := by decide +kernel
theorem dX0_strike_30 : decode cX0_strike 30 = .ok (.iload_n 1, 1) := by decide +kernel
theorem dX0_strike_31 : decode cX0_strike 31 = .ok (.aaload, 1) := by decide +kernel
theorem dX0_strike_32 : decode cX0_strike 32 = .ok (.aload_n 0, 1) := by decide +kernel
theorem dX0_strike_33 : decode cX0_strike 33 = .ok (.getfield 158, 3) := by decide +kernel
theorem dX0_strike_36 : decode cX0_strike 36 = .ok (.putfield 210, 3) := by decide +kernel
theorem dX0_strike_39 : decode cX0_strike 39 = .ok (.iconst 1, 1) := by decide +kernel
theorem dX0_strike_40 : decode cX0_strike 40 = .ok (.ireturn, 1) := by decide +kernel
section
variable {v : Int32}
noncomputable def x0_strike (F : Nat) (x1 : Int32) (τ : XS) : XR Int32 :=
  (x0_in F x1 (τ.1.1 4)).bind (fun r1 => if r1 = 0 then (some (0, τ, 0, 0)) else (if okI x1 100 = true then (τ.2.1 1 x1.toNatClampNeg).bind (fun n1 => (gI τ n1 [5, 6, 7] 8).bind (fun v1 => if v1 = ((-1)) then (if okI x1 100 = true then (τ.2.1 1 x1.toNatClampNeg).bind (fun n2 => (pF τ n2 [5, 6, 7] 8 (.int (τ.1.1 2))).bind (fun τ1 => some (1, τ1, 0, 0))) else none) else (some (0, τ, 0, 0)))) else none))
theorem met_x0_strike {l : Launch} {G : gG} {o B F : Nat} {x1 : Int32} {τ : XS} {r : Int32 × XS × Nat × Nat} (hf : x0_strike F x1 τ = some r) : MetX l G o B yX0_strike cX0_strike 2 (some .boolean) 2 [.ref o, .int x1] τ (xQi G o B r.1 r.2.1) r.2.2.1 r.2.2.2 := by
  obtain ⟨v, τr, c, s⟩ := r
  refine metX_of (own := RX0) (mn := "strike") (by decide) rfl rfl rfl (fun γ hγ M => ?_)
  subst hγ
  show J γ (XW G o B τ) 0 0 0 [(0, .ref o), (1, .int x1)] []
  have hkn : 0 + c ≤ c ∧ 0 + s ≤ s := ⟨by omega, by omega⟩
  unfold x0_strike at hf
  refine j_iload_n (pc := 0) M.1 dX0_strike_0 1 rfl ?_
  refine j_aload_n (pc := 1) M.1 dX0_strike_1 0 rfl ?_
  refine jx_getS (pc := 2) M xfs_148 dX0_strike_2 ?_
  obtain ⟨r1, g1, hf⟩ := o_bind hf
  refine jx_calls (pc := 5) (As := [.int x1, .int (τ.1.1 4)]) (rest := []) M xcs_X0_137 (met_x0_in g1) rfl rfl rfl rfl dX0_strike_5 (kn_le0 hkn) ?_
  refine j_if_eq (pc := 8) M.1 24 dX0_strike_8 rfl (fun b1 => ?_) (fun b1 => ?_)
  · replace hf := o_pos b1 hf
    refine j_iconst (pc := 24) M.1 dX0_strike_24 kc_iconst_0 ?_
    exact jx_zretF (pc := 25) M dX0_strike_25 rfl hf hkn
  · replace hf := o_neg b1 hf
    refine j_aload_n (pc := 11) M.1 dX0_strike_11 0 rfl ?_
    refine jx_getA (pc := 12) M xfa_30 dX0_strike_12 ?_
    refine j_iload_n (pc := 15) M.1 dX0_strike_15 1 rfl ?_
    obtain ⟨b2, hf⟩ := o_need hf
    obtain ⟨n1, g2, hf⟩ := o_bind hf
    refine jx_aald (pc := 16) M xax_1 (by decide) xrt_4 b2 g2 dX0_strike_16 ?_
    obtain ⟨v1, g3, hf⟩ := o_bind hf
    refine jx_getI (pc := 17) M xfl_X0_210 g3 dX0_strike_17 ?_
    refine j_iconst (pc := 20) M.1 dX0_strike_20 kc_iconst_m1 ?_
    refine j_icmp_eq (pc := 21) M.1 26 dX0_strike_21 rfl (fun b3 => ?_) (fun b3 => ?_)
    · replace hf := o_pos b3 hf
      refine j_aload_n (pc := 26) M.1 dX0_strike_26 0 rfl ?_
      refine jx_getA (pc := 27) M xfa_30 dX0_strike_27 ?_
      refine j_iload_n (pc := 30) M.1 dX0_strike_30 1 rfl ?_
      obtain ⟨b4, hf⟩ := o_need hf
      obtain ⟨n2, g4, hf⟩ := o_bind hf
      refine jx_aald (pc := 31) M xax_1 (by decide) xrt_4 b4 g4 dX0_strike_31 ?_
      refine j_aload_n (pc := 32) M.1 dX0_strike_32 0 rfl ?_
      refine jx_getS (pc := 33) M xfs_158 dX0_strike_33 ?_
      obtain ⟨τ1, g5, hf⟩ := o_bind hf
      refine jx_putV (pc := 36) M xfl_X0_210 rfl rfl g5 dX0_strike_36 ?_
      refine j_iconst (pc := 39) M.1 dX0_strike_39 kc_iconst_1 ?_
      exact jx_zretF (pc := 40) M dX0_strike_40 rfl hf hkn
    · replace hf := o_neg b3 hf
      refine j_iconst (pc := 24) M.1 dX0_strike_24 kc_iconst_0 ?_
      exact jx_zretF (pc := 25) M dX0_strike_25 rfl hf hkn
end
theorem dX4_isKnown_0 : decode cX4_isKnown 0 = .ok (.aload_n 0, 1) := by decide +kernel
theorem dX4_isKnown_1 : decode cX4_isKnown 1 = .ok (.getfield 37, 3) := by decide +kernel
theorem dX4_isKnown_4 : decode cX4_isKnown 4 = .ok (.iload_n 1, 1) := by decide +kernel
theorem dX4_isKnown_5 : decode cX4_isKnown 5 = .ok (.if_icmp .gt 23, 3) := by decide +kernel
theorem dX4_isKnown_8 : decode cX4_isKnown 8 = .ok (.aload_n 0, 1) := by decide +kernel
theorem dX4_isKnown_9 : decode cX4_isKnown 9 = .ok (.getfield 9, 3) := by decide +kernel
theorem dX4_isKnown_12 : decode cX4_isKnown 12 = .ok (.iconst (-1), 1) := by decide +kernel
theorem dX4_isKnown_13 : decode cX4_isKnown 13 = .ok (.if_icmp .eq 11, 3) := by decide +kernel
theorem dX4_isKnown_16 : decode cX4_isKnown 16 = .ok (.aload_n 0, 1) := by decide +kernel
theorem dX4_isKnown_17 : decode cX4_isKnown 17 = .ok (.getfield 9, 3) := by decide +kernel
theorem dX4_isKnown_20 : decode cX4_isKnown 20 = .ok (.iload_n 1, 1) := by decide +kernel
theorem dX4_isKnown_21 : decode cX4_isKnown 21 = .ok (.if_icmp .le 7, 3) := by decide +kernel
theorem dX4_isKnown_24 : decode cX4_isKnown 24 = .ok (.iconst 1, 1) := by decide +kernel
theorem dX4_isKnown_25 : decode cX4_isKnown 25 = .ok (.goto 4, 3) := by decide +kernel
theorem dX4_isKnown_28 : decode cX4_isKnown 28 = .ok (.iconst 0, 1) := by decide +kernel
theorem dX4_isKnown_29 : decode cX4_isKnown 29 = .ok (.ireturn, 1) := by decide +kernel
section
variable {v : Int32}
noncomputable def x4_isKnown (F : Nat) (x0 : Nat) (x1 : Int32) (τ : XS) : XR Int32 :=
  (gI τ x0 [5, 6, 7] 6).bind (fun v1 => if x1 < v1 then (some (0, τ, 0, 0)) else ((gI τ x0 [5, 6, 7] 8).bind (fun v2 => if v2 = ((-1)) then (some (1, τ, 0, 0)) else ((gI τ x0 [5, 6, 7] 8).bind (fun v3 => if v3 ≤ x1 then (some (0, τ, 0, 0)) else (some (1, τ, 0, 0)))))))
theorem met_x4_isKnown {l : Launch} {G : gG} {o B F : Nat} {x0 : Nat} {x1 : Int32} {τ : XS} {r : Int32 × XS × Nat × Nat} (hf : x4_isKnown F x0 x1 τ = some r) : MetX l G o B yX4_isKnown cX4_isKnown 2 (some .boolean) 1 [.ref x0, .int x1] τ (xQi G o B r.1 r.2.1) r.2.2.1 r.2.2.2 := by
  obtain ⟨v, τr, c, s⟩ := r
  refine metX_of (own := RX4) (mn := "isKnown") (by decide) rfl rfl rfl (fun γ hγ M => ?_)
  subst hγ
  show J γ (XW G o B τ) 0 0 0 [(0, .ref x0), (1, .int x1)] []
  have hkn : 0 + c ≤ c ∧ 0 + s ≤ s := ⟨by omega, by omega⟩
  unfold x4_isKnown at hf
  refine j_aload_n (pc := 0) M.1 dX4_isKnown_0 0 rfl ?_
  obtain ⟨v1, g1, hf⟩ := o_bind hf
  refine jx_getI (pc := 1) M xfl_X4_37 g1 dX4_isKnown_1 ?_
  refine j_iload_n (pc := 4) M.1 dX4_isKnown_4 1 rfl ?_
  refine j_icmp_gt (pc := 5) M.1 28 dX4_isKnown_5 rfl (fun b1 => ?_) (fun b1 => ?_)
  · replace hf := o_pos b1 hf
    refine j_iconst (pc := 28) M.1 dX4_isKnown_28 kc_iconst_0 ?_
    exact jx_zretF (pc := 29) M dX4_isKnown_29 rfl hf hkn
  · replace hf := o_neg b1 hf
    refine j_aload_n (pc := 8) M.1 dX4_isKnown_8 0 rfl ?_
    obtain ⟨v2, g2, hf⟩ := o_bind hf
    refine jx_getI (pc := 9) M xfl_X4_9 g2 dX4_isKnown_9 ?_
    refine j_iconst (pc := 12) M.1 dX4_isKnown_12 kc_iconst_m1 ?_
    refine j_icmp_eq (pc := 13) M.1 24 dX4_isKnown_13 rfl (fun b2 => ?_) (fun b2 => ?_)
    · replace hf := o_pos b2 hf
      refine j_iconst (pc := 24) M.1 dX4_isKnown_24 kc_iconst_1 ?_
      refine j_goto (pc := 25) M.1 29 dX4_isKnown_25 rfl ?_
      exact jx_zretF (pc := 29) M dX4_isKnown_29 rfl hf hkn
    · replace hf := o_neg b2 hf
      refine j_aload_n (pc := 16) M.1 dX4_isKnown_16 0 rfl ?_
      obtain ⟨v3, g3, hf⟩ := o_bind hf
      refine jx_getI (pc := 17) M xfl_X4_9 g3 dX4_isKnown_17 ?_
      refine j_iload_n (pc := 20) M.1 dX4_isKnown_20 1 rfl ?_
      refine j_icmp_le (pc := 21) M.1 28 dX4_isKnown_21 rfl (fun b3 => ?_) (fun b3 => ?_)
      · replace hf := o_pos b3 hf
        refine j_iconst (pc := 28) M.1 dX4_isKnown_28 kc_iconst_0 ?_
        exact jx_zretF (pc := 29) M dX4_isKnown_29 rfl hf hkn
      · replace hf := o_neg b3 hf
        refine j_iconst (pc := 24) M.1 dX4_isKnown_24 kc_iconst_1 ?_
        refine j_goto (pc := 25) M.1 29 dX4_isKnown_25 rfl ?_
        exact jx_zretF (pc := 29) M dX4_isKnown_29 rfl hf hkn
end
theorem dX4_reaches_0 : decode cX4_reaches 0 = .ok (.aload_n 0, 1) := by decide +kernel
theorem dX4_reaches_1 : decode cX4_reaches 1 = .ok (.getfield 21, 3) := by decide +kernel
theorem dX4_reaches_4 : decode cX4_reaches 4 = .ok (.iload_n 1, 1) := by decide +kernel
theorem dX4_reaches_5 : decode cX4_reaches 5 = .ok (.iload_n 2, 1) := by decide +kernel
theorem dX4_reaches_6 : decode cX4_reaches 6 = .ok (.invokevirtual 40, 3) := by decide +kernel
theorem dX4_reaches_9 : decode cX4_reaches 9 = .ok (.ifCond .eq 22, 3) := by decide +kernel
theorem dX4_reaches_12 : decode cX4_reaches 12 = .ok (.iload_n 3, 1) := by decide +kernel
theorem dX4_reaches_13 : decode cX4_reaches 13 = .ok (.aload_n 0, 1) := by decide +kernel
theorem dX4_reaches_14 : decode cX4_reaches 14 = .ok (.getfield 25, 3) := by decide +kernel
theorem dX4_reaches_17 : decode cX4_reaches 17 = .ok (.aload_n 0, 1) := by decide +kernel
theorem dX4_reaches_18 : decode cX4_reaches 18 = .ok (.getfield 28, 3) := by decide +kernel
theorem dX4_reaches_21 : decode cX4_reaches 21 = .ok (.invokestatic 46, 3) := by decide +kernel
theorem dX4_reaches_24 : decode cX4_reaches 24 = .ok (.ifCond .eq 7, 3) := by decide +kernel
theorem dX4_reaches_27 : decode cX4_reaches 27 = .ok (.iconst 1, 1) := by decide +kernel
theorem dX4_reaches_28 : decode cX4_reaches 28 = .ok (.goto 4, 3) := by decide +kernel
theorem dX4_reaches_31 : decode cX4_reaches 31 = .ok (.iconst 0, 1) := by decide +kernel
theorem dX4_reaches_32 : decode cX4_reaches 32 = .ok (.ireturn, 1) := by decide +kernel
section
variable {v : Int32}
noncomputable def x4_reaches (F : Nat) (x0 : Nat) (x1 : Int32) (x2 : Int32) (x3 : Int32) (τ : XS) : XR Int32 :=
  (gN τ x0 [5, 6, 7] 7).bind (fun n1 => if isC τ n1 [2] = true then (x2_has F n1 x1 x2 τ).bind (fun r1 => tk r1.2.2.1 r1.2.2.2 (if r1.1 = 0 then (some (0, r1.2.1, 0, 0)) else ((gI r1.2.1 x0 [5, 6, 7] 2).bind (fun v1 => (gI r1.2.1 x0 [5, 6, 7] 3).bind (fun v2 => (x0_within F x3 v1 v2).bind (fun r2 => if r2 = 0 then (some (0, r1.2.1, 0, 0)) else (some (1, r1.2.1, 0, 0)))))))) else none)
theorem met_x4_reaches {l : Launch} {G : gG} {o B F : Nat} {x0 : Nat} {x1 : Int32} {x2 : Int32} {x3 : Int32} {τ : XS} {r : Int32 × XS × Nat × Nat} (hf : x4_reaches F x0 x1 x2 x3 τ = some r) : MetX l G o B yX4_reaches cX4_reaches 4 (some .boolean) 3 [.ref x0, .int x1, .int x2, .int x3] τ (xQi G o B r.1 r.2.1) r.2.2.1 r.2.2.2 := by
  obtain ⟨v, τr, c, s⟩ := r
  refine metX_of (own := RX4) (mn := "reaches") (by decide) rfl rfl rfl (fun γ hγ M => ?_)
  subst hγ
  show J γ (XW G o B τ) 0 0 0 [(0, .ref x0), (1, .int x1), (2, .int x2), (3, .int x3)] []
  have hkn : 0 + c ≤ c ∧ 0 + s ≤ s := ⟨by omega, by omega⟩
  unfold x4_reaches at hf
  refine j_aload_n (pc := 0) M.1 dX4_reaches_0 0 rfl ?_
  obtain ⟨n1, g1, hf⟩ := o_bind hf
  refine jx_getN (pc := 1) M xfl_X4_21 g1 dX4_reaches_1 ?_
  refine j_iload_n (pc := 4) M.1 dX4_reaches_4 1 rfl ?_
  refine j_iload_n (pc := 5) M.1 dX4_reaches_5 2 rfl ?_
  obtain ⟨b1, hf⟩ := o_need hf
  obtain ⟨r1, g2, hf⟩ := o_bind hf
  obtain ⟨c1, s1, hf, hc1, hs1⟩ := o_tk hf
  replace hkn := kn_step hkn hc1 hs1
  refine jx_i M (x_runW (pc := 6) (As := [.int x1, .int x2]) (rest := []) M xcw_X4_40 (met_x2_has g2) b1 (by decide) rfl rfl rfl dX4_reaches_6 (kn_le hkn)) ?_
  refine j_if_eq (pc := 9) M.1 31 dX4_reaches_9 rfl (fun b2 => ?_) (fun b2 => ?_)
  · replace hf := o_pos b2 hf
    refine j_iconst (pc := 31) M.1 dX4_reaches_31 kc_iconst_0 ?_
    exact jx_zretF (pc := 32) M dX4_reaches_32 rfl hf hkn
  · replace hf := o_neg b2 hf
    refine j_iload_n (pc := 12) M.1 dX4_reaches_12 3 rfl ?_
    refine j_aload_n (pc := 13) M.1 dX4_reaches_13 0 rfl ?_
    obtain ⟨v1, g3, hf⟩ := o_bind hf
    refine jx_getI (pc := 14) M xfl_X4_25 g3 dX4_reaches_14 ?_
    refine j_aload_n (pc := 17) M.1 dX4_reaches_17 0 rfl ?_
    obtain ⟨v2, g4, hf⟩ := o_bind hf
    refine jx_getI (pc := 18) M xfl_X4_28 g4 dX4_reaches_18 ?_
    obtain ⟨r2, g5, hf⟩ := o_bind hf
    refine jx_callsN (pc := 21) (As := [.int x3, .int v1, .int v2]) (rest := []) M xcn_X4_46 (met_x0_within g5) rfl rfl rfl rfl dX4_reaches_21 (kn_le0 hkn) ?_
    refine j_if_eq (pc := 24) M.1 31 dX4_reaches_24 rfl (fun b3 => ?_) (fun b3 => ?_)
    · replace hf := o_pos b3 hf
      refine j_iconst (pc := 31) M.1 dX4_reaches_31 kc_iconst_0 ?_
      exact jx_zretF (pc := 32) M dX4_reaches_32 rfl hf hkn
    · replace hf := o_neg b3 hf
      refine j_iconst (pc := 27) M.1 dX4_reaches_27 kc_iconst_1 ?_
      refine j_goto (pc := 28) M.1 32 dX4_reaches_28 rfl ?_
      exact jx_zretF (pc := 32) M dX4_reaches_32 rfl hf hkn
end
theorem dX5_makes_0 : decode cX5_makes 0 = .ok (.iconst 2, 1) := by decide +kernel
theorem dX5_makes_1 : decode cX5_makes 1 = .ok (.ireturn, 1) := by decide +kernel
section
variable {v : Int32}
noncomputable def x5_makes (F : Nat) (x0 : Nat) (x1 : Int32) (τ : XS) : XR Int32 :=
  some (2, τ, 0, 0)
theorem met_x5_makes {l : Launch} {G : gG} {o B F : Nat} {x0 : Nat} {x1 : Int32} {τ : XS} {r : Int32 × XS × Nat × Nat} (hf : x5_makes F x0 x1 τ = some r) : MetX l G o B yX5_makes cX5_makes 2 (some .int) 1 [.ref x0, .int x1] τ (xQi G o B r.1 r.2.1) r.2.2.1 r.2.2.2 := by
  obtain ⟨v, τr, c, s⟩ := r
  refine metX_of (own := RX5) (mn := "makes") (by decide) rfl rfl rfl (fun γ hγ M => ?_)
  subst hγ
  show J γ (XW G o B τ) 0 0 0 [(0, .ref x0), (1, .int x1)] []
  have hkn : 0 + c ≤ c ∧ 0 + s ≤ s := ⟨by omega, by omega⟩
  unfold x5_makes at hf
  refine j_iconst (pc := 0) M.1 dX5_makes_0 kc_iconst_2 ?_
  exact jx_iretF (pc := 1) M dX5_makes_1 hf hkn
end
theorem dX7_makes_0 : decode cX7_makes 0 = .ok (.iload_n 1, 1) := by decide +kernel
theorem dX7_makes_1 : decode cX7_makes 1 = .ok (.ifCond .ne 7, 3) := by decide +kernel
theorem dX7_makes_4 : decode cX7_makes 4 = .ok (.iconst 0, 1) := by decide +kernel
theorem dX7_makes_5 : decode cX7_makes 5 = .ok (.goto 4, 3) := by decide +kernel
theorem dX7_makes_8 : decode cX7_makes 8 = .ok (.iconst 3, 1) := by decide +kernel
theorem dX7_makes_9 : decode cX7_makes 9 = .ok (.ireturn, 1) := by decide +kernel
section
variable {v : Int32}
noncomputable def x7_makes (F : Nat) (x0 : Nat) (x1 : Int32) (τ : XS) : XR Int32 :=
  if x1 = 0 then (some (0, τ, 0, 0)) else (some (3, τ, 0, 0))
theorem met_x7_makes {l : Launch} {G : gG} {o B F : Nat} {x0 : Nat} {x1 : Int32} {τ : XS} {r : Int32 × XS × Nat × Nat} (hf : x7_makes F x0 x1 τ = some r) : MetX l G o B yX7_makes cX7_makes 2 (some .int) 1 [.ref x0, .int x1] τ (xQi G o B r.1 r.2.1) r.2.2.1 r.2.2.2 := by
  obtain ⟨v, τr, c, s⟩ := r
  refine metX_of (own := RX7) (mn := "makes") (by decide) rfl rfl rfl (fun γ hγ M => ?_)
  subst hγ
  show J γ (XW G o B τ) 0 0 0 [(0, .ref x0), (1, .int x1)] []
  have hkn : 0 + c ≤ c ∧ 0 + s ≤ s := ⟨by omega, by omega⟩
  unfold x7_makes at hf
  refine j_iload_n (pc := 0) M.1 dX7_makes_0 1 rfl ?_
  refine j_if_ne (pc := 1) M.1 8 dX7_makes_1 rfl (fun b1 => ?_) (fun b1 => ?_)
  · replace hf := o_neg b1 hf
    refine j_iconst (pc := 8) M.1 dX7_makes_8 kc_iconst_3 ?_
    exact jx_iretF (pc := 9) M dX7_makes_9 hf hkn
  · replace hf := o_pos b1 hf
    refine j_iconst (pc := 4) M.1 dX7_makes_4 kc_iconst_0 ?_
    refine j_goto (pc := 5) M.1 9 dX7_makes_5 rfl ?_
    exact jx_iretF (pc := 9) M dX7_makes_9 hf hkn
end
theorem dX6_makes_0 : decode cX6_makes 0 = .ok (.iload_n 1, 1) := by decide +kernel
theorem dX6_makes_1 : decode cX6_makes 1 = .ok (.ifCond .ne 7, 3) := by decide +kernel
theorem dX6_makes_4 : decode cX6_makes 4 = .ok (.iconst 1, 1) := by decide +kernel
theorem dX6_makes_5 : decode cX6_makes 5 = .ok (.goto 4, 3) := by decide +kernel
theorem dX6_makes_8 : decode cX6_makes 8 = .ok (.iload_n 1, 1) := by decide +kernel
theorem dX6_makes_9 : decode cX6_makes 9 = .ok (.ireturn, 1) := by decide +kernel
section
variable {v : Int32}
noncomputable def x6_makes (F : Nat) (x0 : Nat) (x1 : Int32) (τ : XS) : XR Int32 :=
  if x1 = 0 then (some (1, τ, 0, 0)) else (some (x1, τ, 0, 0))
theorem met_x6_makes {l : Launch} {G : gG} {o B F : Nat} {x0 : Nat} {x1 : Int32} {τ : XS} {r : Int32 × XS × Nat × Nat} (hf : x6_makes F x0 x1 τ = some r) : MetX l G o B yX6_makes cX6_makes 2 (some .int) 1 [.ref x0, .int x1] τ (xQi G o B r.1 r.2.1) r.2.2.1 r.2.2.2 := by
  obtain ⟨v, τr, c, s⟩ := r
  refine metX_of (own := RX6) (mn := "makes") (by decide) rfl rfl rfl (fun γ hγ M => ?_)
  subst hγ
  show J γ (XW G o B τ) 0 0 0 [(0, .ref x0), (1, .int x1)] []
  have hkn : 0 + c ≤ c ∧ 0 + s ≤ s := ⟨by omega, by omega⟩
  unfold x6_makes at hf
  refine j_iload_n (pc := 0) M.1 dX6_makes_0 1 rfl ?_
  refine j_if_ne (pc := 1) M.1 8 dX6_makes_1 rfl (fun b1 => ?_) (fun b1 => ?_)
  · replace hf := o_neg b1 hf
    refine j_iload_n (pc := 8) M.1 dX6_makes_8 1 rfl ?_
    exact jx_iretF (pc := 9) M dX6_makes_9 hf hkn
  · replace hf := o_pos b1 hf
    refine j_iconst (pc := 4) M.1 dX6_makes_4 kc_iconst_1 ?_
    refine j_goto (pc := 5) M.1 9 dX6_makes_5 rfl ?_
    exact jx_iretF (pc := 9) M dX6_makes_9 hf hkn
end
noncomputable def xd_makes (F x0 : Nat) (x1 : Int32) (τ : XS) : XR Int32 :=
  if isC τ x0 [5] = true then x5_makes F x0 x1 τ else if isC τ x0 [6] = true then x6_makes F x0 x1 τ else if isC τ x0 [7] = true then x7_makes F x0 x1 τ else none
theorem metd_makes {l : Launch} {G : gG} {o B F : Nat} {x0 : Nat} {x1 : Int32} {τ : XS} {r : Int32 × XS × Nat × Nat} (hf : xd_makes F x0 x1 τ = some r) : MetV l G o B 1 (some .int) al_makes x0 [.int x1] τ r := by
  unfold xd_makes at hf
  by_cases b0 : isC τ x0 [5] = true
  · exact ⟨0, _, rfl, b0, met_x5_makes (o_pos b0 hf)⟩
  replace hf := o_neg b0 hf
  by_cases b1 : isC τ x0 [6] = true
  · exact ⟨1, _, rfl, b1, met_x6_makes (o_pos b1 hf)⟩
  replace hf := o_neg b1 hf
  by_cases b2 : isC τ x0 [7] = true
  · exact ⟨2, _, rfl, b2, met_x7_makes (o_pos b2 hf)⟩
  replace hf := o_neg b2 hf
  cases hf
theorem dX0_groundOf_0 : decode cX0_groundOf 0 = .ok (.iconst 0, 1) := by decide +kernel
theorem dX0_groundOf_1 : decode cX0_groundOf 1 = .ok (.istore 5, 2) := by decide +kernel
theorem dX0_groundOf_3 : decode cX0_groundOf 3 = .ok (.aload_n 0, 1) := by decide +kernel
theorem dX0_groundOf_4 : decode cX0_groundOf 4 = .ok (.aconst_null, 1) := by decide +kernel
theorem dX0_groundOf_5 : decode cX0_groundOf 5 = .ok (.putfield 213, 3) := by decide +kernel
theorem dX0_groundOf_8 : decode cX0_groundOf 8 = .ok (.iconst 0, 1) := by decide +kernel
theorem dX0_groundOf_9 : decode cX0_groundOf 9 = .ok (.istore 6, 2) := by decide +kernel
theorem dX0_groundOf_11 : decode cX0_groundOf 11 = .ok (.iload 6, 2) := by decide +kernel
theorem dX0_groundOf_13 : decode cX0_groundOf 13 = .ok (.aload_n 0, 1) := by decide +kernel
theorem dX0_groundOf_14 : decode cX0_groundOf 14 = .ok (.getfield 148, 3) := by decide +kernel
theorem dX0_groundOf_17 : decode cX0_groundOf 17 = .ok (.if_icmp .ge 88, 3) := by decide +kernel
theorem dX0_groundOf_20 : decode cX0_groundOf 20 = .ok (.aload_n 0, 1) := by decide +kernel
theorem dX0_groundOf_21 : decode cX0_groundOf 21 = .ok (.getfield 34, 3) := by decide +kernel
theorem dX0_groundOf_24 : decode cX0_groundOf 24 = .ok (.iload 6, 2) := by decide +kernel
theorem dX0_groundOf_26 : decode cX0_groundOf 26 = .ok (.aaload, 1) := by decide +kernel
theorem dX0_groundOf_27 : decode cX0_groundOf 27 = .ok (.astore 7, 2) := by decide +kernel
theorem dX0_groundOf_29 : decode cX0_groundOf 29 = .ok (.aload 7, 2) := by decide +kernel
theorem dX0_groundOf_31 : decode cX0_groundOf 31 = .ok (.getfield 217, 3) := by decide +kernel
theorem dX0_groundOf_34 : decode cX0_groundOf 34 = .ok (.iload_n 3, 1) := by decide +kernel
theorem dX0_groundOf_35 : decode cX0_groundOf 35 = .ok (.if_icmp .gt 64, 3) := by decide +kernel
theorem dX0_groundOf_38 : decode cX0_groundOf 38 = .ok (.aload 7, 2) := by decide +kernel
theorem dX0_groundOf_40 : decode cX0_groundOf 40 = .ok (.iload 4, 2) := by decide +kernel
theorem dX0_groundOf_42 : decode cX0_groundOf 42 = .ok (.invokevirtual 220, 3) := by decide +kernel
theorem dX0_groundOf_45 : decode cX0_groundOf 45 = .ok (.ifCond .eq 54, 3) := by decide +kernel
theorem dX0_groundOf_48 : decode cX0_groundOf 48 = .ok (.aload 7, 2) := by decide +kernel
theorem dX0_groundOf_50 : decode cX0_groundOf 50 = .ok (.iload_n 1, 1) := by decide +kernel
theorem dX0_groundOf_51 : decode cX0_groundOf 51 = .ok (.aload_n 0, 1) := by decide +kernel
theorem dX0_groundOf_52 : decode cX0_groundOf 52 = .ok (.getfield 13, 3) := by decide +kernel
theorem dX0_groundOf_55 : decode cX0_groundOf 55 = .ok (.irem, 1) := by decide +kernel
theorem dX0_groundOf_56 : decode cX0_groundOf 56 = .ok (.iload_n 1, 1) := by decide +kernel
theorem dX0_groundOf_57 : decode cX0_groundOf 57 = .ok (.aload_n 0, 1) := by decide +kernel
theorem dX0_groundOf_58 : decode cX0_groundOf 58 = .ok (.getfield 13, 3) := by decide +kernel
theorem dX0_groundOf_61 : decode cX0_groundOf 61 = .ok (.idiv, 1) := by decide +kernel
theorem dX0_groundOf_62 : decode cX0_groundOf 62 = .ok (.iload_n 2, 1) := by decide +kernel
theorem dX0_groundOf_63 : decode cX0_groundOf 63 = .ok (.invokevirtual 223, 3) := by decide +kernel
theorem dX0_groundOf_66 : decode cX0_groundOf 66 = .ok (.ifCond .ne 6, 3) := by decide +kernel
theorem dX0_groundOf_69 : decode cX0_groundOf 69 = .ok (.goto 30, 3) := by decide +kernel
theorem dX0_groundOf_72 : decode cX0_groundOf 72 = .ok (.aload 7, 2) := by decide +kernel
theorem dX0_groundOf_74 : decode cX0_groundOf 74 = .ok (.iload 5, 2) := by decide +kernel
theorem dX0_groundOf_76 : decode cX0_groundOf 76 = .ok (.invokevirtual 226, 3) := by decide +kernel
theorem dX0_groundOf_79 : decode cX0_groundOf 79 = .ok (.istore 5, 2) := by decide +kernel
theorem dX0_groundOf_81 : decode cX0_groundOf 81 = .ok (.iload 5, 2) := by decide +kernel
theorem dX0_groundOf_83 : decode cX0_groundOf 83 = .ok (.ifCond .eq 16, 3) := by decide +kernel
theorem dX0_groundOf_86 : decode cX0_groundOf 86 = .ok (.aload_n 0, 1) := by decide +kernel
theorem dX0_groundOf_87 : decode cX0_groundOf 87 = .ok (.getfield 213, 3) := by decide +kernel
theorem dX0_groundOf_90 : decode cX0_groundOf 90 = .ok (.ifnonnull 9, 3) := by decide +kernel
theorem dX0_groundOf_93 : decode cX0_groundOf 93 = .ok (.aload_n 0, 1) := by decide +kernel
theorem dX0_groundOf_94 : decode cX0_groundOf 94 = .ok (.aload 7, 2) := by decide +kernel
theorem dX0_groundOf_96 : decode cX0_groundOf 96 = .ok (.putfield 213, 3) := by decide +kernel
theorem dX0_groundOf_99 : decode cX0_groundOf 99 = .ok (.iinc 6 1, 3) := by decide +kernel
theorem dX0_groundOf_102 : decode cX0_groundOf 102 = .ok (.goto (-91), 3) := by decide +kernel
theorem dX0_groundOf_105 : decode cX0_groundOf 105 = .ok (.iload 5, 2) := by decide +kernel
theorem dX0_groundOf_107 : decode cX0_groundOf 107 = .ok (.ireturn, 1) := by decide +kernel
section
variable {v : Int32}
noncomputable def x0_groundOf_B11 (F : Nat) (x1 : Int32) (x2 : Int32) (x3 : Int32) (x4 : Int32) (R : Int32 × Int32 × XS → XR Int32) (a : Int32 × Int32 × XS) : XR Int32 :=
  if (a.2.2.1.1 4) ≤ a.2.1 then (some (a.1, a.2.2, 0, 0)) else (if okI a.2.1 100 = true then (a.2.2.2.1 2 a.2.1.toNatClampNeg).bind (fun n1 => (gI a.2.2 n1 [5, 6, 7] 4).bind (fun v1 => if x3 < v1 then (R (a.1, a.2.1 + 1, a.2.2)) else (if isC a.2.2 n1 [5, 6, 7] = true then (x4_isKnown F n1 x4 a.2.2).bind (fun r1 => tk r1.2.2.1 r1.2.2.2 (if r1.1 = 0 then (R (a.1, a.2.1 + 1, r1.2.1)) else (if ¬ (r1.2.1.1.1 0) = 0 then if ¬ (r1.2.1.1.1 0) = 0 then if isC r1.2.1 n1 [5, 6, 7] = true then (x4_reaches F n1 (jrem x1 (r1.2.1.1.1 0)) (x1 / (r1.2.1.1.1 0)) x2 r1.2.1).bind (fun r2 => tk r2.2.2.1 r2.2.2.2 (if r2.1 = 0 then (R (a.1, a.2.1 + 1, r2.2.1)) else ((xd_makes F n1 a.1 r2.2.1).bind (fun r3 => tk r3.2.2.1 r3.2.2.2 (if r3.1 = 0 then (R (r3.1, a.2.1 + 1, r3.2.1)) else (if r3.2.1.2.2.1 = none then (nx (xF r3.2.1 (some n1)) (fun τ1 => R (r3.1, a.2.1 + 1, τ1))) else (R (r3.1, a.2.1 + 1, r3.2.1)))))))) else none else none else none))) else none))) else none)
theorem kx0_groundOf_B11 (M : XC γ cX0_groundOf 8 RX0 "groundOf" G o B 4 (some .int) (xQi G o B v τr) c0 s0) (x1 : Int32) (x2 : Int32) (x3 : Int32) (x4 : Int32) : ∀ R : Int32 × Int32 × XS → XR Int32, (∀ a c s, R a = some (v, τr, c, s) → ∀ k n, k + c ≤ c0 ∧ n + s ≤ s0 → J γ (XW G o B a.2.2) k n 11 [(0, .ref o), (1, .int x1), (2, .int x2), (3, .int x3), (4, .int x4), (5, .int a.1), (6, .int a.2.1)] []) → ∀ a c s, x0_groundOf_B11 F x1 x2 x3 x4 R a = some (v, τr, c, s) → ∀ k n, k + c ≤ c0 ∧ n + s ≤ s0 → J γ (XW G o B a.2.2) k n 11 [(0, .ref o), (1, .int x1), (2, .int x2), (3, .int x3), (4, .int x4), (5, .int a.1), (6, .int a.2.1)] [] := by
  intro R hR a c s hf k n hkn
  unfold x0_groundOf_B11 at hf
  refine j_iload (pc := 11) M.1 dX0_groundOf_11 6 rfl ?_
  refine j_aload_n (pc := 13) M.1 dX0_groundOf_13 0 rfl ?_
  refine jx_getS (pc := 14) M xfs_148 dX0_groundOf_14 ?_
  refine j_icmp_ge (pc := 17) M.1 105 dX0_groundOf_17 rfl (fun b1 => ?_) (fun b1 => ?_)
  · replace hf := o_pos b1 hf
    refine j_iload (pc := 105) M.1 dX0_groundOf_105 5 rfl ?_
    exact jx_iretF (pc := 107) M dX0_groundOf_107 hf hkn
  · replace hf := o_neg b1 hf
    refine j_aload_n (pc := 20) M.1 dX0_groundOf_20 0 rfl ?_
    refine jx_getA (pc := 21) M xfa_34 dX0_groundOf_21 ?_
    refine j_iload (pc := 24) M.1 dX0_groundOf_24 6 rfl ?_
    obtain ⟨b2, hf⟩ := o_need hf
    obtain ⟨n1, g1, hf⟩ := o_bind hf
    refine jx_aald (pc := 26) M xax_2 (by decide) xrt_4 b2 g1 dX0_groundOf_26 ?_
    refine j_astore (pc := 27) M.1 [(7, .ref n1), (0, .ref o), (1, .int x1), (2, .int x2), (3, .int x3), (4, .int x4), (5, .int a.1), (6, .int a.2.1)] dX0_groundOf_27 rfl rfl ?_
    refine j_aload (pc := 29) M.1 dX0_groundOf_29 0 rfl ?_
    obtain ⟨v1, g2, hf⟩ := o_bind hf
    refine jx_getI (pc := 31) M xfl_X0_217 g2 dX0_groundOf_31 ?_
    refine j_iload_n (pc := 34) M.1 dX0_groundOf_34 4 rfl ?_
    refine j_icmp_gt (pc := 35) M.1 99 dX0_groundOf_35 rfl (fun b3 => ?_) (fun b3 => ?_)
    · replace hf := o_pos b3 hf
      refine j_iinc (pc := 99) M.1 [(6, .int (a.2.1 + 1)), (7, .ref n1), (0, .ref o), (1, .int x1), (2, .int x2), (3, .int x3), (4, .int x4), (5, .int a.1)] dX0_groundOf_99 7 rfl (congrArg _ kc_iconst_1) rfl rfl ?_
      refine j_goto (pc := 102) M.1 11 dX0_groundOf_102 rfl ?_
      refine j_sub [2, 3, 4, 5, 6, 7, 0] (show lv_pick _ _ = [(0, .ref o), (1, .int x1), (2, .int x2), (3, .int x3), (4, .int x4), (5, .int a.1), (6, .int (a.2.1 + 1))] from rfl) ?_
      have hy := hR _ _ _ hf _ _ hkn
      exact hy
    · replace hf := o_neg b3 hf
      refine j_aload (pc := 38) M.1 dX0_groundOf_38 0 rfl ?_
      refine j_iload (pc := 40) M.1 dX0_groundOf_40 5 rfl ?_
      obtain ⟨b4, hf⟩ := o_need hf
      obtain ⟨r1, g3, hf⟩ := o_bind hf
      obtain ⟨c1, s1, hf, hc1, hs1⟩ := o_tk hf
      replace hkn := kn_step hkn hc1 hs1
      refine jx_i M (x_runU (pc := 42) (As := [.int x4]) (rest := []) M xcu_X0_220 (met_x4_isKnown g3) b4 (by decide) rfl rfl rfl dX0_groundOf_42 (kn_le hkn)) ?_
      refine j_if_eq (pc := 45) M.1 99 dX0_groundOf_45 rfl (fun b5 => ?_) (fun b5 => ?_)
      · replace hf := o_pos b5 hf
        refine j_iinc (pc := 99) M.1 [(6, .int (a.2.1 + 1)), (7, .ref n1), (0, .ref o), (1, .int x1), (2, .int x2), (3, .int x3), (4, .int x4), (5, .int a.1)] dX0_groundOf_99 7 rfl (congrArg _ kc_iconst_1) rfl rfl ?_
        refine j_goto (pc := 102) M.1 11 dX0_groundOf_102 rfl ?_
        refine j_sub [2, 3, 4, 5, 6, 7, 0] (show lv_pick _ _ = [(0, .ref o), (1, .int x1), (2, .int x2), (3, .int x3), (4, .int x4), (5, .int a.1), (6, .int (a.2.1 + 1))] from rfl) ?_
        have hy := hR _ _ _ hf _ _ hkn
        exact hy
      · replace hf := o_neg b5 hf
        refine j_aload (pc := 48) M.1 dX0_groundOf_48 0 rfl ?_
        refine j_iload_n (pc := 50) M.1 dX0_groundOf_50 2 rfl ?_
        refine j_aload_n (pc := 51) M.1 dX0_groundOf_51 1 rfl ?_
        refine jx_getS (pc := 52) M xfs_13 dX0_groundOf_52 ?_
        obtain ⟨b6, hf⟩ := o_need hf
        refine j_irem (pc := 55) M.1 dX0_groundOf_55 b6 ?_
        refine j_iload_n (pc := 56) M.1 dX0_groundOf_56 2 rfl ?_
        refine j_aload_n (pc := 57) M.1 dX0_groundOf_57 1 rfl ?_
        refine jx_getS (pc := 58) M xfs_13 dX0_groundOf_58 ?_
        obtain ⟨b7, hf⟩ := o_need hf
        refine j_idiv (pc := 61) M.1 dX0_groundOf_61 b7 ?_
        refine j_iload_n (pc := 62) M.1 dX0_groundOf_62 3 rfl ?_
        obtain ⟨b8, hf⟩ := o_need hf
        obtain ⟨r2, g4, hf⟩ := o_bind hf
        obtain ⟨c2, s2, hf, hc2, hs2⟩ := o_tk hf
        replace hkn := kn_step hkn hc2 hs2
        refine jx_i M (x_runU (pc := 63) (As := [.int (jrem x1 (r1.2.1.1.1 0)), .int (x1 / (r1.2.1.1.1 0)), .int x2]) (rest := []) M xcu_X0_223 (met_x4_reaches g4) b8 (by decide) rfl rfl rfl dX0_groundOf_63 (kn_le hkn)) ?_
        refine j_if_ne (pc := 66) M.1 72 dX0_groundOf_66 rfl (fun b9 => ?_) (fun b9 => ?_)
        · replace hf := o_neg b9 hf
          refine j_aload (pc := 72) M.1 dX0_groundOf_72 0 rfl ?_
          refine j_iload (pc := 74) M.1 dX0_groundOf_74 6 rfl ?_
          obtain ⟨r3, g5, hf⟩ := o_bind hf
          obtain ⟨c3, s3, hf, hc3, hs3⟩ := o_tk hf
          replace hkn := kn_step hkn hc3 hs3
          refine jx_i M (x_runD (pc := 76) (As := [.int a.1]) (rest := []) M xcv_X0_226 (metd_makes g5) (by decide) rfl rfl rfl dX0_groundOf_76 (kn_le hkn)) ?_
          refine j_istore (pc := 79) M.1 [(5, .int r3.1), (7, .ref n1), (0, .ref o), (1, .int x1), (2, .int x2), (3, .int x3), (4, .int x4), (6, .int a.2.1)] dX0_groundOf_79 rfl rfl ?_
          refine j_iload (pc := 81) M.1 dX0_groundOf_81 0 rfl ?_
          refine j_if_eq (pc := 83) M.1 99 dX0_groundOf_83 rfl (fun b10 => ?_) (fun b10 => ?_)
          · replace hf := o_pos b10 hf
            refine j_iinc (pc := 99) M.1 [(6, .int (a.2.1 + 1)), (5, .int r3.1), (7, .ref n1), (0, .ref o), (1, .int x1), (2, .int x2), (3, .int x3), (4, .int x4)] dX0_groundOf_99 7 rfl (congrArg _ kc_iconst_1) rfl rfl ?_
            refine j_goto (pc := 102) M.1 11 dX0_groundOf_102 rfl ?_
            refine j_sub [3, 4, 5, 6, 7, 1, 0] (show lv_pick _ _ = [(0, .ref o), (1, .int x1), (2, .int x2), (3, .int x3), (4, .int x4), (5, .int r3.1), (6, .int (a.2.1 + 1))] from rfl) ?_
            have hy := hR _ _ _ hf _ _ hkn
            exact hy
          · replace hf := o_neg b10 hf
            refine j_aload_n (pc := 86) M.1 dX0_groundOf_86 2 rfl ?_
            refine jx_getD (pc := 87) M q176 dX0_groundOf_87 ?_
            refine j_ifnonnull (pc := 90) (x := r3.2.1.2.2.1) M.1 99 dX0_groundOf_90 rfl (fun b11 => ?_) (fun b11 => ?_)
            · replace hf := o_neg b11 hf
              refine j_iinc (pc := 99) M.1 [(6, .int (a.2.1 + 1)), (5, .int r3.1), (7, .ref n1), (0, .ref o), (1, .int x1), (2, .int x2), (3, .int x3), (4, .int x4)] dX0_groundOf_99 7 rfl (congrArg _ kc_iconst_1) rfl rfl ?_
              refine j_goto (pc := 102) M.1 11 dX0_groundOf_102 rfl ?_
              refine j_sub [3, 4, 5, 6, 7, 1, 0] (show lv_pick _ _ = [(0, .ref o), (1, .int x1), (2, .int x2), (3, .int x3), (4, .int x4), (5, .int r3.1), (6, .int (a.2.1 + 1))] from rfl) ?_
              have hy := hR _ _ _ hf _ _ hkn
              exact hy
            · replace hf := o_pos b11 hf
              refine j_aload_n (pc := 93) M.1 dX0_groundOf_93 2 rfl ?_
              refine j_aload (pc := 94) M.1 dX0_groundOf_94 1 rfl ?_
              obtain ⟨τ1, e1, hf⟩ := o_nx hf
              refine jx_putD (pc := 96) (r := some n1) M q176 dX0_groundOf_96 e1 ?_
              refine j_iinc (pc := 99) M.1 [(6, .int (a.2.1 + 1)), (5, .int r3.1), (7, .ref n1), (0, .ref o), (1, .int x1), (2, .int x2), (3, .int x3), (4, .int x4)] dX0_groundOf_99 7 rfl (congrArg _ kc_iconst_1) rfl rfl ?_
              refine j_goto (pc := 102) M.1 11 dX0_groundOf_102 rfl ?_
              refine j_sub [3, 4, 5, 6, 7, 1, 0] (show lv_pick _ _ = [(0, .ref o), (1, .int x1), (2, .int x2), (3, .int x3), (4, .int x4), (5, .int r3.1), (6, .int (a.2.1 + 1))] from rfl) ?_
              have hy := hR _ _ _ hf _ _ hkn
              exact hy
        · replace hf := o_pos b9 hf
          refine j_goto (pc := 69) M.1 99 dX0_groundOf_69 rfl ?_
          refine j_iinc (pc := 99) M.1 [(6, .int (a.2.1 + 1)), (7, .ref n1), (0, .ref o), (1, .int x1), (2, .int x2), (3, .int x3), (4, .int x4), (5, .int a.1)] dX0_groundOf_99 7 rfl (congrArg _ kc_iconst_1) rfl rfl ?_
          refine j_goto (pc := 102) M.1 11 dX0_groundOf_102 rfl ?_
          refine j_sub [2, 3, 4, 5, 6, 7, 0] (show lv_pick _ _ = [(0, .ref o), (1, .int x1), (2, .int x2), (3, .int x3), (4, .int x4), (5, .int a.1), (6, .int (a.2.1 + 1))] from rfl) ?_
          have hy := hR _ _ _ hf _ _ hkn
          exact hy
noncomputable def x0_groundOf (F : Nat) (x1 : Int32) (x2 : Int32) (x3 : Int32) (x4 : Int32) (τ : XS) : XR Int32 :=
  nx (xF τ none) (fun τ1 => lp (x0_groundOf_B11 F x1 x2 x3 x4) F (0, 0, τ1))
theorem met_x0_groundOf {l : Launch} {G : gG} {o B F : Nat} {x1 : Int32} {x2 : Int32} {x3 : Int32} {x4 : Int32} {τ : XS} {r : Int32 × XS × Nat × Nat} (hf : x0_groundOf F x1 x2 x3 x4 τ = some r) : MetX l G o B yX0_groundOf cX0_groundOf 8 (some .int) 4 [.ref o, .int x1, .int x2, .int x3, .int x4] τ (xQi G o B r.1 r.2.1) r.2.2.1 r.2.2.2 := by
  obtain ⟨v, τr, c, s⟩ := r
  refine metX_of (own := RX0) (mn := "groundOf") (by decide) rfl rfl rfl (fun γ hγ M => ?_)
  subst hγ
  show J γ (XW G o B τ) 0 0 0 [(0, .ref o), (1, .int x1), (2, .int x2), (3, .int x3), (4, .int x4)] []
  have hkn : 0 + c ≤ c ∧ 0 + s ≤ s := ⟨by omega, by omega⟩
  unfold x0_groundOf at hf
  refine j_iconst (pc := 0) M.1 dX0_groundOf_0 kc_iconst_0 ?_
  refine j_istore (pc := 1) M.1 [(5, .int 0), (0, .ref o), (1, .int x1), (2, .int x2), (3, .int x3), (4, .int x4)] dX0_groundOf_1 rfl rfl ?_
  refine j_aload_n (pc := 3) M.1 dX0_groundOf_3 1 rfl ?_
  refine j_null (pc := 4) M.1 dX0_groundOf_4 ?_
  obtain ⟨τ1, e1, hf⟩ := o_nx hf
  refine jx_putD (pc := 5) (r := none) M q176 dX0_groundOf_5 e1 ?_
  refine j_iconst (pc := 8) M.1 dX0_groundOf_8 kc_iconst_0 ?_
  refine j_istore (pc := 9) M.1 [(6, .int 0), (5, .int 0), (0, .ref o), (1, .int x1), (2, .int x2), (3, .int x3), (4, .int x4)] dX0_groundOf_9 rfl rfl ?_
  refine j_sub [2, 3, 4, 5, 6, 1, 0] (show lv_pick _ _ = [(0, .ref o), (1, .int x1), (2, .int x2), (3, .int x3), (4, .int x4), (5, .int 0), (6, .int 0)] from rfl) ?_
  refine lp_Wc (kx0_groundOf_B11 M x1 x2 x3 x4) F (0, 0, τ1) _ _ hf _ _ hkn
end
theorem dX0_isGround_0 : decode cX0_isGround 0 = .ok (.aload_n 0, 1) := by decide +kernel
theorem dX0_isGround_1 : decode cX0_isGround 1 = .ok (.iload_n 1, 1) := by decide +kernel
theorem dX0_isGround_2 : decode cX0_isGround 2 = .ok (.invokevirtual 161, 3) := by decide +kernel
theorem dX0_isGround_5 : decode cX0_isGround 5 = .ok (.ifCond .eq 29, 3) := by decide +kernel
theorem dX0_isGround_8 : decode cX0_isGround 8 = .ok (.iload_n 2, 1) := by decide +kernel
theorem dX0_isGround_9 : decode cX0_isGround 9 = .ok (.invokestatic 187, 3) := by decide +kernel
theorem dX0_isGround_12 : decode cX0_isGround 12 = .ok (.ifCond .eq 22, 3) := by decide +kernel
theorem dX0_isGround_15 : decode cX0_isGround 15 = .ok (.iload_n 3, 1) := by decide +kernel
theorem dX0_isGround_16 : decode cX0_isGround 16 = .ok (.invokestatic 154, 3) := by decide +kernel
theorem dX0_isGround_19 : decode cX0_isGround 19 = .ok (.ifCond .eq 15, 3) := by decide +kernel
theorem dX0_isGround_22 : decode cX0_isGround 22 = .ok (.iload 4, 2) := by decide +kernel
theorem dX0_isGround_24 : decode cX0_isGround 24 = .ok (.invokestatic 154, 3) := by decide +kernel
theorem dX0_isGround_27 : decode cX0_isGround 27 = .ok (.ifCond .eq 7, 3) := by decide +kernel
theorem dX0_isGround_30 : decode cX0_isGround 30 = .ok (.iconst 1, 1) := by decide +kernel
theorem dX0_isGround_31 : decode cX0_isGround 31 = .ok (.goto 4, 3) := by decide +kernel
theorem dX0_isGround_34 : decode cX0_isGround 34 = .ok (.iconst 0, 1) := by decide +kernel
theorem dX0_isGround_35 : decode cX0_isGround 35 = .ok (.ireturn, 1) := by decide +kernel
section
variable {v : Int32}
noncomputable def x0_isGround (F : Nat) (x1 : Int32) (x2 : Int32) (x3 : Int32) (x4 : Int32) (τ : XS) : XR Int32 :=
  (x0_isCell F x1 τ).bind (fun r1 => tk r1.2.2.1 r1.2.2.2 (if r1.1 = 0 then (some (0, r1.2.1, 0, 0)) else ((x0_isLayer F x2).bind (fun r2 => if r2 = 0 then (some (0, r1.2.1, 0, 0)) else ((x0_isWeek F x3).bind (fun r3 => if r3 = 0 then (some (0, r1.2.1, 0, 0)) else ((x0_isWeek F x4).bind (fun r4 => if r4 = 0 then (some (0, r1.2.1, 0, 0)) else (some (1, r1.2.1, 0, 0))))))))))
theorem met_x0_isGround {l : Launch} {G : gG} {o B F : Nat} {x1 : Int32} {x2 : Int32} {x3 : Int32} {x4 : Int32} {τ : XS} {r : Int32 × XS × Nat × Nat} (hf : x0_isGround F x1 x2 x3 x4 τ = some r) : MetX l G o B yX0_isGround cX0_isGround 5 (some .boolean) 3 [.ref o, .int x1, .int x2, .int x3, .int x4] τ (xQi G o B r.1 r.2.1) r.2.2.1 r.2.2.2 := by
  obtain ⟨v, τr, c, s⟩ := r
  refine metX_of (own := RX0) (mn := "isGround") (by decide) rfl rfl rfl (fun γ hγ M => ?_)
  subst hγ
  show J γ (XW G o B τ) 0 0 0 [(0, .ref o), (1, .int x1), (2, .int x2), (3, .int x3), (4, .int x4)] []
  have hkn : 0 + c ≤ c ∧ 0 + s ≤ s := ⟨by omega, by omega⟩
  unfold x0_isGround at hf
  refine j_aload_n (pc := 0) M.1 dX0_isGround_0 0 rfl ?_
  refine j_iload_n (pc := 1) M.1 dX0_isGround_1 1 rfl ?_
  obtain ⟨r1, g1, hf⟩ := o_bind hf
  obtain ⟨c1, s1, hf, hc1, hs1⟩ := o_tk hf
  replace hkn := kn_step hkn hc1 hs1
  refine jx_i M (x_runV (pc := 2) (As := [.int x1]) (rest := []) (V := xV o τ) M xcw_X0_161 (met_x0_isCell g1) (fun H h => h.1 o _ xH_o) (by decide) rfl rfl rfl dX0_isGround_2 (kn_le hkn)) ?_
  refine j_if_eq (pc := 5) M.1 34 dX0_isGround_5 rfl (fun b1 => ?_) (fun b1 => ?_)
  · replace hf := o_pos b1 hf
    refine j_iconst (pc := 34) M.1 dX0_isGround_34 kc_iconst_0 ?_
    exact jx_zretF (pc := 35) M dX0_isGround_35 rfl hf hkn
  · replace hf := o_neg b1 hf
    refine j_iload_n (pc := 8) M.1 dX0_isGround_8 2 rfl ?_
    obtain ⟨r2, g2, hf⟩ := o_bind hf
    refine jx_calls (pc := 9) (As := [.int x2]) (rest := []) M xcs_X0_187 (met_x0_isLayer g2) rfl rfl rfl rfl dX0_isGround_9 (kn_le0 hkn) ?_
    refine j_if_eq (pc := 12) M.1 34 dX0_isGround_12 rfl (fun b2 => ?_) (fun b2 => ?_)
    · replace hf := o_pos b2 hf
      refine j_iconst (pc := 34) M.1 dX0_isGround_34 kc_iconst_0 ?_
      exact jx_zretF (pc := 35) M dX0_isGround_35 rfl hf hkn
    · replace hf := o_neg b2 hf
      refine j_iload_n (pc := 15) M.1 dX0_isGround_15 3 rfl ?_
      obtain ⟨r3, g3, hf⟩ := o_bind hf
      refine jx_calls (pc := 16) (As := [.int x3]) (rest := []) M xcs_X0_154 (met_x0_isWeek g3) rfl rfl rfl rfl dX0_isGround_16 (kn_le0 hkn) ?_
      refine j_if_eq (pc := 19) M.1 34 dX0_isGround_19 rfl (fun b3 => ?_) (fun b3 => ?_)
      · replace hf := o_pos b3 hf
        refine j_iconst (pc := 34) M.1 dX0_isGround_34 kc_iconst_0 ?_
        exact jx_zretF (pc := 35) M dX0_isGround_35 rfl hf hkn
      · replace hf := o_neg b3 hf
        refine j_iload (pc := 22) M.1 dX0_isGround_22 4 rfl ?_
        obtain ⟨r4, g4, hf⟩ := o_bind hf
        refine jx_calls (pc := 24) (As := [.int x4]) (rest := []) M xcs_X0_154 (met_x0_isWeek g4) rfl rfl rfl rfl dX0_isGround_24 (kn_le0 hkn) ?_
        refine j_if_eq (pc := 27) M.1 34 dX0_isGround_27 rfl (fun b4 => ?_) (fun b4 => ?_)
        · replace hf := o_pos b4 hf
          refine j_iconst (pc := 34) M.1 dX0_isGround_34 kc_iconst_0 ?_
          exact jx_zretF (pc := 35) M dX0_isGround_35 rfl hf hkn
        · replace hf := o_neg b4 hf
          refine j_iconst (pc := 30) M.1 dX0_isGround_30 kc_iconst_1 ?_
          refine j_goto (pc := 31) M.1 35 dX0_isGround_31 rfl ?_
          exact jx_zretF (pc := 35) M dX0_isGround_35 rfl hf hkn
end
theorem dX0_ground_0 : decode cX0_ground 0 = .ok (.aload_n 0, 1) := by decide +kernel
theorem dX0_ground_1 : decode cX0_ground 1 = .ok (.iload_n 1, 1) := by decide +kernel
theorem dX0_ground_2 : decode cX0_ground 2 = .ok (.iload_n 2, 1) := by decide +kernel
theorem dX0_ground_3 : decode cX0_ground 3 = .ok (.iload_n 3, 1) := by decide +kernel
theorem dX0_ground_4 : decode cX0_ground 4 = .ok (.iload 4, 2) := by decide +kernel
theorem dX0_ground_6 : decode cX0_ground 6 = .ok (.invokevirtual 229, 3) := by decide +kernel
theorem dX0_ground_9 : decode cX0_ground 9 = .ok (.ifCond .eq 15, 3) := by decide +kernel
theorem dX0_ground_12 : decode cX0_ground 12 = .ok (.aload_n 0, 1) := by decide +kernel
theorem dX0_ground_13 : decode cX0_ground 13 = .ok (.iload_n 1, 1) := by decide +kernel
theorem dX0_ground_14 : decode cX0_ground 14 = .ok (.iload_n 2, 1) := by decide +kernel
theorem dX0_ground_15 : decode cX0_ground 15 = .ok (.iload_n 3, 1) := by decide +kernel
theorem dX0_ground_16 : decode cX0_ground 16 = .ok (.iload 4, 2) := by decide +kernel
theorem dX0_ground_18 : decode cX0_ground 18 = .ok (.invokevirtual 233, 3) := by decide +kernel
theorem dX0_ground_21 : decode cX0_ground 21 = .ok (.goto 4, 3) := by decide +kernel
theorem dX0_ground_24 : decode cX0_ground 24 = .ok (.iconst (-1), 1) := by decide +kernel
theorem dX0_ground_25 : decode cX0_ground 25 = .ok (.ireturn, 1) := by decide +kernel
section
variable {v : Int32}
noncomputable def x0_ground (F : Nat) (x1 : Int32) (x2 : Int32) (x3 : Int32) (x4 : Int32) (τ : XS) : XR Int32 :=
  (x0_isGround F x1 x2 x3 x4 τ).bind (fun r1 => tk r1.2.2.1 r1.2.2.2 (if r1.1 = 0 then (some ((-1), r1.2.1, 0, 0)) else ((x0_groundOf F x1 x2 x3 x4 r1.2.1).bind (fun r2 => tk r2.2.2.1 r2.2.2.2 (some (r2.1, r2.2.1, 0, 0))))))
theorem met_x0_ground {l : Launch} {G : gG} {o B F : Nat} {x1 : Int32} {x2 : Int32} {x3 : Int32} {x4 : Int32} {τ : XS} {r : Int32 × XS × Nat × Nat} (hf : x0_ground F x1 x2 x3 x4 τ = some r) : MetX l G o B yX0_ground cX0_ground 5 (some .int) 5 [.ref o, .int x1, .int x2, .int x3, .int x4] τ (xQi G o B r.1 r.2.1) r.2.2.1 r.2.2.2 := by
  obtain ⟨v, τr, c, s⟩ := r
  refine metX_of (own := RX0) (mn := "ground") (by decide) rfl rfl rfl (fun γ hγ M => ?_)
  subst hγ
  show J γ (XW G o B τ) 0 0 0 [(0, .ref o), (1, .int x1), (2, .int x2), (3, .int x3), (4, .int x4)] []
  have hkn : 0 + c ≤ c ∧ 0 + s ≤ s := ⟨by omega, by omega⟩
  unfold x0_ground at hf
  refine j_aload_n (pc := 0) M.1 dX0_ground_0 0 rfl ?_
  refine j_iload_n (pc := 1) M.1 dX0_ground_1 1 rfl ?_
  refine j_iload_n (pc := 2) M.1 dX0_ground_2 2 rfl ?_
  refine j_iload_n (pc := 3) M.1 dX0_ground_3 3 rfl ?_
  refine j_iload (pc := 4) M.1 dX0_ground_4 4 rfl ?_
  obtain ⟨r1, g1, hf⟩ := o_bind hf
  obtain ⟨c1, s1, hf, hc1, hs1⟩ := o_tk hf
  replace hkn := kn_step hkn hc1 hs1
  refine jx_i M (x_runV (pc := 6) (As := [.int x1, .int x2, .int x3, .int x4]) (rest := []) (V := xV o τ) M xcw_X0_229 (met_x0_isGround g1) (fun H h => h.1 o _ xH_o) (by decide) rfl rfl rfl dX0_ground_6 (kn_le hkn)) ?_
  refine j_if_eq (pc := 9) M.1 24 dX0_ground_9 rfl (fun b1 => ?_) (fun b1 => ?_)
  · replace hf := o_pos b1 hf
    refine j_iconst (pc := 24) M.1 dX0_ground_24 kc_iconst_m1 ?_
    exact jx_iretF (pc := 25) M dX0_ground_25 hf hkn
  · replace hf := o_neg b1 hf
    refine j_aload_n (pc := 12) M.1 dX0_ground_12 0 rfl ?_
    refine j_iload_n (pc := 13) M.1 dX0_ground_13 1 rfl ?_
    refine j_iload_n (pc := 14) M.1 dX0_ground_14 2 rfl ?_
    refine j_iload_n (pc := 15) M.1 dX0_ground_15 3 rfl ?_
    refine j_iload (pc := 16) M.1 dX0_ground_16 4 rfl ?_
    obtain ⟨r2, g2, hf⟩ := o_bind hf
    obtain ⟨c2, s2, hf, hc2, hs2⟩ := o_tk hf
    replace hkn := kn_step hkn hc2 hs2
    refine jx_i M (x_runV (pc := 18) (As := [.int x1, .int x2, .int x3, .int x4]) (rest := []) (V := xV o r1.2.1) M xcw_X0_233 (met_x0_groundOf g2) (fun H h => h.1 o _ xH_o) (by decide) rfl rfl rfl dX0_ground_18 (kn_le hkn)) ?_
    refine j_goto (pc := 21) M.1 25 dX0_ground_21 rfl ?_
    exact jx_iretF (pc := 25) M dX0_ground_25 hf hkn
end
theorem dX0_first_0 : decode cX0_first 0 = .ok (.aload_n 0, 1) := by decide +kernel
theorem dX0_first_1 : decode cX0_first 1 = .ok (.iload_n 1, 1) := by decide +kernel
theorem dX0_first_2 : decode cX0_first 2 = .ok (.iload_n 2, 1) := by decide +kernel
theorem dX0_first_3 : decode cX0_first 3 = .ok (.iload_n 3, 1) := by decide +kernel
theorem dX0_first_4 : decode cX0_first 4 = .ok (.iload 4, 2) := by decide +kernel
theorem dX0_first_6 : decode cX0_first 6 = .ok (.invokevirtual 229, 3) := by decide +kernel
theorem dX0_first_9 : decode cX0_first 9 = .ok (.ifCond .eq 25, 3) := by decide +kernel
theorem dX0_first_12 : decode cX0_first 12 = .ok (.aload_n 0, 1) := by decide +kernel
theorem dX0_first_13 : decode cX0_first 13 = .ok (.iload_n 1, 1) := by decide +kernel
theorem dX0_first_14 : decode cX0_first 14 = .ok (.iload_n 2, 1) := by decide +kernel
theorem dX0_first_15 : decode cX0_first 15 = .ok (.iload_n 3, 1) := by decide +kernel
theorem dX0_first_16 : decode cX0_first 16 = .ok (.iload 4, 2) := by decide +kernel
theorem dX0_first_18 : decode cX0_first 18 = .ok (.invokevirtual 233, 3) := by decide +kernel
theorem dX0_first_21 : decode cX0_first 21 = .ok (.ifCond .eq 13, 3) := by decide +kernel
theorem dX0_first_24 : decode cX0_first 24 = .ok (.aload_n 0, 1) := by decide +kernel
theorem dX0_first_25 : decode cX0_first 25 = .ok (.getfield 213, 3) := by decide +kernel
theorem dX0_first_28 : decode cX0_first 28 = .ok (.getfield 237, 3) := by decide +kernel
theorem dX0_first_31 : decode cX0_first 31 = .ok (.goto 4, 3) := by decide +kernel
theorem dX0_first_34 : decode cX0_first 34 = .ok (.iconst (-1), 1) := by decide +kernel
theorem dX0_first_35 : decode cX0_first 35 = .ok (.ireturn, 1) := by decide +kernel
section
variable {v : Int32}
noncomputable def x0_first (F : Nat) (x1 : Int32) (x2 : Int32) (x3 : Int32) (x4 : Int32) (τ : XS) : XR Int32 :=
  (x0_isGround F x1 x2 x3 x4 τ).bind (fun r1 => tk r1.2.2.1 r1.2.2.2 (if r1.1 = 0 then (some ((-1), r1.2.1, 0, 0)) else ((x0_groundOf F x1 x2 x3 x4 r1.2.1).bind (fun r2 => tk r2.2.2.1 r2.2.2.2 (if r2.1 = 0 then (some ((-1), r2.2.1, 0, 0)) else ((r2.2.1.2.2.1).bind (fun a1 => (gI r2.2.1 a1 [5, 6, 7] 0).bind (fun v1 => some (v1, r2.2.1, 0, 0)))))))))
theorem met_x0_first {l : Launch} {G : gG} {o B F : Nat} {x1 : Int32} {x2 : Int32} {x3 : Int32} {x4 : Int32} {τ : XS} {r : Int32 × XS × Nat × Nat} (hf : x0_first F x1 x2 x3 x4 τ = some r) : MetX l G o B yX0_first cX0_first 5 (some .int) 5 [.ref o, .int x1, .int x2, .int x3, .int x4] τ (xQi G o B r.1 r.2.1) r.2.2.1 r.2.2.2 := by
  obtain ⟨v, τr, c, s⟩ := r
  refine metX_of (own := RX0) (mn := "first") (by decide) rfl rfl rfl (fun γ hγ M => ?_)
  subst hγ
  show J γ (XW G o B τ) 0 0 0 [(0, .ref o), (1, .int x1), (2, .int x2), (3, .int x3), (4, .int x4)] []
  have hkn : 0 + c ≤ c ∧ 0 + s ≤ s := ⟨by omega, by omega⟩
  unfold x0_first at hf
  refine j_aload_n (pc := 0) M.1 dX0_first_0 0 rfl ?_
  refine j_iload_n (pc := 1) M.1 dX0_first_1 1 rfl ?_
  refine j_iload_n (pc := 2) M.1 dX0_first_2 2 rfl ?_
  refine j_iload_n (pc := 3) M.1 dX0_first_3 3 rfl ?_
  refine j_iload (pc := 4) M.1 dX0_first_4 4 rfl ?_
  obtain ⟨r1, g1, hf⟩ := o_bind hf
  obtain ⟨c1, s1, hf, hc1, hs1⟩ := o_tk hf
  replace hkn := kn_step hkn hc1 hs1
  refine jx_i M (x_runV (pc := 6) (As := [.int x1, .int x2, .int x3, .int x4]) (rest := []) (V := xV o τ) M xcw_X0_229 (met_x0_isGround g1) (fun H h => h.1 o _ xH_o) (by decide) rfl rfl rfl dX0_first_6 (kn_le hkn)) ?_
  refine j_if_eq (pc := 9) M.1 34 dX0_first_9 rfl (fun b1 => ?_) (fun b1 => ?_)
  · replace hf := o_pos b1 hf
    refine j_iconst (pc := 34) M.1 dX0_first_34 kc_iconst_m1 ?_
    exact jx_iretF (pc := 35) M dX0_first_35 hf hkn
  · replace hf := o_neg b1 hf
    refine j_aload_n (pc := 12) M.1 dX0_first_12 0 rfl ?_
    refine j_iload_n (pc := 13) M.1 dX0_first_13 1 rfl ?_
    refine j_iload_n (pc := 14) M.1 dX0_first_14 2 rfl ?_
    refine j_iload_n (pc := 15) M.1 dX0_first_15 3 rfl ?_
    refine j_iload (pc := 16) M.1 dX0_first_16 4 rfl ?_
    obtain ⟨r2, g2, hf⟩ := o_bind hf
    obtain ⟨c2, s2, hf, hc2, hs2⟩ := o_tk hf
    replace hkn := kn_step hkn hc2 hs2
    refine jx_i M (x_runV (pc := 18) (As := [.int x1, .int x2, .int x3, .int x4]) (rest := []) (V := xV o r1.2.1) M xcw_X0_233 (met_x0_groundOf g2) (fun H h => h.1 o _ xH_o) (by decide) rfl rfl rfl dX0_first_18 (kn_le hkn)) ?_
    refine j_if_eq (pc := 21) M.1 34 dX0_first_21 rfl (fun b2 => ?_) (fun b2 => ?_)
    · replace hf := o_pos b2 hf
      refine j_iconst (pc := 34) M.1 dX0_first_34 kc_iconst_m1 ?_
      exact jx_iretF (pc := 35) M dX0_first_35 hf hkn
    · replace hf := o_neg b2 hf
      refine j_aload_n (pc := 24) M.1 dX0_first_24 0 rfl ?_
      refine jx_getD (pc := 25) M q176 dX0_first_25 ?_
      obtain ⟨a1, hq1, hf⟩ := o_bind hf
      refine j_st (show _ = [.ref a1] by simp only [hq1, va_rf]) ?_
      obtain ⟨v1, g3, hf⟩ := o_bind hf
      refine jx_getI (pc := 28) M xfl_X0_237 g3 dX0_first_28 ?_
      refine j_goto (pc := 31) M.1 35 dX0_first_31 rfl ?_
      exact jx_iretF (pc := 35) M dX0_first_35 hf hkn
end
theorem dX8_init_0 : decode cX8_init 0 = .ok (.aload_n 0, 1) := by decide +kernel
theorem dX8_init_1 : decode cX8_init 1 = .ok (.invokespecial 1, 3) := by decide +kernel
theorem dX8_init_4 : decode cX8_init 4 = .ok (.aload_n 0, 1) := by decide +kernel
theorem dX8_init_5 : decode cX8_init 5 = .ok (.iload_n 1, 1) := by decide +kernel
theorem dX8_init_6 : decode cX8_init 6 = .ok (.putfield 7, 3) := by decide +kernel
theorem dX8_init_9 : decode cX8_init 9 = .ok (.aload_n 0, 1) := by decide +kernel
theorem dX8_init_10 : decode cX8_init 10 = .ok (.iload_n 2, 1) := by decide +kernel
theorem dX8_init_11 : decode cX8_init 11 = .ok (.putfield 13, 3) := by decide +kernel
theorem dX8_init_14 : decode cX8_init 14 = .ok (.aload_n 0, 1) := by decide +kernel
theorem dX8_init_15 : decode cX8_init 15 = .ok (.iload_n 3, 1) := by decide +kernel
theorem dX8_init_16 : decode cX8_init 16 = .ok (.putfield 16, 3) := by decide +kernel
theorem dX8_init_19 : decode cX8_init 19 = .ok (.aload_n 0, 1) := by decide +kernel
theorem dX8_init_20 : decode cX8_init 20 = .ok (.iload 4, 2) := by decide +kernel
theorem dX8_init_22 : decode cX8_init 22 = .ok (.putfield 19, 3) := by decide +kernel
theorem dX8_init_25 : decode cX8_init 25 = .ok (.aload_n 0, 1) := by decide +kernel
theorem dX8_init_26 : decode cX8_init 26 = .ok (.iload 5, 2) := by decide +kernel
theorem dX8_init_28 : decode cX8_init 28 = .ok (.putfield 22, 3) := by decide +kernel
theorem dX8_init_31 : decode cX8_init 31 = .ok (.return_, 1) := by decide +kernel
section
variable {v : Int32}
noncomputable def x8_init (F : Nat) (x0 : Nat) (x1 : Int32) (x2 : Int32) (x3 : Int32) (x4 : Int32) (x5 : Int32) (τ : XS) : XR Int32 :=
  (pF τ x0 [8] 0 (.int x1)).bind (fun τ1 => (pF τ1 x0 [8] 1 (.int x2)).bind (fun τ2 => (pF τ2 x0 [8] 2 (.int x3)).bind (fun τ3 => (pF τ3 x0 [8] 3 (.int x4)).bind (fun τ4 => (pF τ4 x0 [8] 4 (.int x5)).bind (fun τ5 => some (0, τ5, 0, 0))))))
theorem met_x8_init {l : Launch} {G : gG} {o B F : Nat} {x0 : Nat} {x1 : Int32} {x2 : Int32} {x3 : Int32} {x4 : Int32} {x5 : Int32} {τ : XS} {r : Int32 × XS × Nat × Nat} (hf : x8_init F x0 x1 x2 x3 x4 x5 τ = some r) : MetX l G o B yX8_init cX8_init 6 none 2 [.ref x0, .int x1, .int x2, .int x3, .int x4, .int x5] τ (xQv G o B r.1 r.2.1) r.2.2.1 r.2.2.2 := by
  obtain ⟨v, τr, c, s⟩ := r
  refine metX_of (own := RX8) (mn := "<init>") (by decide) rfl rfl rfl (fun γ hγ M => ?_)
  subst hγ
  show J γ (XW G o B τ) 0 0 0 [(0, .ref x0), (1, .int x1), (2, .int x2), (3, .int x3), (4, .int x4), (5, .int x5)] []
  have hkn : 0 + c ≤ c ∧ 0 + s ≤ s := ⟨by omega, by omega⟩
  unfold x8_init at hf
  refine j_aload_n (pc := 0) M.1 dX8_init_0 0 rfl ?_
  refine j_objInit (pc := 1) M.1 q540 dX8_init_1 (M.room (by decide)) rfl ?_
  refine j_aload_n (pc := 4) M.1 dX8_init_4 0 rfl ?_
  refine j_iload_n (pc := 5) M.1 dX8_init_5 1 rfl ?_
  obtain ⟨τ1, g1, hf⟩ := o_bind hf
  refine jx_putW (pc := 6) M q541 xfw_X8_7 rfl rfl g1 dX8_init_6 ?_
  refine j_aload_n (pc := 9) M.1 dX8_init_9 0 rfl ?_
  refine j_iload_n (pc := 10) M.1 dX8_init_10 2 rfl ?_
  obtain ⟨τ2, g2, hf⟩ := o_bind hf
  refine jx_putW (pc := 11) M q543 xfw_X8_13 rfl rfl g2 dX8_init_11 ?_
  refine j_aload_n (pc := 14) M.1 dX8_init_14 0 rfl ?_
  refine j_iload_n (pc := 15) M.1 dX8_init_15 3 rfl ?_
  obtain ⟨τ3, g3, hf⟩ := o_bind hf
  refine jx_putW (pc := 16) M q545 xfw_X8_16 rfl rfl g3 dX8_init_16 ?_
  refine j_aload_n (pc := 19) M.1 dX8_init_19 0 rfl ?_
  refine j_iload (pc := 20) M.1 dX8_init_20 4 rfl ?_
  obtain ⟨τ4, g4, hf⟩ := o_bind hf
  refine jx_putW (pc := 22) M q547 xfw_X8_19 rfl rfl g4 dX8_init_22 ?_
  refine j_aload_n (pc := 25) M.1 dX8_init_25 0 rfl ?_
  refine j_iload (pc := 26) M.1 dX8_init_26 5 rfl ?_
  obtain ⟨τ5, g5, hf⟩ := o_bind hf
  refine jx_putW (pc := 28) M q549 xfw_X8_22 rfl rfl g5 dX8_init_28 ?_
  exact jx_vretF (pc := 31) M dX8_init_31 hf hkn
end
theorem dX0_isPlace_0 : decode cX0_isPlace 0 = .ok (.iload_n 1, 1) := by decide +kernel
theorem dX0_isPlace_1 : decode cX0_isPlace 1 = .ok (.aload_n 0, 1) := by decide +kernel
theorem dX0_isPlace_2 : decode cX0_isPlace 2 = .ok (.getfield 141, 3) := by decide +kernel
theorem dX0_isPlace_5 : decode cX0_isPlace 5 = .ok (.invokestatic 137, 3) := by decide +kernel
theorem dX0_isPlace_8 : decode cX0_isPlace 8 = .ok (.ireturn, 1) := by decide +kernel
section
variable {v : Int32}
noncomputable def x0_isPlace (F : Nat) (x1 : Int32) (τ : XS) : XR Int32 :=
  (x0_in F x1 (τ.1.1 3)).bind (fun r1 => if okB r1 = true then some (r1, τ, 0, 0) else none)
theorem met_x0_isPlace {l : Launch} {G : gG} {o B F : Nat} {x1 : Int32} {τ : XS} {r : Int32 × XS × Nat × Nat} (hf : x0_isPlace F x1 τ = some r) : MetX l G o B yX0_isPlace cX0_isPlace 2 (some .boolean) 2 [.ref o, .int x1] τ (xQi G o B r.1 r.2.1) r.2.2.1 r.2.2.2 := by
  obtain ⟨v, τr, c, s⟩ := r
  refine metX_of (own := RX0) (mn := "isPlace") (by decide) rfl rfl rfl (fun γ hγ M => ?_)
  subst hγ
  show J γ (XW G o B τ) 0 0 0 [(0, .ref o), (1, .int x1)] []
  have hkn : 0 + c ≤ c ∧ 0 + s ≤ s := ⟨by omega, by omega⟩
  unfold x0_isPlace at hf
  refine j_iload_n (pc := 0) M.1 dX0_isPlace_0 1 rfl ?_
  refine j_aload_n (pc := 1) M.1 dX0_isPlace_1 0 rfl ?_
  refine jx_getS (pc := 2) M xfs_141 dX0_isPlace_2 ?_
  obtain ⟨r1, g1, hf⟩ := o_bind hf
  refine jx_calls (pc := 5) (As := [.int x1, .int (τ.1.1 3)]) (rest := []) M xcs_X0_137 (met_x0_in g1) rfl rfl rfl rfl dX0_isPlace_5 (kn_le0 hkn) ?_
  obtain ⟨b1, hf⟩ := o_need hf
  exact jx_zretF (pc := 8) M dX0_isPlace_8 b1 hf hkn
end
theorem dX0_means_0 : decode cX0_means 0 = .ok (.iload_n 1, 1) := by decide +kernel
theorem dX0_means_1 : decode cX0_means 1 = .ok (.iconst 4, 1) := by decide +kernel
theorem dX0_means_2 : decode cX0_means 2 = .ok (.invokestatic 137, 3) := by decide +kernel
theorem dX0_means_5 : decode cX0_means 5 = .ok (.ifCond .eq 54, 3) := by decide +kernel
theorem dX0_means_8 : decode cX0_means 8 = .ok (.iload_n 2, 1) := by decide +kernel
theorem dX0_means_9 : decode cX0_means 9 = .ok (.iconst 1, 1) := by decide +kernel
theorem dX0_means_10 : decode cX0_means 10 = .ok (.bipush 99, 2) := by decide +kernel
theorem dX0_means_12 : decode cX0_means 12 = .ok (.invokestatic 144, 3) := by decide +kernel
theorem dX0_means_15 : decode cX0_means 15 = .ok (.ifCond .eq 44, 3) := by decide +kernel
theorem dX0_means_18 : decode cX0_means 18 = .ok (.aload_n 0, 1) := by decide +kernel
theorem dX0_means_19 : decode cX0_means 19 = .ok (.iload_n 3, 1) := by decide +kernel
theorem dX0_means_20 : decode cX0_means 20 = .ok (.invokevirtual 240, 3) := by decide +kernel
theorem dX0_means_23 : decode cX0_means 23 = .ok (.ifCond .eq 36, 3) := by decide +kernel
theorem dX0_means_26 : decode cX0_means 26 = .ok (.iload 4, 2) := by decide +kernel
theorem dX0_means_28 : decode cX0_means 28 = .ok (.invokestatic 154, 3) := by decide +kernel
theorem dX0_means_31 : decode cX0_means 31 = .ok (.ifCond .eq 28, 3) := by decide +kernel
theorem dX0_means_34 : decode cX0_means 34 = .ok (.iload 5, 2) := by decide +kernel
theorem dX0_means_36 : decode cX0_means 36 = .ok (.invokestatic 154, 3) := by decide +kernel
theorem dX0_means_39 : decode cX0_means 39 = .ok (.ifCond .eq 20, 3) := by decide +kernel
theorem dX0_means_42 : decode cX0_means 42 = .ok (.iload 5, 2) := by decide +kernel
theorem dX0_means_44 : decode cX0_means 44 = .ok (.iload 4, 2) := by decide +kernel
theorem dX0_means_46 : decode cX0_means 46 = .ok (.if_icmp .lt 13, 3) := by decide +kernel
theorem dX0_means_49 : decode cX0_means 49 = .ok (.aload_n 0, 1) := by decide +kernel
theorem dX0_means_50 : decode cX0_means 50 = .ok (.getfield 243, 3) := by decide +kernel
theorem dX0_means_53 : decode cX0_means 53 = .ok (.sipush 200, 3) := by decide +kernel
theorem dX0_means_56 : decode cX0_means 56 = .ok (.if_icmp .ne 5, 3) := by decide +kernel
theorem dX0_means_59 : decode cX0_means 59 = .ok (.iconst 0, 1) := by decide +kernel
theorem dX0_means_60 : decode cX0_means 60 = .ok (.ireturn, 1) := by decide +kernel
theorem dX0_means_61 : decode cX0_means 61 = .ok (.aload_n 0, 1) := by decide +kernel
theorem dX0_means_62 : decode cX0_means 62 = .ok (.getfield 47, 3) := by decide +kernel
theorem dX0_means_65 : decode cX0_means 65 = .ok (.aload_n 0, 1) := by decide +kernel
theorem dX0_means_66 : decode cX0_means 66 = .ok (.getfield 243, 3) := by decide +kernel
theorem dX0_means_69 : decode cX0_means 69 = .ok (.new 45, 3) := by decide +kernel
theorem dX0_means_72 : decode cX0_means 72 = .ok (.dup, 1) := by decide +kernel
theorem dX0_means_73 : decode cX0_means 73 = .ok (.iload_n 1, 1) := by decide +kernel
theorem dX0_means_74 : decode cX0_means 74 = .ok (.iload_n 2, 1) := by decide +kernel
theorem dX0_means_75 : decode cX0_means 75 = .ok (.iload_n 3, 1) := by decide +kernel
theorem dX0_means_76 : decode cX0_means 76 = .ok (.iload 4, 2) := by decide +kernel
theorem dX0_means_78 : decode cX0_means 78 = .ok (.iload 5, 2) := by decide +kernel
theorem dX0_means_80 : decode cX0_means 80 = .ok (.invokespecial 246, 3) := by decide +kernel
theorem dX0_means_83 : decode cX0_means 83 = .ok (.aastore, 1) := by decide +kernel
theorem dX0_means_84 : decode cX0_means 84 = .ok (.aload_n 0, 1) := by decide +kernel
theorem dX0_means_85 : decode cX0_means 85 = .ok (.dup, 1) := by decide +kernel
theorem dX0_means_86 : decode cX0_means 86 = .ok (.getfield 243, 3) := by decide +kernel
theorem dX0_means_89 : decode cX0_means 89 = .ok (.iconst 1, 1) := by decide +kernel
theorem dX0_means_90 : decode cX0_means 90 = .ok (.iadd, 1) := by decide +kernel
theorem dX0_means_91 : decode cX0_means 91 = .ok (.putfield 243, 3) := by decide +kernel
theorem dX0_means_94 : decode cX0_means 94 = .ok (.iconst 1, 1) := by decide +kernel
theorem dX0_means_95 : decode cX0_means 95 = .ok (.ireturn, 1) := by decide +kernel
section
variable {v : Int32}
noncomputable def x0_means (F : Nat) (x1 : Int32) (x2 : Int32) (x3 : Int32) (x4 : Int32) (x5 : Int32) (τ : XS) : XR Int32 :=
  (x0_in F x1 4).bind (fun r1 => if r1 = 0 then (some (0, τ, 0, 0)) else ((x0_within F x2 1 99).bind (fun r2 => if r2 = 0 then (some (0, τ, 0, 0)) else ((x0_isPlace F x3 τ).bind (fun r3 => tk r3.2.2.1 r3.2.2.2 (if r3.1 = 0 then (some (0, r3.2.1, 0, 0)) else ((x0_isWeek F x4).bind (fun r4 => if r4 = 0 then (some (0, r3.2.1, 0, 0)) else ((x0_isWeek F x5).bind (fun r5 => if r5 = 0 then (some (0, r3.2.1, 0, 0)) else (if x5 < x4 then (some (0, r3.2.1, 0, 0)) else (if (r3.2.1.1.1 12) = 200 then (some (0, r3.2.1, 0, 0)) else (nx (xN r3.2.1 (.inr (8, fun q => defaultValue (tyX8 q)))) (fun τ1 => tk 1 5 ((x8_init F r3.2.1.2.2.2.2 x1 x2 x3 x4 x5 τ1).bind (fun r6 => tk r6.2.2.1 r6.2.2.2 (if isC r6.2.1 r3.2.1.2.2.2.2 [8] = true then if okI (r3.2.1.1.1 12) 200 = true then nx (xR r6.2.1 5 (r3.2.1.1.1 12).toNatClampNeg (some r3.2.1.2.2.2.2)) (fun τ2 => nx (xS τ2 12 ((τ2.1.1 12) + 1)) (fun τ3 => some (1, τ3, 0, 0))) else none else none)))))))))))))))))
theorem met_x0_means {l : Launch} {G : gG} {o B F : Nat} {x1 : Int32} {x2 : Int32} {x3 : Int32} {x4 : Int32} {x5 : Int32} {τ : XS} {r : Int32 × XS × Nat × Nat} (hf : x0_means F x1 x2 x3 x4 x5 τ = some r) : MetX l G o B yX0_means cX0_means 6 (some .boolean) 3 [.ref o, .int x1, .int x2, .int x3, .int x4, .int x5] τ (xQi G o B r.1 r.2.1) r.2.2.1 r.2.2.2 := by
  obtain ⟨v, τr, c, s⟩ := r
  refine metX_of (own := RX0) (mn := "means") (by decide) rfl rfl rfl (fun γ hγ M => ?_)
  subst hγ
  show J γ (XW G o B τ) 0 0 0 [(0, .ref o), (1, .int x1), (2, .int x2), (3, .int x3), (4, .int x4), (5, .int x5)] []
  have hkn : 0 + c ≤ c ∧ 0 + s ≤ s := ⟨by omega, by omega⟩
  unfold x0_means at hf
  refine j_iload_n (pc := 0) M.1 dX0_means_0 1 rfl ?_
  refine j_iconst (pc := 1) M.1 dX0_means_1 kc_iconst_4 ?_
  obtain ⟨r1, g1, hf⟩ := o_bind hf
  refine jx_calls (pc := 2) (As := [.int x1, .int 4]) (rest := []) M xcs_X0_137 (met_x0_in g1) rfl rfl rfl rfl dX0_means_2 (kn_le0 hkn) ?_
  refine j_if_eq (pc := 5) M.1 59 dX0_means_5 rfl (fun b1 => ?_) (fun b1 => ?_)
  · replace hf := o_pos b1 hf
    refine j_iconst (pc := 59) M.1 dX0_means_59 kc_iconst_0 ?_
    exact jx_zretF (pc := 60) M dX0_means_60 rfl hf hkn
  · replace hf := o_neg b1 hf
    refine j_iload_n (pc := 8) M.1 dX0_means_8 2 rfl ?_
    refine j_iconst (pc := 9) M.1 dX0_means_9 kc_iconst_1 ?_
    refine j_bipush (pc := 10) M.1 dX0_means_10 kc_bipush_99 ?_
    obtain ⟨r2, g2, hf⟩ := o_bind hf
    refine jx_calls (pc := 12) (As := [.int x2, .int 1, .int 99]) (rest := []) M xcs_X0_144 (met_x0_within g2) rfl rfl rfl rfl dX0_means_12 (kn_le0 hkn) ?_
    refine j_if_eq (pc := 15) M.1 59 dX0_means_15 rfl (fun b2 => ?_) (fun b2 => ?_)
    · replace hf := o_pos b2 hf
      refine j_iconst (pc := 59) M.1 dX0_means_59 kc_iconst_0 ?_
      exact jx_zretF (pc := 60) M dX0_means_60 rfl hf hkn
    · replace hf := o_neg b2 hf
      refine j_aload_n (pc := 18) M.1 dX0_means_18 0 rfl ?_
      refine j_iload_n (pc := 19) M.1 dX0_means_19 3 rfl ?_
      obtain ⟨r3, g3, hf⟩ := o_bind hf
      obtain ⟨c1, s1, hf, hc1, hs1⟩ := o_tk hf
      replace hkn := kn_step hkn hc1 hs1
      refine jx_i M (x_runV (pc := 20) (As := [.int x3]) (rest := []) (V := xV o τ) M xcw_X0_240 (met_x0_isPlace g3) (fun H h => h.1 o _ xH_o) (by decide) rfl rfl rfl dX0_means_20 (kn_le hkn)) ?_
      refine j_if_eq (pc := 23) M.1 59 dX0_means_23 rfl (fun b3 => ?_) (fun b3 => ?_)
      · replace hf := o_pos b3 hf
        refine j_iconst (pc := 59) M.1 dX0_means_59 kc_iconst_0 ?_
        exact jx_zretF (pc := 60) M dX0_means_60 rfl hf hkn
      · replace hf := o_neg b3 hf
        refine j_iload (pc := 26) M.1 dX0_means_26 4 rfl ?_
        obtain ⟨r4, g4, hf⟩ := o_bind hf
        refine jx_calls (pc := 28) (As := [.int x4]) (rest := []) M xcs_X0_154 (met_x0_isWeek g4) rfl rfl rfl rfl dX0_means_28 (kn_le0 hkn) ?_
        refine j_if_eq (pc := 31) M.1 59 dX0_means_31 rfl (fun b4 => ?_) (fun b4 => ?_)
        · replace hf := o_pos b4 hf
          refine j_iconst (pc := 59) M.1 dX0_means_59 kc_iconst_0 ?_
          exact jx_zretF (pc := 60) M dX0_means_60 rfl hf hkn
        · replace hf := o_neg b4 hf
          refine j_iload (pc := 34) M.1 dX0_means_34 5 rfl ?_
          obtain ⟨r5, g5, hf⟩ := o_bind hf
          refine jx_calls (pc := 36) (As := [.int x5]) (rest := []) M xcs_X0_154 (met_x0_isWeek g5) rfl rfl rfl rfl dX0_means_36 (kn_le0 hkn) ?_
          refine j_if_eq (pc := 39) M.1 59 dX0_means_39 rfl (fun b5 => ?_) (fun b5 => ?_)
          · replace hf := o_pos b5 hf
            refine j_iconst (pc := 59) M.1 dX0_means_59 kc_iconst_0 ?_
            exact jx_zretF (pc := 60) M dX0_means_60 rfl hf hkn
          · replace hf := o_neg b5 hf
            refine j_iload (pc := 42) M.1 dX0_means_42 5 rfl ?_
            refine j_iload (pc := 44) M.1 dX0_means_44 4 rfl ?_
            refine j_icmp_lt (pc := 46) M.1 59 dX0_means_46 rfl (fun b6 => ?_) (fun b6 => ?_)
            · replace hf := o_pos b6 hf
              refine j_iconst (pc := 59) M.1 dX0_means_59 kc_iconst_0 ?_
              exact jx_zretF (pc := 60) M dX0_means_60 rfl hf hkn
            · replace hf := o_neg b6 hf
              refine j_aload_n (pc := 49) M.1 dX0_means_49 0 rfl ?_
              refine jx_getS (pc := 50) M xfs_243 dX0_means_50 ?_
              refine j_sipush (pc := 53) M.1 dX0_means_53 kc_sipush_200 ?_
              refine j_icmp_ne (pc := 56) M.1 61 dX0_means_56 rfl (fun b7 => ?_) (fun b7 => ?_)
              · replace hf := o_neg b7 hf
                refine j_aload_n (pc := 61) M.1 dX0_means_61 0 rfl ?_
                refine jx_getA (pc := 62) M xfa_47 dX0_means_62 ?_
                refine j_aload_n (pc := 65) M.1 dX0_means_65 0 rfl ?_
                refine jx_getS (pc := 66) M xfs_243 dX0_means_66 ?_
                obtain ⟨τ1, e1, hf⟩ := o_nx hf
                obtain ⟨c2, s2, hf, hc2, hs2⟩ := o_tk hf
                replace hkn := kn_step hkn hc2 hs2
                refine jx_new (pc := 69) M xnew_X0_45 dX0_means_69 (kn_le hkn) e1 ?_
                refine j_dup (pc := 72) M.1 dX0_means_72 rfl ?_
                refine j_iload_n (pc := 73) M.1 dX0_means_73 1 rfl ?_
                refine j_iload_n (pc := 74) M.1 dX0_means_74 2 rfl ?_
                refine j_iload_n (pc := 75) M.1 dX0_means_75 3 rfl ?_
                refine j_iload (pc := 76) M.1 dX0_means_76 4 rfl ?_
                refine j_iload (pc := 78) M.1 dX0_means_78 5 rfl ?_
                obtain ⟨r6, g6, hf⟩ := o_bind hf
                obtain ⟨c3, s3, hf, hc3, hs3⟩ := o_tk hf
                replace hkn := kn_step hkn hc3 hs3
                refine jx_v (r := r6.1) M (x_runI (pc := 80) (As := [.int x1, .int x2, .int x3, .int x4, .int x5]) (rest := [.ref r3.2.1.2.2.2.2, .int (r3.2.1.1.1 12), .ref (o + 1 + 5)]) M xci_X0_246 (met_x8_init g6) (by decide) rfl rfl rfl dX0_means_80 (kn_le hkn)) ?_
                obtain ⟨b8, hf⟩ := o_need hf
                obtain ⟨b9, hf⟩ := o_need hf
                obtain ⟨τ2, e2, hf⟩ := o_nx hf
                refine jx_aast (pc := 83) M xax_5 (by decide) (by decide) xel_5 b8 b9 dX0_means_83 e2 ?_
                refine j_aload_n (pc := 84) M.1 dX0_means_84 0 rfl ?_
                refine j_dup (pc := 85) M.1 dX0_means_85 rfl ?_
                refine jx_getS (pc := 86) M xfs_243 dX0_means_86 ?_
                refine j_iconst (pc := 89) M.1 dX0_means_89 kc_iconst_1 ?_
                refine j_iadd (pc := 90) M.1 dX0_means_90 ?_
                obtain ⟨τ3, e3, hf⟩ := o_nx hf
                refine jx_putS (pc := 91) M xfs_243 dX0_means_91 e3 ?_
                refine j_iconst (pc := 94) M.1 dX0_means_94 kc_iconst_1 ?_
                exact jx_zretF (pc := 95) M dX0_means_95 rfl hf hkn
              · replace hf := o_pos b7 hf
                refine j_iconst (pc := 59) M.1 dX0_means_59 kc_iconst_0 ?_
                exact jx_zretF (pc := 60) M dX0_means_60 rfl hf hkn
end
theorem dX0_meaningOf_0 : decode cX0_meaningOf 0 = .ok (.aload_n 0, 1) := by decide +kernel
theorem dX0_meaningOf_1 : decode cX0_meaningOf 1 = .ok (.getfield 243, 3) := by decide +kernel
theorem dX0_meaningOf_4 : decode cX0_meaningOf 4 = .ok (.iconst 1, 1) := by decide +kernel
theorem dX0_meaningOf_5 : decode cX0_meaningOf 5 = .ok (.isub, 1) := by decide +kernel
theorem dX0_meaningOf_6 : decode cX0_meaningOf 6 = .ok (.istore 4, 2) := by decide +kernel
theorem dX0_meaningOf_8 : decode cX0_meaningOf 8 = .ok (.iload 4, 2) := by decide +kernel
theorem dX0_meaningOf_10 : decode cX0_meaningOf 10 = .ok (.ifCond .lt 59, 3) := by decide +kernel
theorem dX0_meaningOf_13 : decode cX0_meaningOf 13 = .ok (.aload_n 0, 1) := by decide +kernel
theorem dX0_meaningOf_14 : decode cX0_meaningOf 14 = .ok (.getfield 47, 3) := by decide +kernel
theorem dX0_meaningOf_17 : decode cX0_meaningOf 17 = .ok (.iload 4, 2) := by decide +kernel
theorem dX0_meaningOf_19 : decode cX0_meaningOf 19 = .ok (.aaload, 1) := by decide +kernel
theorem dX0_meaningOf_20 : decode cX0_meaningOf 20 = .ok (.astore 5, 2) := by decide +kernel
theorem dX0_meaningOf_22 : decode cX0_meaningOf 22 = .ok (.aload 5, 2) := by decide +kernel
theorem dX0_meaningOf_24 : decode cX0_meaningOf 24 = .ok (.getfield 249, 3) := by decide +kernel
theorem dX0_meaningOf_27 : decode cX0_meaningOf 27 = .ok (.iload_n 1, 1) := by decide +kernel
theorem dX0_meaningOf_28 : decode cX0_meaningOf 28 = .ok (.if_icmp .ne 35, 3) := by decide +kernel
theorem dX0_meaningOf_31 : decode cX0_meaningOf 31 = .ok (.aload 5, 2) := by decide +kernel
theorem dX0_meaningOf_33 : decode cX0_meaningOf 33 = .ok (.getfield 252, 3) := by decide +kernel
theorem dX0_meaningOf_36 : decode cX0_meaningOf 36 = .ok (.iload_n 2, 1) := by decide +kernel
theorem dX0_meaningOf_37 : decode cX0_meaningOf 37 = .ok (.if_icmp .ne 26, 3) := by decide +kernel
theorem dX0_meaningOf_40 : decode cX0_meaningOf 40 = .ok (.iload_n 3, 1) := by decide +kernel
theorem dX0_meaningOf_41 : decode cX0_meaningOf 41 = .ok (.aload 5, 2) := by decide +kernel
theorem dX0_meaningOf_43 : decode cX0_meaningOf 43 = .ok (.getfield 253, 3) := by decide +kernel
theorem dX0_meaningOf_46 : decode cX0_meaningOf 46 = .ok (.aload 5, 2) := by decide +kernel
theorem dX0_meaningOf_48 : decode cX0_meaningOf 48 = .ok (.getfield 254, 3) := by decide +kernel
theorem dX0_meaningOf_51 : decode cX0_meaningOf 51 = .ok (.invokestatic 144, 3) := by decide +kernel
theorem dX0_meaningOf_54 : decode cX0_meaningOf 54 = .ok (.ifCond .eq 9, 3) := by decide +kernel
theorem dX0_meaningOf_57 : decode cX0_meaningOf 57 = .ok (.aload 5, 2) := by decide +kernel
theorem dX0_meaningOf_59 : decode cX0_meaningOf 59 = .ok (.getfield 257, 3) := by decide +kernel
theorem dX0_meaningOf_62 : decode cX0_meaningOf 62 = .ok (.ireturn, 1) := by decide +kernel
theorem dX0_meaningOf_63 : decode cX0_meaningOf 63 = .ok (.iinc 4 (-1), 3) := by decide +kernel
theorem dX0_meaningOf_66 : decode cX0_meaningOf 66 = .ok (.goto (-58), 3) := by decide +kernel
theorem dX0_meaningOf_69 : decode cX0_meaningOf 69 = .ok (.iconst (-1), 1) := by decide +kernel
theorem dX0_meaningOf_70 : decode cX0_meaningOf 70 = .ok (.ireturn, 1) := by decide +kernel
section
variable {v : Int32}
noncomputable def x0_meaningOf_B8 (F : Nat) (x1 : Int32) (x2 : Int32) (x3 : Int32) (R : Int32 × XS → XR Int32) (a : Int32 × XS) : XR Int32 :=
  if a.1 < 0 then (some ((-1), a.2, 0, 0)) else (if okI a.1 200 = true then (a.2.2.1 5 a.1.toNatClampNeg).bind (fun n1 => (gI a.2 n1 [8] 0).bind (fun v1 => if v1 = x1 then ((gI a.2 n1 [8] 1).bind (fun v2 => if v2 = x2 then ((gI a.2 n1 [8] 3).bind (fun v3 => (gI a.2 n1 [8] 4).bind (fun v4 => (x0_within F x3 v3 v4).bind (fun r1 => if r1 = 0 then (R (a.1 + (-1), a.2)) else ((gI a.2 n1 [8] 2).bind (fun v5 => some (v5, a.2, 0, 0))))))) else (R (a.1 + (-1), a.2)))) else (R (a.1 + (-1), a.2)))) else none)
theorem kx0_meaningOf_B8 (M : XC γ cX0_meaningOf 6 RX0 "meaningOf" G o B 2 (some .int) (xQi G o B v τr) c0 s0) (x1 : Int32) (x2 : Int32) (x3 : Int32) : ∀ R : Int32 × XS → XR Int32, (∀ a c s, R a = some (v, τr, c, s) → ∀ k n, k + c ≤ c0 ∧ n + s ≤ s0 → J γ (XW G o B a.2) k n 8 [(0, .ref o), (1, .int x1), (2, .int x2), (3, .int x3), (4, .int a.1)] []) → ∀ a c s, x0_meaningOf_B8 F x1 x2 x3 R a = some (v, τr, c, s) → ∀ k n, k + c ≤ c0 ∧ n + s ≤ s0 → J γ (XW G o B a.2) k n 8 [(0, .ref o), (1, .int x1), (2, .int x2), (3, .int x3), (4, .int a.1)] [] := by
  intro R hR a c s hf k n hkn
  unfold x0_meaningOf_B8 at hf
  refine j_iload (pc := 8) M.1 dX0_meaningOf_8 4 rfl ?_
  refine j_if_lt (pc := 10) M.1 69 dX0_meaningOf_10 rfl (fun b1 => ?_) (fun b1 => ?_)
  · replace hf := o_pos b1 hf
    refine j_iconst (pc := 69) M.1 dX0_meaningOf_69 kc_iconst_m1 ?_
    exact jx_iretF (pc := 70) M dX0_meaningOf_70 hf hkn
  · replace hf := o_neg b1 hf
    refine j_aload_n (pc := 13) M.1 dX0_meaningOf_13 0 rfl ?_
    refine jx_getA (pc := 14) M xfa_47 dX0_meaningOf_14 ?_
    refine j_iload (pc := 17) M.1 dX0_meaningOf_17 4 rfl ?_
    obtain ⟨b2, hf⟩ := o_need hf
    obtain ⟨n1, g1, hf⟩ := o_bind hf
    refine jx_aald (pc := 19) M xax_5 (by decide) xrt_5 b2 g1 dX0_meaningOf_19 ?_
    refine j_astore (pc := 20) M.1 [(5, .ref n1), (0, .ref o), (1, .int x1), (2, .int x2), (3, .int x3), (4, .int a.1)] dX0_meaningOf_20 rfl rfl ?_
    refine j_aload (pc := 22) M.1 dX0_meaningOf_22 0 rfl ?_
    obtain ⟨v1, g2, hf⟩ := o_bind hf
    refine jx_getI (pc := 24) M xfl_X0_249 g2 dX0_meaningOf_24 ?_
    refine j_iload_n (pc := 27) M.1 dX0_meaningOf_27 2 rfl ?_
    refine j_icmp_ne (pc := 28) M.1 63 dX0_meaningOf_28 rfl (fun b3 => ?_) (fun b3 => ?_)
    · replace hf := o_neg b3 hf
      refine j_iinc (pc := 63) M.1 [(4, .int (a.1 + (-1))), (5, .ref n1), (0, .ref o), (1, .int x1), (2, .int x2), (3, .int x3)] dX0_meaningOf_63 5 rfl (congrArg _ kc_iconst_m1) rfl rfl ?_
      refine j_goto (pc := 66) M.1 8 dX0_meaningOf_66 rfl ?_
      refine j_sub [2, 3, 4, 5, 0] (show lv_pick _ _ = [(0, .ref o), (1, .int x1), (2, .int x2), (3, .int x3), (4, .int (a.1 + (-1)))] from rfl) ?_
      have hy := hR _ _ _ hf _ _ hkn
      exact hy
    · replace hf := o_pos b3 hf
      refine j_aload (pc := 31) M.1 dX0_meaningOf_31 0 rfl ?_
      obtain ⟨v2, g3, hf⟩ := o_bind hf
      refine jx_getI (pc := 33) M xfl_X0_252 g3 dX0_meaningOf_33 ?_
      refine j_iload_n (pc := 36) M.1 dX0_meaningOf_36 3 rfl ?_
      refine j_icmp_ne (pc := 37) M.1 63 dX0_meaningOf_37 rfl (fun b4 => ?_) (fun b4 => ?_)
      · replace hf := o_neg b4 hf
        refine j_iinc (pc := 63) M.1 [(4, .int (a.1 + (-1))), (5, .ref n1), (0, .ref o), (1, .int x1), (2, .int x2), (3, .int x3)] dX0_meaningOf_63 5 rfl (congrArg _ kc_iconst_m1) rfl rfl ?_
        refine j_goto (pc := 66) M.1 8 dX0_meaningOf_66 rfl ?_
        refine j_sub [2, 3, 4, 5, 0] (show lv_pick _ _ = [(0, .ref o), (1, .int x1), (2, .int x2), (3, .int x3), (4, .int (a.1 + (-1)))] from rfl) ?_
        have hy := hR _ _ _ hf _ _ hkn
        exact hy
      · replace hf := o_pos b4 hf
        refine j_iload_n (pc := 40) M.1 dX0_meaningOf_40 4 rfl ?_
        refine j_aload (pc := 41) M.1 dX0_meaningOf_41 0 rfl ?_
        obtain ⟨v3, g4, hf⟩ := o_bind hf
        refine jx_getI (pc := 43) M xfl_X0_253 g4 dX0_meaningOf_43 ?_
        refine j_aload (pc := 46) M.1 dX0_meaningOf_46 0 rfl ?_
        obtain ⟨v4, g5, hf⟩ := o_bind hf
        refine jx_getI (pc := 48) M xfl_X0_254 g5 dX0_meaningOf_48 ?_
        obtain ⟨r1, g6, hf⟩ := o_bind hf
        refine jx_calls (pc := 51) (As := [.int x3, .int v3, .int v4]) (rest := []) M xcs_X0_144 (met_x0_within g6) rfl rfl rfl rfl dX0_meaningOf_51 (kn_le0 hkn) ?_
        refine j_if_eq (pc := 54) M.1 63 dX0_meaningOf_54 rfl (fun b5 => ?_) (fun b5 => ?_)
        · replace hf := o_pos b5 hf
          refine j_iinc (pc := 63) M.1 [(4, .int (a.1 + (-1))), (5, .ref n1), (0, .ref o), (1, .int x1), (2, .int x2), (3, .int x3)] dX0_meaningOf_63 5 rfl (congrArg _ kc_iconst_m1) rfl rfl ?_
          refine j_goto (pc := 66) M.1 8 dX0_meaningOf_66 rfl ?_
          refine j_sub [2, 3, 4, 5, 0] (show lv_pick _ _ = [(0, .ref o), (1, .int x1), (2, .int x2), (3, .int x3), (4, .int (a.1 + (-1)))] from rfl) ?_
          have hy := hR _ _ _ hf _ _ hkn
          exact hy
        · replace hf := o_neg b5 hf
          refine j_aload (pc := 57) M.1 dX0_meaningOf_57 0 rfl ?_
          obtain ⟨v5, g7, hf⟩ := o_bind hf
          refine jx_getI (pc := 59) M xfl_X0_257 g7 dX0_meaningOf_59 ?_
          exact jx_iretF (pc := 62) M dX0_meaningOf_62 hf hkn
noncomputable def x0_meaningOf (F : Nat) (x1 : Int32) (x2 : Int32) (x3 : Int32) (τ : XS) : XR Int32 :=
  nx ((τ.1.1 12) - 1 : Int32) (fun y1 => lp (x0_meaningOf_B8 F x1 x2 x3) F (y1, τ))
theorem met_x0_meaningOf {l : Launch} {G : gG} {o B F : Nat} {x1 : Int32} {x2 : Int32} {x3 : Int32} {τ : XS} {r : Int32 × XS × Nat × Nat} (hf : x0_meaningOf F x1 x2 x3 τ = some r) : MetX l G o B yX0_meaningOf cX0_meaningOf 6 (some .int) 2 [.ref o, .int x1, .int x2, .int x3] τ (xQi G o B r.1 r.2.1) r.2.2.1 r.2.2.2 := by
  obtain ⟨v, τr, c, s⟩ := r
  refine metX_of (own := RX0) (mn := "meaningOf") (by decide) rfl rfl rfl (fun γ hγ M => ?_)
  subst hγ
  show J γ (XW G o B τ) 0 0 0 [(0, .ref o), (1, .int x1), (2, .int x2), (3, .int x3)] []
  have hkn : 0 + c ≤ c ∧ 0 + s ≤ s := ⟨by omega, by omega⟩
  unfold x0_meaningOf at hf
  refine j_aload_n (pc := 0) M.1 dX0_meaningOf_0 0 rfl ?_
  refine jx_getS (pc := 1) M xfs_243 dX0_meaningOf_1 ?_
  refine j_iconst (pc := 4) M.1 dX0_meaningOf_4 kc_iconst_1 ?_
  refine j_isub (pc := 5) M.1 dX0_meaningOf_5 ?_
  obtain ⟨y1, e1, hf⟩ := o_nx hf
  refine j_top e1 ?_
  refine j_istore (pc := 6) M.1 [(4, .int y1), (0, .ref o), (1, .int x1), (2, .int x2), (3, .int x3)] dX0_meaningOf_6 rfl rfl ?_
  refine j_sub [1, 2, 3, 4, 0] (show lv_pick _ _ = [(0, .ref o), (1, .int x1), (2, .int x2), (3, .int x3), (4, .int y1)] from rfl) ?_
  refine lp_Wc (kx0_meaningOf_B8 M x1 x2 x3) F (y1, τ) _ _ hf _ _ hkn
end
theorem dX0_meaning_0 : decode cX0_meaning 0 = .ok (.iload_n 1, 1) := by decide +kernel
theorem dX0_meaning_1 : decode cX0_meaning 1 = .ok (.iconst 4, 1) := by decide +kernel
theorem dX0_meaning_2 : decode cX0_meaning 2 = .ok (.invokestatic 137, 3) := by decide +kernel
theorem dX0_meaning_5 : decode cX0_meaning 5 = .ok (.ifCond .eq 30, 3) := by decide +kernel
theorem dX0_meaning_8 : decode cX0_meaning 8 = .ok (.iload_n 2, 1) := by decide +kernel
theorem dX0_meaning_9 : decode cX0_meaning 9 = .ok (.iconst 1, 1) := by decide +kernel
theorem dX0_meaning_10 : decode cX0_meaning 10 = .ok (.bipush 99, 2) := by decide +kernel
theorem dX0_meaning_12 : decode cX0_meaning 12 = .ok (.invokestatic 144, 3) := by decide +kernel
theorem dX0_meaning_15 : decode cX0_meaning 15 = .ok (.ifCond .eq 20, 3) := by decide +kernel
theorem dX0_meaning_18 : decode cX0_meaning 18 = .ok (.iload_n 3, 1) := by decide +kernel
theorem dX0_meaning_19 : decode cX0_meaning 19 = .ok (.invokestatic 154, 3) := by decide +kernel
theorem dX0_meaning_22 : decode cX0_meaning 22 = .ok (.ifCond .eq 13, 3) := by decide +kernel
theorem dX0_meaning_25 : decode cX0_meaning 25 = .ok (.aload_n 0, 1) := by decide +kernel
theorem dX0_meaning_26 : decode cX0_meaning 26 = .ok (.iload_n 1, 1) := by decide +kernel
theorem dX0_meaning_27 : decode cX0_meaning 27 = .ok (.iload_n 2, 1) := by decide +kernel
theorem dX0_meaning_28 : decode cX0_meaning 28 = .ok (.iload_n 3, 1) := by decide +kernel
theorem dX0_meaning_29 : decode cX0_meaning 29 = .ok (.invokevirtual 260, 3) := by decide +kernel
theorem dX0_meaning_32 : decode cX0_meaning 32 = .ok (.goto 4, 3) := by decide +kernel
theorem dX0_meaning_35 : decode cX0_meaning 35 = .ok (.iconst (-1), 1) := by decide +kernel
theorem dX0_meaning_36 : decode cX0_meaning 36 = .ok (.ireturn, 1) := by decide +kernel
section
variable {v : Int32}
noncomputable def x0_meaning (F : Nat) (x1 : Int32) (x2 : Int32) (x3 : Int32) (τ : XS) : XR Int32 :=
  (x0_in F x1 4).bind (fun r1 => if r1 = 0 then (some ((-1), τ, 0, 0)) else ((x0_within F x2 1 99).bind (fun r2 => if r2 = 0 then (some ((-1), τ, 0, 0)) else ((x0_isWeek F x3).bind (fun r3 => if r3 = 0 then (some ((-1), τ, 0, 0)) else ((x0_meaningOf F x1 x2 x3 τ).bind (fun r4 => tk r4.2.2.1 r4.2.2.2 (some (r4.1, r4.2.1, 0, 0)))))))))
theorem met_x0_meaning {l : Launch} {G : gG} {o B F : Nat} {x1 : Int32} {x2 : Int32} {x3 : Int32} {τ : XS} {r : Int32 × XS × Nat × Nat} (hf : x0_meaning F x1 x2 x3 τ = some r) : MetX l G o B yX0_meaning cX0_meaning 4 (some .int) 3 [.ref o, .int x1, .int x2, .int x3] τ (xQi G o B r.1 r.2.1) r.2.2.1 r.2.2.2 := by
  obtain ⟨v, τr, c, s⟩ := r
  refine metX_of (own := RX0) (mn := "meaning") (by decide) rfl rfl rfl (fun γ hγ M => ?_)
  subst hγ
  show J γ (XW G o B τ) 0 0 0 [(0, .ref o), (1, .int x1), (2, .int x2), (3, .int x3)] []
  have hkn : 0 + c ≤ c ∧ 0 + s ≤ s := ⟨by omega, by omega⟩
  unfold x0_meaning at hf
  refine j_iload_n (pc := 0) M.1 dX0_meaning_0 1 rfl ?_
  refine j_iconst (pc := 1) M.1 dX0_meaning_1 kc_iconst_4 ?_
  obtain ⟨r1, g1, hf⟩ := o_bind hf
  refine jx_calls (pc := 2) (As := [.int x1, .int 4]) (rest := []) M xcs_X0_137 (met_x0_in g1) rfl rfl rfl rfl dX0_meaning_2 (kn_le0 hkn) ?_
  refine j_if_eq (pc := 5) M.1 35 dX0_meaning_5 rfl (fun b1 => ?_) (fun b1 => ?_)
  · replace hf := o_pos b1 hf
    refine j_iconst (pc := 35) M.1 dX0_meaning_35 kc_iconst_m1 ?_
    exact jx_iretF (pc := 36) M dX0_meaning_36 hf hkn
  · replace hf := o_neg b1 hf
    refine j_iload_n (pc := 8) M.1 dX0_meaning_8 2 rfl ?_
    refine j_iconst (pc := 9) M.1 dX0_meaning_9 kc_iconst_1 ?_
    refine j_bipush (pc := 10) M.1 dX0_meaning_10 kc_bipush_99 ?_
    obtain ⟨r2, g2, hf⟩ := o_bind hf
    refine jx_calls (pc := 12) (As := [.int x2, .int 1, .int 99]) (rest := []) M xcs_X0_144 (met_x0_within g2) rfl rfl rfl rfl dX0_meaning_12 (kn_le0 hkn) ?_
    refine j_if_eq (pc := 15) M.1 35 dX0_meaning_15 rfl (fun b2 => ?_) (fun b2 => ?_)
    · replace hf := o_pos b2 hf
      refine j_iconst (pc := 35) M.1 dX0_meaning_35 kc_iconst_m1 ?_
      exact jx_iretF (pc := 36) M dX0_meaning_36 hf hkn
    · replace hf := o_neg b2 hf
      refine j_iload_n (pc := 18) M.1 dX0_meaning_18 3 rfl ?_
      obtain ⟨r3, g3, hf⟩ := o_bind hf
      refine jx_calls (pc := 19) (As := [.int x3]) (rest := []) M xcs_X0_154 (met_x0_isWeek g3) rfl rfl rfl rfl dX0_meaning_19 (kn_le0 hkn) ?_
      refine j_if_eq (pc := 22) M.1 35 dX0_meaning_22 rfl (fun b3 => ?_) (fun b3 => ?_)
      · replace hf := o_pos b3 hf
        refine j_iconst (pc := 35) M.1 dX0_meaning_35 kc_iconst_m1 ?_
        exact jx_iretF (pc := 36) M dX0_meaning_36 hf hkn
      · replace hf := o_neg b3 hf
        refine j_aload_n (pc := 25) M.1 dX0_meaning_25 0 rfl ?_
        refine j_iload_n (pc := 26) M.1 dX0_meaning_26 1 rfl ?_
        refine j_iload_n (pc := 27) M.1 dX0_meaning_27 2 rfl ?_
        refine j_iload_n (pc := 28) M.1 dX0_meaning_28 3 rfl ?_
        obtain ⟨r4, g4, hf⟩ := o_bind hf
        obtain ⟨c1, s1, hf, hc1, hs1⟩ := o_tk hf
        replace hkn := kn_step hkn hc1 hs1
        refine jx_i M (x_runV (pc := 29) (As := [.int x1, .int x2, .int x3]) (rest := []) (V := xV o τ) M xcw_X0_260 (met_x0_meaningOf g4) (fun H h => h.1 o _ xH_o) (by decide) rfl rfl rfl dX0_meaning_29 (kn_le hkn)) ?_
        refine j_goto (pc := 32) M.1 36 dX0_meaning_32 rfl ?_
        exact jx_iretF (pc := 36) M dX0_meaning_36 hf hkn
end
theorem dX0_push_0 : decode cX0_push 0 = .ok (.bipush 24, 2) := by decide +kernel
theorem dX0_push_2 : decode cX0_push 2 = .ok (.istore_n 2, 1) := by decide +kernel
theorem dX0_push_3 : decode cX0_push 3 = .ok (.iload_n 2, 1) := by decide +kernel
theorem dX0_push_4 : decode cX0_push 4 = .ok (.ifCond .lt 32, 3) := by decide +kernel
theorem dX0_push_7 : decode cX0_push 7 = .ok (.aload_n 0, 1) := by decide +kernel
theorem dX0_push_8 : decode cX0_push 8 = .ok (.getfield 41, 3) := by decide +kernel
theorem dX0_push_11 : decode cX0_push 11 = .ok (.aload_n 0, 1) := by decide +kernel
theorem dX0_push_12 : decode cX0_push 12 = .ok (.getfield 264, 3) := by decide +kernel
theorem dX0_push_15 : decode cX0_push 15 = .ok (.iload_n 1, 1) := by decide +kernel
theorem dX0_push_16 : decode cX0_push 16 = .ok (.iload_n 2, 1) := by decide +kernel
theorem dX0_push_17 : decode cX0_push 17 = .ok (.ishr, 1) := by decide +kernel
theorem dX0_push_18 : decode cX0_push 18 = .ok (.i2b, 1) := by decide +kernel
theorem dX0_push_19 : decode cX0_push 19 = .ok (.bastore, 1) := by decide +kernel
theorem dX0_push_20 : decode cX0_push 20 = .ok (.aload_n 0, 1) := by decide +kernel
theorem dX0_push_21 : decode cX0_push 21 = .ok (.dup, 1) := by decide +kernel
theorem dX0_push_22 : decode cX0_push 22 = .ok (.getfield 264, 3) := by decide +kernel
theorem dX0_push_25 : decode cX0_push 25 = .ok (.iconst 1, 1) := by decide +kernel
theorem dX0_push_26 : decode cX0_push 26 = .ok (.iadd, 1) := by decide +kernel
theorem dX0_push_27 : decode cX0_push 27 = .ok (.putfield 264, 3) := by decide +kernel
theorem dX0_push_30 : decode cX0_push 30 = .ok (.iinc 2 (-8), 3) := by decide +kernel
theorem dX0_push_33 : decode cX0_push 33 = .ok (.goto (-30), 3) := by decide +kernel
theorem dX0_push_36 : decode cX0_push 36 = .ok (.return_, 1) := by decide +kernel
section
variable {v : Int32}
noncomputable def x0_push_B3 (F : Nat) (x1 : Int32) (R : Int32 × XS → XR Int32) (a : Int32 × XS) : XR Int32 :=
  if a.1 < 0 then (some (0, a.2, 0, 0)) else (if okI (a.2.1.1 5) 400 = true then nx (xA a.2 4 (a.2.1.1 5).toNatClampNeg (vp_nar .byte ((x1 >>> (a.1 &&& 31)).toInt8.toInt32))) (fun τ1 => nx (xS τ1 5 ((τ1.1.1 5) + 1)) (fun τ2 => R (a.1 + (-8), τ2))) else none)
theorem kx0_push_B3 (M : XC γ cX0_push 3 RX0 "push" G o B 1 none (xQv G o B v τr) c0 s0) (x1 : Int32) : ∀ R : Int32 × XS → XR Int32, (∀ a c s, R a = some (v, τr, c, s) → ∀ k n, k + c ≤ c0 ∧ n + s ≤ s0 → J γ (XW G o B a.2) k n 3 [(0, .ref o), (1, .int x1), (2, .int a.1)] []) → ∀ a c s, x0_push_B3 F x1 R a = some (v, τr, c, s) → ∀ k n, k + c ≤ c0 ∧ n + s ≤ s0 → J γ (XW G o B a.2) k n 3 [(0, .ref o), (1, .int x1), (2, .int a.1)] [] := by
  intro R hR a c s hf k n hkn
  unfold x0_push_B3 at hf
  refine j_iload_n (pc := 3) M.1 dX0_push_3 2 rfl ?_
  refine j_if_lt (pc := 4) M.1 36 dX0_push_4 rfl (fun b1 => ?_) (fun b1 => ?_)
  · replace hf := o_pos b1 hf
    exact jx_vretF (pc := 36) M dX0_push_36 hf hkn
  · replace hf := o_neg b1 hf
    refine j_aload_n (pc := 7) M.1 dX0_push_7 0 rfl ?_
    refine jx_getA (pc := 8) M xfa_41 dX0_push_8 ?_
    refine j_aload_n (pc := 11) M.1 dX0_push_11 0 rfl ?_
    refine jx_getS (pc := 12) M xfs_264 dX0_push_12 ?_
    refine j_iload_n (pc := 15) M.1 dX0_push_15 1 rfl ?_
    refine j_iload_n (pc := 16) M.1 dX0_push_16 2 rfl ?_
    refine j_ishr (pc := 17) M.1 dX0_push_17 ?_
    refine j_i2b (pc := 18) M.1 dX0_push_18 ?_
    obtain ⟨b2, hf⟩ := o_need hf
    obtain ⟨τ1, e1, hf⟩ := o_nx hf
    refine jx_bast (pc := 19) M xax_4 b2 dX0_push_19 e1 ?_
    refine j_aload_n (pc := 20) M.1 dX0_push_20 0 rfl ?_
    refine j_dup (pc := 21) M.1 dX0_push_21 rfl ?_
    refine jx_getS (pc := 22) M xfs_264 dX0_push_22 ?_
    refine j_iconst (pc := 25) M.1 dX0_push_25 kc_iconst_1 ?_
    refine j_iadd (pc := 26) M.1 dX0_push_26 ?_
    obtain ⟨τ2, e2, hf⟩ := o_nx hf
    refine jx_putS (pc := 27) M xfs_264 dX0_push_27 e2 ?_
    refine j_iinc (pc := 30) M.1 [(2, .int (a.1 + (-8))), (0, .ref o), (1, .int x1)] dX0_push_30 2 rfl (congrArg _ kc_iconst_m8) rfl rfl ?_
    refine j_goto (pc := 33) M.1 3 dX0_push_33 rfl ?_
    refine j_sub [1, 2, 0] (show lv_pick _ _ = [(0, .ref o), (1, .int x1), (2, .int (a.1 + (-8)))] from rfl) ?_
    have hy := hR _ _ _ hf _ _ hkn
    exact hy
noncomputable def x0_push (F : Nat) (x1 : Int32) (τ : XS) : XR Int32 :=
  lp (x0_push_B3 F x1) F (24, τ)
theorem met_x0_push {l : Launch} {G : gG} {o B F : Nat} {x1 : Int32} {τ : XS} {r : Int32 × XS × Nat × Nat} (hf : x0_push F x1 τ = some r) : MetX l G o B yX0_push cX0_push 3 none 1 [.ref o, .int x1] τ (xQv G o B r.1 r.2.1) r.2.2.1 r.2.2.2 := by
  obtain ⟨v, τr, c, s⟩ := r
  refine metX_of (own := RX0) (mn := "push") (by decide) rfl rfl rfl (fun γ hγ M => ?_)
  subst hγ
  show J γ (XW G o B τ) 0 0 0 [(0, .ref o), (1, .int x1)] []
  have hkn : 0 + c ≤ c ∧ 0 + s ≤ s := ⟨by omega, by omega⟩
  unfold x0_push at hf
  refine j_bipush (pc := 0) M.1 dX0_push_0 kc_bipush_24 ?_
  refine j_istore_n (pc := 2) M.1 [(2, .int 24), (0, .ref o), (1, .int x1)] dX0_push_2 rfl rfl ?_
  refine j_sub [1, 2, 0] (show lv_pick _ _ = [(0, .ref o), (1, .int x1), (2, .int 24)] from rfl) ?_
  refine lp_Wc (kx0_push_B3 M x1) F (24, τ) _ _ hf _ _ hkn
end
theorem dX0_feed_0 : decode cX0_feed 0 = .ok (.aload_n 0, 1) := by decide +kernel
theorem dX0_feed_1 : decode cX0_feed 1 = .ok (.getfield 264, 3) := by decide +kernel
theorem dX0_feed_4 : decode cX0_feed 4 = .ok (.bipush 20, 2) := by decide +kernel
theorem dX0_feed_6 : decode cX0_feed 6 = .ok (.iadd, 1) := by decide +kernel
theorem dX0_feed_7 : decode cX0_feed 7 = .ok (.sipush 400, 3) := by decide +kernel
theorem dX0_feed_10 : decode cX0_feed 10 = .ok (.if_icmp .le 5, 3) := by decide +kernel
theorem dX0_feed_13 : decode cX0_feed 13 = .ok (.iconst (-1), 1) := by decide +kernel
theorem dX0_feed_14 : decode cX0_feed 14 = .ok (.ireturn, 1) := by decide +kernel
theorem dX0_feed_15 : decode cX0_feed 15 = .ok (.aload_n 0, 1) := by decide +kernel
theorem dX0_feed_16 : decode cX0_feed 16 = .ok (.iload_n 1, 1) := by decide +kernel
theorem dX0_feed_17 : decode cX0_feed 17 = .ok (.invokevirtual 267, 3) := by decide +kernel
theorem dX0_feed_20 : decode cX0_feed 20 = .ok (.aload_n 0, 1) := by decide +kernel
theorem dX0_feed_21 : decode cX0_feed 21 = .ok (.iload_n 2, 1) := by decide +kernel
theorem dX0_feed_22 : decode cX0_feed 22 = .ok (.invokevirtual 267, 3) := by decide +kernel
theorem dX0_feed_25 : decode cX0_feed 25 = .ok (.aload_n 0, 1) := by decide +kernel
theorem dX0_feed_26 : decode cX0_feed 26 = .ok (.iload_n 3, 1) := by decide +kernel
theorem dX0_feed_27 : decode cX0_feed 27 = .ok (.invokevirtual 267, 3) := by decide +kernel
theorem dX0_feed_30 : decode cX0_feed 30 = .ok (.aload_n 0, 1) := by decide +kernel
theorem dX0_feed_31 : decode cX0_feed 31 = .ok (.iload 4, 2) := by decide +kernel
theorem dX0_feed_33 : decode cX0_feed 33 = .ok (.invokevirtual 267, 3) := by decide +kernel
theorem dX0_feed_36 : decode cX0_feed 36 = .ok (.aload_n 0, 1) := by decide +kernel
theorem dX0_feed_37 : decode cX0_feed 37 = .ok (.iload 5, 2) := by decide +kernel
theorem dX0_feed_39 : decode cX0_feed 39 = .ok (.invokevirtual 267, 3) := by decide +kernel
theorem dX0_feed_42 : decode cX0_feed 42 = .ok (.aload_n 0, 1) := by decide +kernel
theorem dX0_feed_43 : decode cX0_feed 43 = .ok (.getfield 264, 3) := by decide +kernel
theorem dX0_feed_46 : decode cX0_feed 46 = .ok (.ireturn, 1) := by decide +kernel
section
variable {v : Int32}
noncomputable def x0_feed (F : Nat) (x1 : Int32) (x2 : Int32) (x3 : Int32) (x4 : Int32) (x5 : Int32) (τ : XS) : XR Int32 :=
  if ((τ.1.1 5) + 20) ≤ 400 then ((x0_push F x1 τ).bind (fun r1 => tk r1.2.2.1 r1.2.2.2 ((x0_push F x2 r1.2.1).bind (fun r2 => tk r2.2.2.1 r2.2.2.2 ((x0_push F x3 r2.2.1).bind (fun r3 => tk r3.2.2.1 r3.2.2.2 ((x0_push F x4 r3.2.1).bind (fun r4 => tk r4.2.2.1 r4.2.2.2 ((x0_push F x5 r4.2.1).bind (fun r5 => tk r5.2.2.1 r5.2.2.2 (some (r5.2.1.1.1 5, r5.2.1, 0, 0)))))))))))) else (some ((-1), τ, 0, 0))
theorem met_x0_feed {l : Launch} {G : gG} {o B F : Nat} {x1 : Int32} {x2 : Int32} {x3 : Int32} {x4 : Int32} {x5 : Int32} {τ : XS} {r : Int32 × XS × Nat × Nat} (hf : x0_feed F x1 x2 x3 x4 x5 τ = some r) : MetX l G o B yX0_feed cX0_feed 6 (some .int) 2 [.ref o, .int x1, .int x2, .int x3, .int x4, .int x5] τ (xQi G o B r.1 r.2.1) r.2.2.1 r.2.2.2 := by
  obtain ⟨v, τr, c, s⟩ := r
  refine metX_of (own := RX0) (mn := "feed") (by decide) rfl rfl rfl (fun γ hγ M => ?_)
  subst hγ
  show J γ (XW G o B τ) 0 0 0 [(0, .ref o), (1, .int x1), (2, .int x2), (3, .int x3), (4, .int x4), (5, .int x5)] []
  have hkn : 0 + c ≤ c ∧ 0 + s ≤ s := ⟨by omega, by omega⟩
  unfold x0_feed at hf
  refine j_aload_n (pc := 0) M.1 dX0_feed_0 0 rfl ?_
  refine jx_getS (pc := 1) M xfs_264 dX0_feed_1 ?_
  refine j_bipush (pc := 4) M.1 dX0_feed_4 kc_bipush_20 ?_
  refine j_iadd (pc := 6) M.1 dX0_feed_6 ?_
  refine j_sipush (pc := 7) M.1 dX0_feed_7 kc_sipush_400 ?_
  refine j_icmp_le (pc := 10) M.1 15 dX0_feed_10 rfl (fun b1 => ?_) (fun b1 => ?_)
  · replace hf := o_pos b1 hf
    refine j_aload_n (pc := 15) M.1 dX0_feed_15 0 rfl ?_
    refine j_iload_n (pc := 16) M.1 dX0_feed_16 1 rfl ?_
    obtain ⟨r1, g1, hf⟩ := o_bind hf
    obtain ⟨c1, s1, hf, hc1, hs1⟩ := o_tk hf
    replace hkn := kn_step hkn hc1 hs1
    refine jx_v (r := r1.1) M (x_runV (pc := 17) (As := [.int x1]) (rest := []) (V := xV o τ) M xcw_X0_267 (met_x0_push g1) (fun H h => h.1 o _ xH_o) (by decide) rfl rfl rfl dX0_feed_17 (kn_le hkn)) ?_
    refine j_aload_n (pc := 20) M.1 dX0_feed_20 0 rfl ?_
    refine j_iload_n (pc := 21) M.1 dX0_feed_21 2 rfl ?_
    obtain ⟨r2, g2, hf⟩ := o_bind hf
    obtain ⟨c2, s2, hf, hc2, hs2⟩ := o_tk hf
    replace hkn := kn_step hkn hc2 hs2
    refine jx_v (r := r2.1) M (x_runV (pc := 22) (As := [.int x2]) (rest := []) (V := xV o r1.2.1) M xcw_X0_267 (met_x0_push g2) (fun H h => h.1 o _ xH_o) (by decide) rfl rfl rfl dX0_feed_22 (kn_le hkn)) ?_
    refine j_aload_n (pc := 25) M.1 dX0_feed_25 0 rfl ?_
    refine j_iload_n (pc := 26) M.1 dX0_feed_26 3 rfl ?_
    obtain ⟨r3, g3, hf⟩ := o_bind hf
    obtain ⟨c3, s3, hf, hc3, hs3⟩ := o_tk hf
    replace hkn := kn_step hkn hc3 hs3
    refine jx_v (r := r3.1) M (x_runV (pc := 27) (As := [.int x3]) (rest := []) (V := xV o r2.2.1) M xcw_X0_267 (met_x0_push g3) (fun H h => h.1 o _ xH_o) (by decide) rfl rfl rfl dX0_feed_27 (kn_le hkn)) ?_
    refine j_aload_n (pc := 30) M.1 dX0_feed_30 0 rfl ?_
    refine j_iload (pc := 31) M.1 dX0_feed_31 4 rfl ?_
    obtain ⟨r4, g4, hf⟩ := o_bind hf
    obtain ⟨c4, s4, hf, hc4, hs4⟩ := o_tk hf
    replace hkn := kn_step hkn hc4 hs4
    refine jx_v (r := r4.1) M (x_runV (pc := 33) (As := [.int x4]) (rest := []) (V := xV o r3.2.1) M xcw_X0_267 (met_x0_push g4) (fun H h => h.1 o _ xH_o) (by decide) rfl rfl rfl dX0_feed_33 (kn_le hkn)) ?_
    refine j_aload_n (pc := 36) M.1 dX0_feed_36 0 rfl ?_
    refine j_iload (pc := 37) M.1 dX0_feed_37 5 rfl ?_
    obtain ⟨r5, g5, hf⟩ := o_bind hf
    obtain ⟨c5, s5, hf, hc5, hs5⟩ := o_tk hf
    replace hkn := kn_step hkn hc5 hs5
    refine jx_v (r := r5.1) M (x_runV (pc := 39) (As := [.int x5]) (rest := []) (V := xV o r4.2.1) M xcw_X0_267 (met_x0_push g5) (fun H h => h.1 o _ xH_o) (by decide) rfl rfl rfl dX0_feed_39 (kn_le hkn)) ?_
    refine j_aload_n (pc := 42) M.1 dX0_feed_42 0 rfl ?_
    refine jx_getS (pc := 43) M xfs_264 dX0_feed_43 ?_
    exact jx_iretF (pc := 46) M dX0_feed_46 hf hkn
  · replace hf := o_neg b1 hf
    refine j_iconst (pc := 13) M.1 dX0_feed_13 kc_iconst_m1 ?_
    exact jx_iretF (pc := 14) M dX0_feed_14 hf hkn
end
theorem dX9_init_0 : decode cX9_init 0 = .ok (.aload_n 0, 1) := by decide +kernel
theorem dX9_init_1 : decode cX9_init 1 = .ok (.invokespecial 3, 3) := by decide +kernel
theorem dX9_init_4 : decode cX9_init 4 = .ok (.aload_n 0, 1) := by decide +kernel
theorem dX9_init_5 : decode cX9_init 5 = .ok (.bipush 10, 2) := by decide +kernel
theorem dX9_init_7 : decode cX9_init 7 = .ok (.anewarray 9, 3) := by decide +kernel
theorem dX9_init_10 : decode cX9_init 10 = .ok (.putfield 11, 3) := by decide +kernel
theorem dX9_init_13 : decode cX9_init 13 = .ok (.aload_n 0, 1) := by decide +kernel
theorem dX9_init_14 : decode cX9_init 14 = .ok (.bipush 10, 2) := by decide +kernel
theorem dX9_init_16 : decode cX9_init 16 = .ok (.newarray .boolean, 2) := by decide +kernel
theorem dX9_init_18 : decode cX9_init 18 = .ok (.putfield 17, 3) := by decide +kernel
theorem dX9_init_21 : decode cX9_init 21 = .ok (.aload_n 0, 1) := by decide +kernel
theorem dX9_init_22 : decode cX9_init 22 = .ok (.iload_n 1, 1) := by decide +kernel
theorem dX9_init_23 : decode cX9_init 23 = .ok (.putfield 21, 3) := by decide +kernel
theorem dX9_init_26 : decode cX9_init 26 = .ok (.aload_n 0, 1) := by decide +kernel
theorem dX9_init_27 : decode cX9_init 27 = .ok (.iload_n 2, 1) := by decide +kernel
theorem dX9_init_28 : decode cX9_init 28 = .ok (.putfield 25, 3) := by decide +kernel
theorem dX9_init_31 : decode cX9_init 31 = .ok (.aload_n 0, 1) := by decide +kernel
theorem dX9_init_32 : decode cX9_init 32 = .ok (.iload 4, 2) := by decide +kernel
theorem dX9_init_34 : decode cX9_init 34 = .ok (.newarray .byte, 2) := by decide +kernel
theorem dX9_init_36 : decode cX9_init 36 = .ok (.putfield 28, 3) := by decide +kernel
theorem dX9_init_39 : decode cX9_init 39 = .ok (.iconst 0, 1) := by decide +kernel
theorem dX9_init_40 : decode cX9_init 40 = .ok (.istore 5, 2) := by decide +kernel
theorem dX9_init_42 : decode cX9_init 42 = .ok (.iload 5, 2) := by decide +kernel
theorem dX9_init_44 : decode cX9_init 44 = .ok (.iload 4, 2) := by decide +kernel
theorem dX9_init_46 : decode cX9_init 46 = .ok (.if_icmp .ge 20, 3) := by decide +kernel
theorem dX9_init_49 : decode cX9_init 49 = .ok (.aload_n 0, 1) := by decide +kernel
theorem dX9_init_50 : decode cX9_init 50 = .ok (.getfield 28, 3) := by decide +kernel
theorem dX9_init_53 : decode cX9_init 53 = .ok (.iload 5, 2) := by decide +kernel
theorem dX9_init_55 : decode cX9_init 55 = .ok (.aload_n 3, 1) := by decide +kernel
theorem dX9_init_56 : decode cX9_init 56 = .ok (.iload 5, 2) := by decide +kernel
theorem dX9_init_58 : decode cX9_init 58 = .ok (.baload, 1) := by decide +kernel
theorem dX9_init_59 : decode cX9_init 59 = .ok (.bastore, 1) := by decide +kernel
theorem dX9_init_60 : decode cX9_init 60 = .ok (.iinc 5 1, 3) := by decide +kernel
theorem dX9_init_63 : decode cX9_init 63 = .ok (.goto (-21), 3) := by decide +kernel
theorem dX9_init_66 : decode cX9_init 66 = .ok (.return_, 1) := by decide +kernel
section
variable {v : Int32}
noncomputable def x9_init_B42 (F : Nat) (x0 : Nat) (x4 : Int32) (R : Int32 × XS → XR Int32) (a : Int32 × XS) : XR Int32 :=
  if x4 ≤ a.1 then (some (0, a.2, 0, 0)) else ((gN a.2 x0 [9] 5).bind (fun n1 => if okI a.1 400 = true then (gA a.2 n1 1).bind (fun A1 => if okI a.1 A1.1 = true then nx (xP a.2 n1 (.inl (1, A1.1, .inl (upd A1.2 a.1.toNatClampNeg (vp_nar .byte (a.2.1.2 4 a.1.toNatClampNeg)))))) (fun τ1 => R (a.1 + 1, τ1)) else none) else none))
theorem kx9_init_B42 (M : XC γ cX9_init 6 RX9 "<init>" G o B 2 none (xQv G o B v τr) c0 s0) (x0 : Nat) (x4 : Int32) : ∀ R : Int32 × XS → XR Int32, (∀ a c s, R a = some (v, τr, c, s) → ∀ k n, k + c ≤ c0 ∧ n + s ≤ s0 → J γ (XW G o B a.2) k n 42 [(0, .ref x0), (3, .ref (o + 1 + 4)), (4, .int x4), (5, .int a.1)] []) → ∀ a c s, x9_init_B42 F x0 x4 R a = some (v, τr, c, s) → ∀ k n, k + c ≤ c0 ∧ n + s ≤ s0 → J γ (XW G o B a.2) k n 42 [(0, .ref x0), (3, .ref (o + 1 + 4)), (4, .int x4), (5, .int a.1)] [] := by
  intro R hR a c s hf k n hkn
  unfold x9_init_B42 at hf
  refine j_iload (pc := 42) M.1 dX9_init_42 3 rfl ?_
  refine j_iload (pc := 44) M.1 dX9_init_44 2 rfl ?_
  refine j_icmp_ge (pc := 46) M.1 66 dX9_init_46 rfl (fun b1 => ?_) (fun b1 => ?_)
  · replace hf := o_pos b1 hf
    exact jx_vretF (pc := 66) M dX9_init_66 hf hkn
  · replace hf := o_neg b1 hf
    refine j_aload_n (pc := 49) M.1 dX9_init_49 0 rfl ?_
    obtain ⟨n1, g1, hf⟩ := o_bind hf
    refine jx_getN (pc := 50) M xfl_X9_28 g1 dX9_init_50 ?_
    refine j_iload (pc := 53) M.1 dX9_init_53 3 rfl ?_
    refine j_aload_n (pc := 55) M.1 dX9_init_55 1 rfl ?_
    refine j_iload (pc := 56) M.1 dX9_init_56 3 rfl ?_
    obtain ⟨b2, hf⟩ := o_need hf
    refine jx_bald (pc := 58) M xax_4 b2 dX9_init_58 ?_
    obtain ⟨A1, g2, hf⟩ := o_bind hf
    obtain ⟨b3, hf⟩ := o_need hf
    obtain ⟨τ1, e1, hf⟩ := o_nx hf
    refine jx_past1 (pc := 59) M g2 b3 dX9_init_59 e1 ?_
    refine j_iinc (pc := 60) M.1 [(5, .int (a.1 + 1)), (0, .ref x0), (3, .ref (o + 1 + 4)), (4, .int x4)] dX9_init_60 3 rfl (congrArg _ kc_iconst_1) rfl rfl ?_
    refine j_goto (pc := 63) M.1 42 dX9_init_63 rfl ?_
    refine j_sub [1, 2, 3, 0] (show lv_pick _ _ = [(0, .ref x0), (3, .ref (o + 1 + 4)), (4, .int x4), (5, .int (a.1 + 1))] from rfl) ?_
    have hy := hR _ _ _ hf _ _ hkn
    exact hy
noncomputable def x9_init (F : Nat) (x0 : Nat) (x1 : Int32) (x2 : Int32) (x4 : Int32) (τ : XS) : XR Int32 :=
  nx (xN τ (.inl (14, 10, .inr (.inr (.inr (.inr (fun _ => none))))))) (fun τ1 => tk 1 10 ((pF τ1 x0 [9] 0 (.ref τ.2.2.2.2)).bind (fun τ2 => nx (xN τ2 (.inl (2, 10, .inl (fun _ => 0)))) (fun τ3 => tk 1 10 ((pF τ3 x0 [9] 1 (.ref τ2.2.2.2.2)).bind (fun τ4 => (pF τ4 x0 [9] 3 (.int x1)).bind (fun τ5 => (pF τ5 x0 [9] 4 (.int x2)).bind (fun τ6 => if ¬ x4 < 0 then if x4.toNatClampNeg ≤ 1000 then nx (xN τ6 (.inl (1, x4.toNatClampNeg, .inl (fun _ => 0)))) (fun τ7 => tk 1 x4.toNatClampNeg ((pF τ7 x0 [9] 5 (.ref τ6.2.2.2.2)).bind (fun τ8 => lp (x9_init_B42 F x0 x4) F (0, τ8)))) else none else none))))))))
theorem met_x9_init {l : Launch} {G : gG} {o B F : Nat} {x0 : Nat} {x1 : Int32} {x2 : Int32} {x4 : Int32} {τ : XS} {r : Int32 × XS × Nat × Nat} (hf : x9_init F x0 x1 x2 x4 τ = some r) : MetX l G o B yX9_init cX9_init 6 none 2 [.ref x0, .int x1, .int x2, .ref (o + 1 + 4), .int x4] τ (xQv G o B r.1 r.2.1) r.2.2.1 r.2.2.2 := by
  obtain ⟨v, τr, c, s⟩ := r
  refine metX_of (own := RX9) (mn := "<init>") (by decide) rfl rfl rfl (fun γ hγ M => ?_)
  subst hγ
  show J γ (XW G o B τ) 0 0 0 [(0, .ref x0), (1, .int x1), (2, .int x2), (3, .ref (o + 1 + 4)), (4, .int x4)] []
  have hkn : 0 + c ≤ c ∧ 0 + s ≤ s := ⟨by omega, by omega⟩
  unfold x9_init at hf
  refine j_aload_n (pc := 0) M.1 dX9_init_0 0 rfl ?_
  refine j_objInit (pc := 1) M.1 q586 dX9_init_1 (M.room (by decide)) rfl ?_
  refine j_aload_n (pc := 4) M.1 dX9_init_4 0 rfl ?_
  refine j_bipush (pc := 5) M.1 dX9_init_5 kc_bipush_10 ?_
  obtain ⟨τ1, e1, hf⟩ := o_nx hf
  obtain ⟨c1, s1, hf, hc1, hs1⟩ := o_tk hf
  replace hkn := kn_step hkn hc1 hs1
  refine jx_newq (pc := 7) M q587 (List.mem_of_getElem? (i := 10) rfl) (fun _ => rfl) (by decide) rfl (by decide) dX9_init_7 (kn_le hkn) e1 ?_
  obtain ⟨τ2, g1, hf⟩ := o_bind hf
  refine jx_putW (pc := 10) M q589 xfw_X9_11 rfl rfl g1 dX9_init_10 ?_
  refine j_aload_n (pc := 13) M.1 dX9_init_13 0 rfl ?_
  refine j_bipush (pc := 14) M.1 dX9_init_14 kc_bipush_10 ?_
  obtain ⟨τ3, e2, hf⟩ := o_nx hf
  obtain ⟨c2, s2, hf, hc2, hs2⟩ := o_tk hf
  replace hkn := kn_step hkn hc2 hs2
  refine jx_newa (atype := .boolean) (pc := 16) M q623 rfl (fun _ => rfl) ra_boolean rfl (by decide) rfl (by decide) dX9_init_16 (kn_le hkn) e2 ?_
  obtain ⟨τ4, g2, hf⟩ := o_bind hf
  refine jx_putW (pc := 18) M q591 xfw_X9_17 rfl rfl g2 dX9_init_18 ?_
  refine j_aload_n (pc := 21) M.1 dX9_init_21 0 rfl ?_
  refine j_iload_n (pc := 22) M.1 dX9_init_22 1 rfl ?_
  obtain ⟨τ5, g3, hf⟩ := o_bind hf
  refine jx_putW (pc := 23) M q595 xfw_X9_21 rfl rfl g3 dX9_init_23 ?_
  refine j_aload_n (pc := 26) M.1 dX9_init_26 0 rfl ?_
  refine j_iload_n (pc := 27) M.1 dX9_init_27 2 rfl ?_
  obtain ⟨τ6, g4, hf⟩ := o_bind hf
  refine jx_putW (pc := 28) M q596 xfw_X9_25 rfl rfl g4 dX9_init_28 ?_
  refine j_aload_n (pc := 31) M.1 dX9_init_31 0 rfl ?_
  refine j_iload (pc := 32) M.1 dX9_init_32 4 rfl ?_
  obtain ⟨b1, hf⟩ := o_need hf
  obtain ⟨b2, hf⟩ := o_need hf
  obtain ⟨τ7, e3, hf⟩ := o_nx hf
  obtain ⟨c3, s3, hf, hc3, hs3⟩ := o_tk hf
  replace hkn := kn_step hkn hc3 hs3
  refine jx_newa (atype := .byte) (pc := 34) M q305 rfl (fun _ => rfl) ra_byte rfl b1 rfl (by have := b2; show _ * 1 ≤ _; omega) dX9_init_34 (kn_le hkn) e3 ?_
  obtain ⟨τ8, g5, hf⟩ := o_bind hf
  refine jx_putW (pc := 36) M q597 xfw_X9_28 rfl rfl g5 dX9_init_36 ?_
  refine j_iconst (pc := 39) M.1 dX9_init_39 kc_iconst_0 ?_
  refine j_istore (pc := 40) M.1 [(5, .int 0), (0, .ref x0), (1, .int x1), (2, .int x2), (3, .ref (o + 1 + 4)), (4, .int x4)] dX9_init_40 rfl rfl ?_
  refine j_sub [1, 4, 5, 0] (show lv_pick _ _ = [(0, .ref x0), (3, .ref (o + 1 + 4)), (4, .int x4), (5, .int 0)] from rfl) ?_
  refine lp_Wc (kx9_init_B42 M x0 x4) F (0, τ8) _ _ hf _ _ hkn
end
theorem dX10_init_0 : decode cX10_init 0 = .ok (.aload_n 0, 1) := by decide +kernel
theorem dX10_init_1 : decode cX10_init 1 = .ok (.invokespecial 1, 3) := by decide +kernel
theorem dX10_init_4 : decode cX10_init 4 = .ok (.aload_n 0, 1) := by decide +kernel
theorem dX10_init_5 : decode cX10_init 5 = .ok (.iload_n 1, 1) := by decide +kernel
theorem dX10_init_6 : decode cX10_init 6 = .ok (.putfield 7, 3) := by decide +kernel
theorem dX10_init_9 : decode cX10_init 9 = .ok (.return_, 1) := by decide +kernel
section
variable {v : Int32}
noncomputable def x10_init (F : Nat) (x0 : Nat) (x1 : Int32) (τ : XS) : XR Int32 :=
  (pF τ x0 [10] 0 (.int x1)).bind (fun τ1 => some (0, τ1, 0, 0))
theorem met_x10_init {l : Launch} {G : gG} {o B F : Nat} {x0 : Nat} {x1 : Int32} {τ : XS} {r : Int32 × XS × Nat × Nat} (hf : x10_init F x0 x1 τ = some r) : MetX l G o B yX10_init cX10_init 2 none 2 [.ref x0, .int x1] τ (xQv G o B r.1 r.2.1) r.2.2.1 r.2.2.2 := by
  obtain ⟨v, τr, c, s⟩ := r
  refine metX_of (own := RX10) (mn := "<init>") (by decide) rfl rfl rfl (fun γ hγ M => ?_)
  subst hγ
  show J γ (XW G o B τ) 0 0 0 [(0, .ref x0), (1, .int x1)] []
  have hkn : 0 + c ≤ c ∧ 0 + s ≤ s := ⟨by omega, by omega⟩
  unfold x10_init at hf
  refine j_aload_n (pc := 0) M.1 dX10_init_0 0 rfl ?_
  refine j_objInit (pc := 1) M.1 q735 dX10_init_1 (M.room (by decide)) rfl ?_
  refine j_aload_n (pc := 4) M.1 dX10_init_4 0 rfl ?_
  refine j_iload_n (pc := 5) M.1 dX10_init_5 1 rfl ?_
  obtain ⟨τ1, g1, hf⟩ := o_bind hf
  refine jx_putW (pc := 6) M q736 xfw_X10_7 rfl rfl g1 dX10_init_6 ?_
  exact jx_vretF (pc := 9) M dX10_init_9 hf hkn
end
theorem dX9_bad_0 : decode cX9_bad 0 = .ok (.aload_n 0, 1) := by decide +kernel
theorem dX9_bad_1 : decode cX9_bad 1 = .ok (.getfield 35, 3) := by decide +kernel
theorem dX9_bad_4 : decode cX9_bad 4 = .ok (.ifCond .le 4, 3) := by decide +kernel
theorem dX9_bad_7 : decode cX9_bad 7 = .ok (.return_, 1) := by decide +kernel
theorem dX9_bad_8 : decode cX9_bad 8 = .ok (.aload_n 0, 1) := by decide +kernel
theorem dX9_bad_9 : decode cX9_bad 9 = .ok (.iload_n 1, 1) := by decide +kernel
theorem dX9_bad_10 : decode cX9_bad 10 = .ok (.putfield 35, 3) := by decide +kernel
theorem dX9_bad_13 : decode cX9_bad 13 = .ok (.aload_n 0, 1) := by decide +kernel
theorem dX9_bad_14 : decode cX9_bad 14 = .ok (.iload_n 2, 1) := by decide +kernel
theorem dX9_bad_15 : decode cX9_bad 15 = .ok (.putfield 38, 3) := by decide +kernel
theorem dX9_bad_18 : decode cX9_bad 18 = .ok (.return_, 1) := by decide +kernel
section
variable {v : Int32}
noncomputable def x9_bad (F : Nat) (x0 : Nat) (x1 : Int32) (x2 : Int32) (τ : XS) : XR Int32 :=
  (gI τ x0 [9] 8).bind (fun v1 => if v1 ≤ 0 then ((pF τ x0 [9] 8 (.int x1)).bind (fun τ1 => (pF τ1 x0 [9] 9 (.int x2)).bind (fun τ2 => some (0, τ2, 0, 0)))) else (some (0, τ, 0, 0)))
theorem met_x9_bad {l : Launch} {G : gG} {o B F : Nat} {x0 : Nat} {x1 : Int32} {x2 : Int32} {τ : XS} {r : Int32 × XS × Nat × Nat} (hf : x9_bad F x0 x1 x2 τ = some r) : MetX l G o B yX9_bad cX9_bad 3 none 1 [.ref x0, .int x1, .int x2] τ (xQv G o B r.1 r.2.1) r.2.2.1 r.2.2.2 := by
  obtain ⟨v, τr, c, s⟩ := r
  refine metX_of (own := RX9) (mn := "bad") (by decide) rfl rfl rfl (fun γ hγ M => ?_)
  subst hγ
  show J γ (XW G o B τ) 0 0 0 [(0, .ref x0), (1, .int x1), (2, .int x2)] []
  have hkn : 0 + c ≤ c ∧ 0 + s ≤ s := ⟨by omega, by omega⟩
  unfold x9_bad at hf
  refine j_aload_n (pc := 0) M.1 dX9_bad_0 0 rfl ?_
  obtain ⟨v1, g1, hf⟩ := o_bind hf
  refine jx_getI (pc := 1) M xfl_X9_35 g1 dX9_bad_1 ?_
  refine j_if_le (pc := 4) M.1 8 dX9_bad_4 rfl (fun b1 => ?_) (fun b1 => ?_)
  · replace hf := o_pos b1 hf
    refine j_aload_n (pc := 8) M.1 dX9_bad_8 0 rfl ?_
    refine j_iload_n (pc := 9) M.1 dX9_bad_9 1 rfl ?_
    obtain ⟨τ1, g2, hf⟩ := o_bind hf
    refine jx_putV (pc := 10) M xfl_X9_35 rfl rfl g2 dX9_bad_10 ?_
    refine j_aload_n (pc := 13) M.1 dX9_bad_13 0 rfl ?_
    refine j_iload_n (pc := 14) M.1 dX9_bad_14 2 rfl ?_
    obtain ⟨τ2, g3, hf⟩ := o_bind hf
    refine jx_putV (pc := 15) M xfl_X9_38 rfl rfl g3 dX9_bad_15 ?_
    exact jx_vretF (pc := 18) M dX9_bad_18 hf hkn
  · replace hf := o_neg b1 hf
    exact jx_vretF (pc := 7) M dX9_bad_7 hf hkn
end
