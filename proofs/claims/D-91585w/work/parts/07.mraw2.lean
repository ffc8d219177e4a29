set_option maxRecDepth 100000
variable {γ : jG} {G : gG} {o F : Nat}
theorem dX1_city_0 : decode cX1_city 0 = .ok (.iload_n 1, 1) := by decide +kernel
theorem dX1_city_1 : decode cX1_city 1 = .ok (.iconst 4, 1) := by decide +kernel
theorem dX1_city_2 : decode cX1_city 2 = .ok (.bipush 10, 2) := by decide +kernel
theorem dX1_city_4 : decode cX1_city 4 = .ok (.invokestatic 278, 3) := by decide +kernel
theorem dX1_city_7 : decode cX1_city 7 = .ok (.ifCond .eq 34, 3) := by decide +kernel
theorem dX1_city_10 : decode cX1_city 10 = .ok (.iload_n 2, 1) := by decide +kernel
theorem dX1_city_11 : decode cX1_city 11 = .ok (.iconst 4, 1) := by decide +kernel
theorem dX1_city_12 : decode cX1_city 12 = .ok (.bipush 10, 2) := by decide +kernel
theorem dX1_city_14 : decode cX1_city 14 = .ok (.invokestatic 278, 3) := by decide +kernel
theorem dX1_city_17 : decode cX1_city 17 = .ok (.ifCond .eq 24, 3) := by decide +kernel
theorem dX1_city_20 : decode cX1_city 20 = .ok (.aload_n 0, 1) := by decide +kernel
theorem dX1_city_21 : decode cX1_city 21 = .ok (.getfield 282, 3) := by decide +kernel
theorem dX1_city_24 : decode cX1_city 24 = .ok (.ifCond .gt 17, 3) := by decide +kernel
theorem dX1_city_27 : decode cX1_city 27 = .ok (.aload_n 0, 1) := by decide +kernel
theorem dX1_city_28 : decode cX1_city 28 = .ok (.getfield 285, 3) := by decide +kernel
theorem dX1_city_31 : decode cX1_city 31 = .ok (.ifCond .gt 10, 3) := by decide +kernel
theorem dX1_city_34 : decode cX1_city 34 = .ok (.aload_n 0, 1) := by decide +kernel
theorem dX1_city_35 : decode cX1_city 35 = .ok (.getfield 288, 3) := by decide +kernel
theorem dX1_city_38 : decode cX1_city 38 = .ok (.ifCond .le 5, 3) := by decide +kernel
theorem dX1_city_41 : decode cX1_city 41 = .ok (.iconst 0, 1) := by decide +kernel
theorem dX1_city_42 : decode cX1_city 42 = .ok (.ireturn, 1) := by decide +kernel
theorem dX1_city_43 : decode cX1_city 43 = .ok (.aload_n 0, 1) := by decide +kernel
theorem dX1_city_44 : decode cX1_city 44 = .ok (.iload_n 1, 1) := by decide +kernel
theorem dX1_city_45 : decode cX1_city 45 = .ok (.iload_n 2, 1) := by decide +kernel
theorem dX1_city_46 : decode cX1_city 46 = .ok (.invokevirtual 268, 3) := by decide +kernel
theorem dX1_city_49 : decode cX1_city 49 = .ok (.iconst 1, 1) := by decide +kernel
theorem dX1_city_50 : decode cX1_city 50 = .ok (.ireturn, 1) := by decide +kernel
section
variable {res : Int32 × MS}
noncomputable def m_city (F : Nat) (x1 x2 : Int32) (σ : MS) : Option (Int32 × MS) :=
  (m_in F x1 4 10).bind (fun r1 => if r1 = 0 then (some (0, σ)) else ((m_in F x2 4 10).bind (fun r2 => if r2 = 0 then (some (0, σ)) else (if 0 < (σ.1 3) then (some (0, σ)) else (if 0 < (σ.1 4) then (some (0, σ)) else (if (σ.1 90) ≤ 0 then ((m_begins F x1 x2 σ).bind (fun r3 => some (1, r3.2))) else (some (0, σ))))))))
theorem met_city {l : Launch} {G : gG} {o F : Nat} {x1 x2 : Int32} {σ : MS} {res : Int32 × MS} (hf : m_city F x1 x2 σ = some res) : MetMi l G yX1_city cX1_city 3 (some .boolean) 2 o [.int x1, .int x2] σ res := by
  refine metMi_of (by decide) rfl rfl (fun γ hγ M => ?_)
  subst hγ
  show J γ (MW G o σ) 0 0 0 [(0, .ref o), (1, .int x1), (2, .int x2)] []
  unfold m_city at hf
  refine j_iload_n (pc := 0) M.1 dX1_city_0 1 rfl ?_
  refine j_iconst (pc := 1) M.1 dX1_city_1 kc_iconst_4 ?_
  refine j_bipush (pc := 2) M.1 dX1_city_2 kc_bipush_10 ?_
  obtain ⟨r1, g1, hf⟩ := o_bind hf
  refine jm_calls (pc := 4) (As := [.int x1, .int 4, .int 10]) (rest := []) M cs_X1_278 (met_in g1) rfl rfl rfl rfl dX1_city_4 ?_
  refine j_if_eq (pc := 7) M.1 41 dX1_city_7 rfl (fun c1 => ?_) (fun c1 => ?_)
  · replace hf := o_pos c1 hf
    refine j_iconst (pc := 41) M.1 dX1_city_41 kc_iconst_0 ?_
    exact jm_zret (pc := 42) M dX1_city_42 rfl hf
  · replace hf := o_neg c1 hf
    refine j_iload_n (pc := 10) M.1 dX1_city_10 2 rfl ?_
    refine j_iconst (pc := 11) M.1 dX1_city_11 kc_iconst_4 ?_
    refine j_bipush (pc := 12) M.1 dX1_city_12 kc_bipush_10 ?_
    obtain ⟨r2, g2, hf⟩ := o_bind hf
    refine jm_calls (pc := 14) (As := [.int x2, .int 4, .int 10]) (rest := []) M cs_X1_278 (met_in g2) rfl rfl rfl rfl dX1_city_14 ?_
    refine j_if_eq (pc := 17) M.1 41 dX1_city_17 rfl (fun c2 => ?_) (fun c2 => ?_)
    · replace hf := o_pos c2 hf
      refine j_iconst (pc := 41) M.1 dX1_city_41 kc_iconst_0 ?_
      exact jm_zret (pc := 42) M dX1_city_42 rfl hf
    · replace hf := o_neg c2 hf
      refine j_aload_n (pc := 20) M.1 dX1_city_20 0 rfl ?_
      refine jm_getS (pc := 21) M fm_282 dX1_city_21 ?_
      refine j_if_gt (pc := 24) M.1 41 dX1_city_24 rfl (fun c3 => ?_) (fun c3 => ?_)
      · replace hf := o_pos c3 hf
        refine j_iconst (pc := 41) M.1 dX1_city_41 kc_iconst_0 ?_
        exact jm_zret (pc := 42) M dX1_city_42 rfl hf
      · replace hf := o_neg c3 hf
        refine j_aload_n (pc := 27) M.1 dX1_city_27 0 rfl ?_
        refine jm_getS (pc := 28) M fm_285 dX1_city_28 ?_
        refine j_if_gt (pc := 31) M.1 41 dX1_city_31 rfl (fun c4 => ?_) (fun c4 => ?_)
        · replace hf := o_pos c4 hf
          refine j_iconst (pc := 41) M.1 dX1_city_41 kc_iconst_0 ?_
          exact jm_zret (pc := 42) M dX1_city_42 rfl hf
        · replace hf := o_neg c4 hf
          refine j_aload_n (pc := 34) M.1 dX1_city_34 0 rfl ?_
          refine jm_getS (pc := 35) M fm_288 dX1_city_35 ?_
          refine j_if_le (pc := 38) M.1 43 dX1_city_38 rfl (fun c5 => ?_) (fun c5 => ?_)
          · replace hf := o_pos c5 hf
            refine j_aload_n (pc := 43) M.1 dX1_city_43 0 rfl ?_
            refine j_iload_n (pc := 44) M.1 dX1_city_44 1 rfl ?_
            refine j_iload_n (pc := 45) M.1 dX1_city_45 2 rfl ?_
            obtain ⟨r3, g3, hf⟩ := o_bind hf
            refine jm_callv (pc := 46) (As := [.int x1, .int x2]) (rest := []) M cm_268 (met_begins g3) rfl rfl rfl rfl dX1_city_46 ?_
            refine j_iconst (pc := 49) M.1 dX1_city_49 kc_iconst_1 ?_
            exact jm_zret (pc := 50) M dX1_city_50 rfl hf
          · replace hf := o_neg c5 hf
            refine j_iconst (pc := 41) M.1 dX1_city_41 kc_iconst_0 ?_
            exact jm_zret (pc := 42) M dX1_city_42 rfl hf
end
theorem dX1_closesSums_0 : decode cX1_closesSums 0 = .ok (.aload_n 0, 1) := by decide +kernel
theorem dX1_closesSums_1 : decode cX1_closesSums 1 = .ok (.invokevirtual 381, 3) := by decide +kernel
theorem dX1_closesSums_4 : decode cX1_closesSums 4 = .ok (.iconst 4, 1) := by decide +kernel
theorem dX1_closesSums_5 : decode cX1_closesSums 5 = .ok (.if_icmp .lt 12, 3) := by decide +kernel
theorem dX1_closesSums_8 : decode cX1_closesSums 8 = .ok (.aload_n 0, 1) := by decide +kernel
theorem dX1_closesSums_9 : decode cX1_closesSums 9 = .ok (.invokevirtual 381, 3) := by decide +kernel
theorem dX1_closesSums_12 : decode cX1_closesSums 12 = .ok (.bipush 6, 2) := by decide +kernel
theorem dX1_closesSums_14 : decode cX1_closesSums 14 = .ok (.if_icmp .le 23, 3) := by decide +kernel
theorem dX1_closesSums_17 : decode cX1_closesSums 17 = .ok (.iload_n 1, 1) := by decide +kernel
theorem dX1_closesSums_18 : decode cX1_closesSums 18 = .ok (.ifCond .eq 41, 3) := by decide +kernel
theorem dX1_closesSums_21 : decode cX1_closesSums 21 = .ok (.aload_n 0, 1) := by decide +kernel
theorem dX1_closesSums_22 : decode cX1_closesSums 22 = .ok (.invokevirtual 381, 3) := by decide +kernel
theorem dX1_closesSums_25 : decode cX1_closesSums 25 = .ok (.iconst 2, 1) := by decide +kernel
theorem dX1_closesSums_26 : decode cX1_closesSums 26 = .ok (.if_icmp .eq 11, 3) := by decide +kernel
theorem dX1_closesSums_29 : decode cX1_closesSums 29 = .ok (.aload_n 0, 1) := by decide +kernel
theorem dX1_closesSums_30 : decode cX1_closesSums 30 = .ok (.invokevirtual 381, 3) := by decide +kernel
theorem dX1_closesSums_33 : decode cX1_closesSums 33 = .ok (.iconst 3, 1) := by decide +kernel
theorem dX1_closesSums_34 : decode cX1_closesSums 34 = .ok (.if_icmp .ne 25, 3) := by decide +kernel
theorem dX1_closesSums_37 : decode cX1_closesSums 37 = .ok (.aload_n 0, 1) := by decide +kernel
theorem dX1_closesSums_38 : decode cX1_closesSums 38 = .ok (.aload_n 0, 1) := by decide +kernel
theorem dX1_closesSums_39 : decode cX1_closesSums 39 = .ok (.invokevirtual 381, 3) := by decide +kernel
theorem dX1_closesSums_42 : decode cX1_closesSums 42 = .ok (.iconst 0, 1) := by decide +kernel
theorem dX1_closesSums_43 : decode cX1_closesSums 43 = .ok (.invokevirtual 384, 3) := by decide +kernel
theorem dX1_closesSums_46 : decode cX1_closesSums 46 = .ok (.aload_n 0, 1) := by decide +kernel
theorem dX1_closesSums_47 : decode cX1_closesSums 47 = .ok (.aload_n 0, 1) := by decide +kernel
theorem dX1_closesSums_48 : decode cX1_closesSums 48 = .ok (.getfield 378, 3) := by decide +kernel
theorem dX1_closesSums_51 : decode cX1_closesSums 51 = .ok (.iconst 1, 1) := by decide +kernel
theorem dX1_closesSums_52 : decode cX1_closesSums 52 = .ok (.isub, 1) := by decide +kernel
theorem dX1_closesSums_53 : decode cX1_closesSums 53 = .ok (.putfield 378, 3) := by decide +kernel
theorem dX1_closesSums_56 : decode cX1_closesSums 56 = .ok (.goto (-56), 3) := by decide +kernel
theorem dX1_closesSums_59 : decode cX1_closesSums 59 = .ok (.return_, 1) := by decide +kernel
section
variable {res : Int32 × MS}
noncomputable def m_closesSums_37 (F : Nat) (R : MS → Option (Int32 × MS)) (x1 : Int32) (σ : MS) : Option (Int32 × MS) :=
  (m_top F σ).bind (fun r1 => (m_says F r1.1 0 r1.2).bind (fun r2 => nx (sS r2.2 35 ((r2.2.1 35) - 1)) (fun σ1 => R σ1)))
theorem km_closesSums_37 (M : MC γ cX1_closesSums 2 G o 2 none (mQv G o res)) (x1 : Int32) (R : MS → Option (Int32 × MS)) (hR : ∀ a, R a = some res → J γ (MW G o a) 0 0 0 [(0, .ref o), (1, .int x1)] []) (σ : MS) (hf : m_closesSums_37 F R x1 σ = some res) : J γ (MW G o σ) 0 0 37 [(0, .ref o), (1, .int x1)] [] := by
  unfold m_closesSums_37 at hf
  refine j_aload_n (pc := 37) M.1 dX1_closesSums_37 0 rfl ?_
  refine j_aload_n (pc := 38) M.1 dX1_closesSums_38 0 rfl ?_
  obtain ⟨r1, g1, hf⟩ := o_bind hf
  refine jm_calli (pc := 39) (As := []) (rest := [.ref o]) M cm_381 (met_top g1) rfl rfl rfl rfl dX1_closesSums_39 ?_
  refine j_iconst (pc := 42) M.1 dX1_closesSums_42 kc_iconst_0 ?_
  obtain ⟨r2, g2, hf⟩ := o_bind hf
  refine jm_callv (pc := 43) (As := [.int r1.1, .int 0]) (rest := []) M cm_384 (met_says g2) rfl rfl rfl rfl dX1_closesSums_43 ?_
  refine j_aload_n (pc := 46) M.1 dX1_closesSums_46 0 rfl ?_
  refine j_aload_n (pc := 47) M.1 dX1_closesSums_47 0 rfl ?_
  refine jm_getS (pc := 48) M fm_378 dX1_closesSums_48 ?_
  refine j_iconst (pc := 51) M.1 dX1_closesSums_51 kc_iconst_1 ?_
  refine j_isub (pc := 52) M.1 dX1_closesSums_52 ?_
  obtain ⟨σ1, e1, hf⟩ := o_nx hf
  refine jm_put (pc := 53) M fm_378 dX1_closesSums_53 e1 ?_
  refine j_goto (pc := 56) M.1 0 dX1_closesSums_56 rfl ?_
  have hy := hR _ hf
  exact hy
noncomputable def m_closesSums_17 (F : Nat) (R : MS → Option (Int32 × MS)) (x1 : Int32) (σ : MS) : Option (Int32 × MS) :=
  if x1 = 0 then (some (0, σ)) else ((m_top F σ).bind (fun r1 => if r1.1 = 2 then (m_closesSums_37 F R x1 r1.2) else ((m_top F r1.2).bind (fun r2 => if r2.1 = 3 then (m_closesSums_37 F R x1 r2.2) else (some (0, r2.2))))))
theorem km_closesSums_17 (M : MC γ cX1_closesSums 2 G o 2 none (mQv G o res)) (x1 : Int32) (R : MS → Option (Int32 × MS)) (hR : ∀ a, R a = some res → J γ (MW G o a) 0 0 0 [(0, .ref o), (1, .int x1)] []) (σ : MS) (hf : m_closesSums_17 F R x1 σ = some res) : J γ (MW G o σ) 0 0 17 [(0, .ref o), (1, .int x1)] [] := by
  unfold m_closesSums_17 at hf
  refine j_iload_n (pc := 17) M.1 dX1_closesSums_17 1 rfl ?_
  refine j_if_eq (pc := 18) M.1 59 dX1_closesSums_18 rfl (fun c1 => ?_) (fun c1 => ?_)
  · replace hf := o_pos c1 hf
    exact jm_vret (pc := 59) M dX1_closesSums_59 hf
  · replace hf := o_neg c1 hf
    refine j_aload_n (pc := 21) M.1 dX1_closesSums_21 0 rfl ?_
    obtain ⟨r1, g1, hf⟩ := o_bind hf
    refine jm_calli (pc := 22) (As := []) (rest := []) M cm_381 (met_top g1) rfl rfl rfl rfl dX1_closesSums_22 ?_
    refine j_iconst (pc := 25) M.1 dX1_closesSums_25 kc_iconst_2 ?_
    refine j_icmp_eq (pc := 26) M.1 37 dX1_closesSums_26 rfl (fun c2 => ?_) (fun c2 => ?_)
    · replace hf := o_pos c2 hf
      exact km_closesSums_37 M x1 R hR r1.2 hf
    · replace hf := o_neg c2 hf
      refine j_aload_n (pc := 29) M.1 dX1_closesSums_29 0 rfl ?_
      obtain ⟨r2, g2, hf⟩ := o_bind hf
      refine jm_calli (pc := 30) (As := []) (rest := []) M cm_381 (met_top g2) rfl rfl rfl rfl dX1_closesSums_30 ?_
      refine j_iconst (pc := 33) M.1 dX1_closesSums_33 kc_iconst_3 ?_
      refine j_icmp_ne (pc := 34) M.1 59 dX1_closesSums_34 rfl (fun c3 => ?_) (fun c3 => ?_)
      · replace hf := o_neg c3 hf
        exact jm_vret (pc := 59) M dX1_closesSums_59 hf
      · replace hf := o_pos c3 hf
        exact km_closesSums_37 M x1 R hR r2.2 hf
noncomputable def m_closesSums_B0 (F : Nat) (x1 : Int32) (R : MS → Option (Int32 × MS)) (a : MS) : Option (Int32 × MS) :=
  (m_top F a).bind (fun r1 => if r1.1 < 4 then (m_closesSums_17 F R x1 r1.2) else ((m_top F r1.2).bind (fun r2 => if r2.1 ≤ 6 then (m_closesSums_37 F R x1 r2.2) else (m_closesSums_17 F R x1 r2.2))))
theorem km_closesSums_B0 (M : MC γ cX1_closesSums 2 G o 2 none (mQv G o res)) (x1 : Int32) : ∀ R : MS → Option (Int32 × MS), (∀ a, R a = some res → J γ (MW G o a) 0 0 0 [(0, .ref o), (1, .int x1)] []) → ∀ a, m_closesSums_B0 F x1 R a = some res → J γ (MW G o a) 0 0 0 [(0, .ref o), (1, .int x1)] [] := by
  intro R hR a hf
  unfold m_closesSums_B0 at hf
  refine j_aload_n (pc := 0) M.1 dX1_closesSums_0 0 rfl ?_
  obtain ⟨r1, g1, hf⟩ := o_bind hf
  refine jm_calli (pc := 1) (As := []) (rest := []) M cm_381 (met_top g1) rfl rfl rfl rfl dX1_closesSums_1 ?_
  refine j_iconst (pc := 4) M.1 dX1_closesSums_4 kc_iconst_4 ?_
  refine j_icmp_lt (pc := 5) M.1 17 dX1_closesSums_5 rfl (fun c1 => ?_) (fun c1 => ?_)
  · replace hf := o_pos c1 hf
    exact km_closesSums_17 M x1 R hR r1.2 hf
  · replace hf := o_neg c1 hf
    refine j_aload_n (pc := 8) M.1 dX1_closesSums_8 0 rfl ?_
    obtain ⟨r2, g2, hf⟩ := o_bind hf
    refine jm_calli (pc := 9) (As := []) (rest := []) M cm_381 (met_top g2) rfl rfl rfl rfl dX1_closesSums_9 ?_
    refine j_bipush (pc := 12) M.1 dX1_closesSums_12 kc_bipush_6 ?_
    refine j_icmp_le (pc := 14) M.1 37 dX1_closesSums_14 rfl (fun c2 => ?_) (fun c2 => ?_)
    · replace hf := o_pos c2 hf
      exact km_closesSums_37 M x1 R hR r2.2 hf
    · replace hf := o_neg c2 hf
      exact km_closesSums_17 M x1 R hR r2.2 hf
noncomputable def m_closesSums (F : Nat) (x1 : Int32) (σ : MS) : Option (Int32 × MS) :=
  lp (m_closesSums_B0 F x1) F σ
theorem met_closesSums {l : Launch} {G : gG} {o F : Nat} {x1 : Int32} {σ : MS} {res : Int32 × MS} (hf : m_closesSums F x1 σ = some res) : MetMv l G yX1_closesSums cX1_closesSums 2 2 o [.int x1] σ res := by
  refine metMv_of (by decide) rfl rfl (fun γ hγ M => ?_)
  subst hγ
  show J γ (MW G o σ) 0 0 0 [(0, .ref o), (1, .int x1)] []
  unfold m_closesSums at hf
  refine lp_W (km_closesSums_B0 M x1) F σ hf
end
theorem dX1_copy_0 : decode cX1_copy 0 = .ok (.iload_n 1, 1) := by decide +kernel
theorem dX1_copy_1 : decode cX1_copy 1 = .ok (.ifCond .lt 53, 3) := by decide +kernel
theorem dX1_copy_4 : decode cX1_copy 4 = .ok (.iload_n 1, 1) := by decide +kernel
theorem dX1_copy_5 : decode cX1_copy 5 = .ok (.aload_n 0, 1) := by decide +kernel
theorem dX1_copy_6 : decode cX1_copy 6 = .ok (.getfield 524, 3) := by decide +kernel
theorem dX1_copy_9 : decode cX1_copy 9 = .ok (.if_icmp .ge 45, 3) := by decide +kernel
theorem dX1_copy_12 : decode cX1_copy 12 = .ok (.iload_n 2, 1) := by decide +kernel
theorem dX1_copy_13 : decode cX1_copy 13 = .ok (.iconst 0, 1) := by decide +kernel
theorem dX1_copy_14 : decode cX1_copy 14 = .ok (.aload_n 0, 1) := by decide +kernel
theorem dX1_copy_15 : decode cX1_copy 15 = .ok (.getfield 291, 3) := by decide +kernel
theorem dX1_copy_18 : decode cX1_copy 18 = .ok (.invokestatic 278, 3) := by decide +kernel
theorem dX1_copy_21 : decode cX1_copy 21 = .ok (.ifCond .eq 33, 3) := by decide +kernel
theorem dX1_copy_24 : decode cX1_copy 24 = .ok (.aload_n 0, 1) := by decide +kernel
theorem dX1_copy_25 : decode cX1_copy 25 = .ok (.getfield 524, 3) := by decide +kernel
theorem dX1_copy_28 : decode cX1_copy 28 = .ok (.bipush 100, 2) := by decide +kernel
theorem dX1_copy_30 : decode cX1_copy 30 = .ok (.if_icmp .ge 24, 3) := by decide +kernel
theorem dX1_copy_33 : decode cX1_copy 33 = .ok (.aload_n 0, 1) := by decide +kernel
theorem dX1_copy_34 : decode cX1_copy 34 = .ok (.aload_n 0, 1) := by decide +kernel
theorem dX1_copy_35 : decode cX1_copy 35 = .ok (.getfield 196, 3) := by decide +kernel
theorem dX1_copy_38 : decode cX1_copy 38 = .ok (.iload_n 1, 1) := by decide +kernel
theorem dX1_copy_39 : decode cX1_copy 39 = .ok (.iaload, 1) := by decide +kernel
theorem dX1_copy_40 : decode cX1_copy 40 = .ok (.iload_n 2, 1) := by decide +kernel
theorem dX1_copy_41 : decode cX1_copy 41 = .ok (.aload_n 0, 1) := by decide +kernel
theorem dX1_copy_42 : decode cX1_copy 42 = .ok (.getfield 202, 3) := by decide +kernel
theorem dX1_copy_45 : decode cX1_copy 45 = .ok (.iload_n 1, 1) := by decide +kernel
theorem dX1_copy_46 : decode cX1_copy 46 = .ok (.iaload, 1) := by decide +kernel
theorem dX1_copy_47 : decode cX1_copy 47 = .ok (.iconst 1, 1) := by decide +kernel
theorem dX1_copy_48 : decode cX1_copy 48 = .ok (.invokevirtual 530, 3) := by decide +kernel
theorem dX1_copy_51 : decode cX1_copy 51 = .ok (.goto 4, 3) := by decide +kernel
theorem dX1_copy_54 : decode cX1_copy 54 = .ok (.iconst (-1), 1) := by decide +kernel
theorem dX1_copy_55 : decode cX1_copy 55 = .ok (.ireturn, 1) := by decide +kernel
section
variable {res : Int32 × MS}
noncomputable def m_copy (F : Nat) (x1 x2 : Int32) (σ : MS) : Option (Int32 × MS) :=
  if x1 < 0 then (some ((-1), σ)) else (if (σ.1 80) ≤ x1 then (some ((-1), σ)) else ((m_in F x2 0 (σ.1 2)).bind (fun r1 => if r1 = 0 then (some ((-1), σ)) else (if 100 ≤ (σ.1 80) then (some ((-1), σ)) else (if okI x1 100 = true then if okI x1 100 = true then (m_draws F (σ.2 60 x1.toNatClampNeg) x2 (σ.2 62 x1.toNatClampNeg) 1 σ).bind (fun r2 => some (r2.1, r2.2)) else none else none)))))
theorem met_copy {l : Launch} {G : gG} {o F : Nat} {x1 x2 : Int32} {σ : MS} {res : Int32 × MS} (hf : m_copy F x1 x2 σ = some res) : MetMi l G yX1_copy cX1_copy 3 (some .int) 2 o [.int x1, .int x2] σ res := by
  refine metMi_of (by decide) rfl rfl (fun γ hγ M => ?_)
  subst hγ
  show J γ (MW G o σ) 0 0 0 [(0, .ref o), (1, .int x1), (2, .int x2)] []
  unfold m_copy at hf
  refine j_iload_n (pc := 0) M.1 dX1_copy_0 1 rfl ?_
  refine j_if_lt (pc := 1) M.1 54 dX1_copy_1 rfl (fun c1 => ?_) (fun c1 => ?_)
  · replace hf := o_pos c1 hf
    refine j_iconst (pc := 54) M.1 dX1_copy_54 kc_iconst_m1 ?_
    exact jm_iret (pc := 55) M dX1_copy_55 hf
  · replace hf := o_neg c1 hf
    refine j_iload_n (pc := 4) M.1 dX1_copy_4 1 rfl ?_
    refine j_aload_n (pc := 5) M.1 dX1_copy_5 0 rfl ?_
    refine jm_getS (pc := 6) M fm_524 dX1_copy_6 ?_
    refine j_icmp_ge (pc := 9) M.1 54 dX1_copy_9 rfl (fun c2 => ?_) (fun c2 => ?_)
    · replace hf := o_pos c2 hf
      refine j_iconst (pc := 54) M.1 dX1_copy_54 kc_iconst_m1 ?_
      exact jm_iret (pc := 55) M dX1_copy_55 hf
    · replace hf := o_neg c2 hf
      refine j_iload_n (pc := 12) M.1 dX1_copy_12 2 rfl ?_
      refine j_iconst (pc := 13) M.1 dX1_copy_13 kc_iconst_0 ?_
      refine j_aload_n (pc := 14) M.1 dX1_copy_14 0 rfl ?_
      refine jm_getS (pc := 15) M fm_291 dX1_copy_15 ?_
      obtain ⟨r1, g1, hf⟩ := o_bind hf
      refine jm_calls (pc := 18) (As := [.int x2, .int 0, .int (σ.1 2)]) (rest := []) M cs_X1_278 (met_in g1) rfl rfl rfl rfl dX1_copy_18 ?_
      refine j_if_eq (pc := 21) M.1 54 dX1_copy_21 rfl (fun c3 => ?_) (fun c3 => ?_)
      · replace hf := o_pos c3 hf
        refine j_iconst (pc := 54) M.1 dX1_copy_54 kc_iconst_m1 ?_
        exact jm_iret (pc := 55) M dX1_copy_55 hf
      · replace hf := o_neg c3 hf
        refine j_aload_n (pc := 24) M.1 dX1_copy_24 0 rfl ?_
        refine jm_getS (pc := 25) M fm_524 dX1_copy_25 ?_
        refine j_bipush (pc := 28) M.1 dX1_copy_28 kc_bipush_100 ?_
        refine j_icmp_ge (pc := 30) M.1 54 dX1_copy_30 rfl (fun c4 => ?_) (fun c4 => ?_)
        · replace hf := o_pos c4 hf
          refine j_iconst (pc := 54) M.1 dX1_copy_54 kc_iconst_m1 ?_
          exact jm_iret (pc := 55) M dX1_copy_55 hf
        · replace hf := o_neg c4 hf
          refine j_aload_n (pc := 33) M.1 dX1_copy_33 0 rfl ?_
          refine j_aload_n (pc := 34) M.1 dX1_copy_34 0 rfl ?_
          refine jm_getA (pc := 35) M fa_196 dX1_copy_35 ?_
          refine j_iload_n (pc := 38) M.1 dX1_copy_38 1 rfl ?_
          obtain ⟨b1, hf⟩ := o_need hf
          refine jm_iald (pc := 39) M ax_60 b1 dX1_copy_39 ?_
          refine j_iload_n (pc := 40) M.1 dX1_copy_40 2 rfl ?_
          refine j_aload_n (pc := 41) M.1 dX1_copy_41 0 rfl ?_
          refine jm_getA (pc := 42) M fa_202 dX1_copy_42 ?_
          refine j_iload_n (pc := 45) M.1 dX1_copy_45 1 rfl ?_
          obtain ⟨b2, hf⟩ := o_need hf
          refine jm_iald (pc := 46) M ax_62 b2 dX1_copy_46 ?_
          refine j_iconst (pc := 47) M.1 dX1_copy_47 kc_iconst_1 ?_
          obtain ⟨r2, g2, hf⟩ := o_bind hf
          refine jm_calli (pc := 48) (As := [.int (σ.2 60 x1.toNatClampNeg), .int x2, .int (σ.2 62 x1.toNatClampNeg), .int 1]) (rest := []) M cm_530 (met_draws g2) rfl rfl rfl rfl dX1_copy_48 ?_
          refine j_goto (pc := 51) M.1 55 dX1_copy_51 rfl ?_
          exact jm_iret (pc := 55) M dX1_copy_55 hf
end
theorem dX1_count_0 : decode cX1_count 0 = .ok (.iload_n 1, 1) := by decide +kernel
theorem dX1_count_1 : decode cX1_count 1 = .ok (.tableswitch 159 0 15 #[79, 84, 89, 94, 99, 104, 109, 114, 119, 124, 129, 134, 139, 144, 149, 154], 79) := by decide +kernel
theorem dX1_count_80 : decode cX1_count 80 = .ok (.aload_n 0, 1) := by decide +kernel
theorem dX1_count_81 : decode cX1_count 81 = .ok (.getfield 291, 3) := by decide +kernel
theorem dX1_count_84 : decode cX1_count 84 = .ok (.ireturn, 1) := by decide +kernel
theorem dX1_count_85 : decode cX1_count 85 = .ok (.aload_n 0, 1) := by decide +kernel
theorem dX1_count_86 : decode cX1_count 86 = .ok (.getfield 272, 3) := by decide +kernel
theorem dX1_count_89 : decode cX1_count 89 = .ok (.ireturn, 1) := by decide +kernel
theorem dX1_count_90 : decode cX1_count 90 = .ok (.aload_n 0, 1) := by decide +kernel
theorem dX1_count_91 : decode cX1_count 91 = .ok (.getfield 275, 3) := by decide +kernel
theorem dX1_count_94 : decode cX1_count 94 = .ok (.ireturn, 1) := by decide +kernel
theorem dX1_count_95 : decode cX1_count 95 = .ok (.aload_n 0, 1) := by decide +kernel
theorem dX1_count_96 : decode cX1_count 96 = .ok (.getfield 282, 3) := by decide +kernel
theorem dX1_count_99 : decode cX1_count 99 = .ok (.ireturn, 1) := by decide +kernel
theorem dX1_count_100 : decode cX1_count 100 = .ok (.aload_n 0, 1) := by decide +kernel
theorem dX1_count_101 : decode cX1_count 101 = .ok (.getfield 285, 3) := by decide +kernel
theorem dX1_count_104 : decode cX1_count 104 = .ok (.ireturn, 1) := by decide +kernel
theorem dX1_count_105 : decode cX1_count 105 = .ok (.aload_n 0, 1) := by decide +kernel
theorem dX1_count_106 : decode cX1_count 106 = .ok (.getfield 441, 3) := by decide +kernel
theorem dX1_count_109 : decode cX1_count 109 = .ok (.ireturn, 1) := by decide +kernel
theorem dX1_count_110 : decode cX1_count 110 = .ok (.aload_n 0, 1) := by decide +kernel
theorem dX1_count_111 : decode cX1_count 111 = .ok (.getfield 470, 3) := by decide +kernel
theorem dX1_count_114 : decode cX1_count 114 = .ok (.ireturn, 1) := by decide +kernel
theorem dX1_count_115 : decode cX1_count 115 = .ok (.aload_n 0, 1) := by decide +kernel
theorem dX1_count_116 : decode cX1_count 116 = .ok (.getfield 491, 3) := by decide +kernel
theorem dX1_count_119 : decode cX1_count 119 = .ok (.ireturn, 1) := by decide +kernel
theorem dX1_count_120 : decode cX1_count 120 = .ok (.aload_n 0, 1) := by decide +kernel
theorem dX1_count_121 : decode cX1_count 121 = .ok (.getfield 521, 3) := by decide +kernel
theorem dX1_count_124 : decode cX1_count 124 = .ok (.ireturn, 1) := by decide +kernel
theorem dX1_count_125 : decode cX1_count 125 = .ok (.aload_n 0, 1) := by decide +kernel
theorem dX1_count_126 : decode cX1_count 126 = .ok (.getfield 524, 3) := by decide +kernel
theorem dX1_count_129 : decode cX1_count 129 = .ok (.ireturn, 1) := by decide +kernel
theorem dX1_count_130 : decode cX1_count 130 = .ok (.aload_n 0, 1) := by decide +kernel
theorem dX1_count_131 : decode cX1_count 131 = .ok (.getfield 540, 3) := by decide +kernel
theorem dX1_count_134 : decode cX1_count 134 = .ok (.ireturn, 1) := by decide +kernel
theorem dX1_count_135 : decode cX1_count 135 = .ok (.aload_n 0, 1) := by decide +kernel
theorem dX1_count_136 : decode cX1_count 136 = .ok (.getfield 288, 3) := by decide +kernel
theorem dX1_count_139 : decode cX1_count 139 = .ok (.ireturn, 1) := by decide +kernel
theorem dX1_count_140 : decode cX1_count 140 = .ok (.aload_n 0, 1) := by decide +kernel
theorem dX1_count_141 : decode cX1_count 141 = .ok (.getfield 552, 3) := by decide +kernel
theorem dX1_count_144 : decode cX1_count 144 = .ok (.ireturn, 1) := by decide +kernel
theorem dX1_count_145 : decode cX1_count 145 = .ok (.aload_n 0, 1) := by decide +kernel
theorem dX1_count_146 : decode cX1_count 146 = .ok (.getfield 555, 3) := by decide +kernel
theorem dX1_count_149 : decode cX1_count 149 = .ok (.ireturn, 1) := by decide +kernel
theorem dX1_count_150 : decode cX1_count 150 = .ok (.aload_n 0, 1) := by decide +kernel
theorem dX1_count_151 : decode cX1_count 151 = .ok (.getfield 341, 3) := by decide +kernel
theorem dX1_count_154 : decode cX1_count 154 = .ok (.ireturn, 1) := by decide +kernel
theorem dX1_count_155 : decode cX1_count 155 = .ok (.aload_n 0, 1) := by decide +kernel
theorem dX1_count_156 : decode cX1_count 156 = .ok (.getfield 334, 3) := by decide +kernel
theorem dX1_count_159 : decode cX1_count 159 = .ok (.ireturn, 1) := by decide +kernel
theorem dX1_count_160 : decode cX1_count 160 = .ok (.iload_n 1, 1) := by decide +kernel
theorem dX1_count_161 : decode cX1_count 161 = .ok (.bipush 20, 2) := by decide +kernel
theorem dX1_count_163 : decode cX1_count 163 = .ok (.bipush 19, 2) := by decide +kernel
theorem dX1_count_165 : decode cX1_count 165 = .ok (.aload_n 0, 1) := by decide +kernel
theorem dX1_count_166 : decode cX1_count 166 = .ok (.getfield 441, 3) := by decide +kernel
theorem dX1_count_169 : decode cX1_count 169 = .ok (.iadd, 1) := by decide +kernel
theorem dX1_count_170 : decode cX1_count 170 = .ok (.invokestatic 278, 3) := by decide +kernel
theorem dX1_count_173 : decode cX1_count 173 = .ok (.ifCond .eq 15, 3) := by decide +kernel
theorem dX1_count_176 : decode cX1_count 176 = .ok (.aload_n 0, 1) := by decide +kernel
theorem dX1_count_177 : decode cX1_count 177 = .ok (.getfield 104, 3) := by decide +kernel
theorem dX1_count_180 : decode cX1_count 180 = .ok (.iload_n 1, 1) := by decide +kernel
theorem dX1_count_181 : decode cX1_count 181 = .ok (.bipush 20, 2) := by decide +kernel
theorem dX1_count_183 : decode cX1_count 183 = .ok (.isub, 1) := by decide +kernel
theorem dX1_count_184 : decode cX1_count 184 = .ok (.iaload, 1) := by decide +kernel
theorem dX1_count_185 : decode cX1_count 185 = .ok (.goto 4, 3) := by decide +kernel
theorem dX1_count_188 : decode cX1_count 188 = .ok (.iconst (-1), 1) := by decide +kernel
theorem dX1_count_189 : decode cX1_count 189 = .ok (.ireturn, 1) := by decide +kernel
section
variable {res : Int32 × MS}
noncomputable def m_count (F : Nat) (x1 : Int32) (σ : MS) : Option (Int32 × MS) :=
  if x1 = 0 then (some (σ.1 2, σ)) else (if x1 = 1 then (some (σ.1 0, σ)) else (if x1 = 2 then (some (σ.1 1, σ)) else (if x1 = 3 then (some (σ.1 3, σ)) else (if x1 = 4 then (some (σ.1 4, σ)) else (if x1 = 5 then (some (σ.1 44, σ)) else (if x1 = 6 then (some (σ.1 57, σ)) else (if x1 = 7 then (some (σ.1 68, σ)) else (if x1 = 8 then (some (σ.1 79, σ)) else (if x1 = 9 then (some (σ.1 80, σ)) else (if x1 = 10 then (some (σ.1 89, σ)) else (if x1 = 11 then (some (σ.1 90, σ)) else (if x1 = 12 then (some (σ.1 100, σ)) else (if x1 = 13 then (some (σ.1 101, σ)) else (if x1 = 14 then (some (σ.1 28, σ)) else (if x1 = 15 then (some (σ.1 21, σ)) else ((m_in F x1 20 (19 + (σ.1 44))).bind (fun r1 => if r1 = 0 then (some ((-1), σ)) else (if okI (x1 - 20) 20 = true then some (σ.2 31 (x1 - 20).toNatClampNeg, σ) else none))))))))))))))))))
theorem met_count {l : Launch} {G : gG} {o F : Nat} {x1 : Int32} {σ : MS} {res : Int32 × MS} (hf : m_count F x1 σ = some res) : MetMi l G yX1_count cX1_count 2 (some .int) 2 o [.int x1] σ res := by
  refine metMi_of (by decide) rfl rfl (fun γ hγ M => ?_)
  subst hγ
  show J γ (MW G o σ) 0 0 0 [(0, .ref o), (1, .int x1)] []
  unfold m_count at hf
  refine j_iload_n (pc := 0) M.1 dX1_count_0 1 rfl ?_
  by_cases c1 : x1 = 0
  · replace hf := o_pos c1 hf
    refine j_tableIn (pc := 1) M.1 80 dX1_count_1 (by rw [c1]; decide) (by rw [c1]; decide) (by rw [c1]; rfl) rfl ?_
    refine j_aload_n (pc := 80) M.1 dX1_count_80 0 rfl ?_
    refine jm_getS (pc := 81) M fm_291 dX1_count_81 ?_
    exact jm_iret (pc := 84) M dX1_count_84 hf
  replace hf := o_neg c1 hf
  by_cases c2 : x1 = 1
  · replace hf := o_pos c2 hf
    refine j_tableIn (pc := 1) M.1 85 dX1_count_1 (by rw [c2]; decide) (by rw [c2]; decide) (by rw [c2]; rfl) rfl ?_
    refine j_aload_n (pc := 85) M.1 dX1_count_85 0 rfl ?_
    refine jm_getS (pc := 86) M fm_272 dX1_count_86 ?_
    exact jm_iret (pc := 89) M dX1_count_89 hf
  replace hf := o_neg c2 hf
  by_cases c3 : x1 = 2
  · replace hf := o_pos c3 hf
    refine j_tableIn (pc := 1) M.1 90 dX1_count_1 (by rw [c3]; decide) (by rw [c3]; decide) (by rw [c3]; rfl) rfl ?_
    refine j_aload_n (pc := 90) M.1 dX1_count_90 0 rfl ?_
    refine jm_getS (pc := 91) M fm_275 dX1_count_91 ?_
    exact jm_iret (pc := 94) M dX1_count_94 hf
  replace hf := o_neg c3 hf
  by_cases c4 : x1 = 3
  · replace hf := o_pos c4 hf
    refine j_tableIn (pc := 1) M.1 95 dX1_count_1 (by rw [c4]; decide) (by rw [c4]; decide) (by rw [c4]; rfl) rfl ?_
    refine j_aload_n (pc := 95) M.1 dX1_count_95 0 rfl ?_
    refine jm_getS (pc := 96) M fm_282 dX1_count_96 ?_
    exact jm_iret (pc := 99) M dX1_count_99 hf
  replace hf := o_neg c4 hf
  by_cases c5 : x1 = 4
  · replace hf := o_pos c5 hf
    refine j_tableIn (pc := 1) M.1 100 dX1_count_1 (by rw [c5]; decide) (by rw [c5]; decide) (by rw [c5]; rfl) rfl ?_
    refine j_aload_n (pc := 100) M.1 dX1_count_100 0 rfl ?_
    refine jm_getS (pc := 101) M fm_285 dX1_count_101 ?_
    exact jm_iret (pc := 104) M dX1_count_104 hf
  replace hf := o_neg c5 hf
  by_cases c6 : x1 = 5
  · replace hf := o_pos c6 hf
    refine j_tableIn (pc := 1) M.1 105 dX1_count_1 (by rw [c6]; decide) (by rw [c6]; decide) (by rw [c6]; rfl) rfl ?_
    refine j_aload_n (pc := 105) M.1 dX1_count_105 0 rfl ?_
    refine jm_getS (pc := 106) M fm_441 dX1_count_106 ?_
    exact jm_iret (pc := 109) M dX1_count_109 hf
  replace hf := o_neg c6 hf
  by_cases c7 : x1 = 6
  · replace hf := o_pos c7 hf
    refine j_tableIn (pc := 1) M.1 110 dX1_count_1 (by rw [c7]; decide) (by rw [c7]; decide) (by rw [c7]; rfl) rfl ?_
    refine j_aload_n (pc := 110) M.1 dX1_count_110 0 rfl ?_
    refine jm_getS (pc := 111) M fm_470 dX1_count_111 ?_
    exact jm_iret (pc := 114) M dX1_count_114 hf
  replace hf := o_neg c7 hf
  by_cases c8 : x1 = 7
  · replace hf := o_pos c8 hf
    refine j_tableIn (pc := 1) M.1 115 dX1_count_1 (by rw [c8]; decide) (by rw [c8]; decide) (by rw [c8]; rfl) rfl ?_
    refine j_aload_n (pc := 115) M.1 dX1_count_115 0 rfl ?_
    refine jm_getS (pc := 116) M fm_491 dX1_count_116 ?_
    exact jm_iret (pc := 119) M dX1_count_119 hf
  replace hf := o_neg c8 hf
  by_cases c9 : x1 = 8
  · replace hf := o_pos c9 hf
    refine j_tableIn (pc := 1) M.1 120 dX1_count_1 (by rw [c9]; decide) (by rw [c9]; decide) (by rw [c9]; rfl) rfl ?_
    refine j_aload_n (pc := 120) M.1 dX1_count_120 0 rfl ?_
    refine jm_getS (pc := 121) M fm_521 dX1_count_121 ?_
    exact jm_iret (pc := 124) M dX1_count_124 hf
  replace hf := o_neg c9 hf
  by_cases c10 : x1 = 9
  · replace hf := o_pos c10 hf
    refine j_tableIn (pc := 1) M.1 125 dX1_count_1 (by rw [c10]; decide) (by rw [c10]; decide) (by rw [c10]; rfl) rfl ?_
    refine j_aload_n (pc := 125) M.1 dX1_count_125 0 rfl ?_
    refine jm_getS (pc := 126) M fm_524 dX1_count_126 ?_
    exact jm_iret (pc := 129) M dX1_count_129 hf
  replace hf := o_neg c10 hf
  by_cases c11 : x1 = 10
  · replace hf := o_pos c11 hf
    refine j_tableIn (pc := 1) M.1 130 dX1_count_1 (by rw [c11]; decide) (by rw [c11]; decide) (by rw [c11]; rfl) rfl ?_
    refine j_aload_n (pc := 130) M.1 dX1_count_130 0 rfl ?_
    refine jm_getS (pc := 131) M fm_540 dX1_count_131 ?_
    exact jm_iret (pc := 134) M dX1_count_134 hf
  replace hf := o_neg c11 hf
  by_cases c12 : x1 = 11
  · replace hf := o_pos c12 hf
    refine j_tableIn (pc := 1) M.1 135 dX1_count_1 (by rw [c12]; decide) (by rw [c12]; decide) (by rw [c12]; rfl) rfl ?_
    refine j_aload_n (pc := 135) M.1 dX1_count_135 0 rfl ?_
    refine jm_getS (pc := 136) M fm_288 dX1_count_136 ?_
    exact jm_iret (pc := 139) M dX1_count_139 hf
  replace hf := o_neg c12 hf
  by_cases c13 : x1 = 12
  · replace hf := o_pos c13 hf
    refine j_tableIn (pc := 1) M.1 140 dX1_count_1 (by rw [c13]; decide) (by rw [c13]; decide) (by rw [c13]; rfl) rfl ?_
    refine j_aload_n (pc := 140) M.1 dX1_count_140 0 rfl ?_
    refine jm_getS (pc := 141) M fm_552 dX1_count_141 ?_
    exact jm_iret (pc := 144) M dX1_count_144 hf
  replace hf := o_neg c13 hf
  by_cases c14 : x1 = 13
  · replace hf := o_pos c14 hf
    refine j_tableIn (pc := 1) M.1 145 dX1_count_1 (by rw [c14]; decide) (by rw [c14]; decide) (by rw [c14]; rfl) rfl ?_
    refine j_aload_n (pc := 145) M.1 dX1_count_145 0 rfl ?_
    refine jm_getS (pc := 146) M fm_555 dX1_count_146 ?_
    exact jm_iret (pc := 149) M dX1_count_149 hf
  replace hf := o_neg c14 hf
  by_cases c15 : x1 = 14
  · replace hf := o_pos c15 hf
    refine j_tableIn (pc := 1) M.1 150 dX1_count_1 (by rw [c15]; decide) (by rw [c15]; decide) (by rw [c15]; rfl) rfl ?_
    refine j_aload_n (pc := 150) M.1 dX1_count_150 0 rfl ?_
    refine jm_getS (pc := 151) M fm_341 dX1_count_151 ?_
    exact jm_iret (pc := 154) M dX1_count_154 hf
  replace hf := o_neg c15 hf
  by_cases c16 : x1 = 15
  · replace hf := o_pos c16 hf
    refine j_tableIn (pc := 1) M.1 155 dX1_count_1 (by rw [c16]; decide) (by rw [c16]; decide) (by rw [c16]; rfl) rfl ?_
    refine j_aload_n (pc := 155) M.1 dX1_count_155 0 rfl ?_
    refine jm_getS (pc := 156) M fm_334 dX1_count_156 ?_
    exact jm_iret (pc := 159) M dX1_count_159 hf
  replace hf := o_neg c16 hf
  have nc1 : ¬ x1.toInt = 0 := fun z => c1 (Int32.toInt_inj.mp (by rw [z]; rfl))
  have nc2 : ¬ x1.toInt = 1 := fun z => c2 (Int32.toInt_inj.mp (by rw [z]; rfl))
  have nc3 : ¬ x1.toInt = 2 := fun z => c3 (Int32.toInt_inj.mp (by rw [z]; rfl))
  have nc4 : ¬ x1.toInt = 3 := fun z => c4 (Int32.toInt_inj.mp (by rw [z]; rfl))
  have nc5 : ¬ x1.toInt = 4 := fun z => c5 (Int32.toInt_inj.mp (by rw [z]; rfl))
  have nc6 : ¬ x1.toInt = 5 := fun z => c6 (Int32.toInt_inj.mp (by rw [z]; rfl))
  have nc7 : ¬ x1.toInt = 6 := fun z => c7 (Int32.toInt_inj.mp (by rw [z]; rfl))
  have nc8 : ¬ x1.toInt = 7 := fun z => c8 (Int32.toInt_inj.mp (by rw [z]; rfl))
  have nc9 : ¬ x1.toInt = 8 := fun z => c9 (Int32.toInt_inj.mp (by rw [z]; rfl))
  have nc10 : ¬ x1.toInt = 9 := fun z => c10 (Int32.toInt_inj.mp (by rw [z]; rfl))
  have nc11 : ¬ x1.toInt = 10 := fun z => c11 (Int32.toInt_inj.mp (by rw [z]; rfl))
  have nc12 : ¬ x1.toInt = 11 := fun z => c12 (Int32.toInt_inj.mp (by rw [z]; rfl))
  have nc13 : ¬ x1.toInt = 12 := fun z => c13 (Int32.toInt_inj.mp (by rw [z]; rfl))
  have nc14 : ¬ x1.toInt = 13 := fun z => c14 (Int32.toInt_inj.mp (by rw [z]; rfl))
  have nc15 : ¬ x1.toInt = 14 := fun z => c15 (Int32.toInt_inj.mp (by rw [z]; rfl))
  have nc16 : ¬ x1.toInt = 15 := fun z => c16 (Int32.toInt_inj.mp (by rw [z]; rfl))
  refine j_tableOut (pc := 1) M.1 160 dX1_count_1 (by omega) rfl ?_
  refine j_iload_n (pc := 160) M.1 dX1_count_160 1 rfl ?_
  refine j_bipush (pc := 161) M.1 dX1_count_161 kc_bipush_20 ?_
  refine j_bipush (pc := 163) M.1 dX1_count_163 kc_bipush_19 ?_
  refine j_aload_n (pc := 165) M.1 dX1_count_165 0 rfl ?_
  refine jm_getS (pc := 166) M fm_441 dX1_count_166 ?_
  refine j_iadd (pc := 169) M.1 dX1_count_169 ?_
  obtain ⟨r1, g1, hf⟩ := o_bind hf
  refine jm_calls (pc := 170) (As := [.int x1, .int 20, .int (19 + (σ.1 44))]) (rest := []) M cs_X1_278 (met_in g1) rfl rfl rfl rfl dX1_count_170 ?_
  refine j_if_eq (pc := 173) M.1 188 dX1_count_173 rfl (fun c17 => ?_) (fun c17 => ?_)
  · replace hf := o_pos c17 hf
    refine j_iconst (pc := 188) M.1 dX1_count_188 kc_iconst_m1 ?_
    exact jm_iret (pc := 189) M dX1_count_189 hf
  · replace hf := o_neg c17 hf
    refine j_aload_n (pc := 176) M.1 dX1_count_176 0 rfl ?_
    refine jm_getA (pc := 177) M fa_104 dX1_count_177 ?_
    refine j_iload_n (pc := 180) M.1 dX1_count_180 1 rfl ?_
    refine j_bipush (pc := 181) M.1 dX1_count_181 kc_bipush_20 ?_
    refine j_isub (pc := 183) M.1 dX1_count_183 ?_
    obtain ⟨b1, hf⟩ := o_need hf
    refine jm_iald (pc := 184) M ax_31 b1 dX1_count_184 ?_
    refine j_goto (pc := 185) M.1 189 dX1_count_185 rfl ?_
    exact jm_iret (pc := 189) M dX1_count_189 hf
end
theorem dX1_draw_0 : decode cX1_draw 0 = .ok (.aload_n 0, 1) := by decide +kernel
theorem dX1_draw_1 : decode cX1_draw 1 = .ok (.iload_n 1, 1) := by decide +kernel
theorem dX1_draw_2 : decode cX1_draw 2 = .ok (.invokevirtual 527, 3) := by decide +kernel
theorem dX1_draw_5 : decode cX1_draw 5 = .ok (.ifCond .eq 46, 3) := by decide +kernel
theorem dX1_draw_8 : decode cX1_draw 8 = .ok (.iload_n 2, 1) := by decide +kernel
theorem dX1_draw_9 : decode cX1_draw 9 = .ok (.iconst 0, 1) := by decide +kernel
theorem dX1_draw_10 : decode cX1_draw 10 = .ok (.aload_n 0, 1) := by decide +kernel
theorem dX1_draw_11 : decode cX1_draw 11 = .ok (.getfield 291, 3) := by decide +kernel
theorem dX1_draw_14 : decode cX1_draw 14 = .ok (.invokestatic 278, 3) := by decide +kernel
theorem dX1_draw_17 : decode cX1_draw 17 = .ok (.ifCond .eq 34, 3) := by decide +kernel
theorem dX1_draw_20 : decode cX1_draw 20 = .ok (.iload_n 3, 1) := by decide +kernel
theorem dX1_draw_21 : decode cX1_draw 21 = .ok (.iconst 0, 1) := by decide +kernel
theorem dX1_draw_22 : decode cX1_draw 22 = .ok (.sipush 255, 3) := by decide +kernel
theorem dX1_draw_25 : decode cX1_draw 25 = .ok (.invokestatic 278, 3) := by decide +kernel
theorem dX1_draw_28 : decode cX1_draw 28 = .ok (.ifCond .eq 23, 3) := by decide +kernel
theorem dX1_draw_31 : decode cX1_draw 31 = .ok (.aload_n 0, 1) := by decide +kernel
theorem dX1_draw_32 : decode cX1_draw 32 = .ok (.getfield 524, 3) := by decide +kernel
theorem dX1_draw_35 : decode cX1_draw 35 = .ok (.bipush 100, 2) := by decide +kernel
theorem dX1_draw_37 : decode cX1_draw 37 = .ok (.if_icmp .ge 14, 3) := by decide +kernel
theorem dX1_draw_40 : decode cX1_draw 40 = .ok (.aload_n 0, 1) := by decide +kernel
theorem dX1_draw_41 : decode cX1_draw 41 = .ok (.iload_n 1, 1) := by decide +kernel
theorem dX1_draw_42 : decode cX1_draw 42 = .ok (.iload_n 2, 1) := by decide +kernel
theorem dX1_draw_43 : decode cX1_draw 43 = .ok (.iload_n 3, 1) := by decide +kernel
theorem dX1_draw_44 : decode cX1_draw 44 = .ok (.iconst 0, 1) := by decide +kernel
theorem dX1_draw_45 : decode cX1_draw 45 = .ok (.invokevirtual 530, 3) := by decide +kernel
theorem dX1_draw_48 : decode cX1_draw 48 = .ok (.goto 4, 3) := by decide +kernel
theorem dX1_draw_51 : decode cX1_draw 51 = .ok (.iconst (-1), 1) := by decide +kernel
theorem dX1_draw_52 : decode cX1_draw 52 = .ok (.ireturn, 1) := by decide +kernel
section
variable {res : Int32 × MS}
noncomputable def m_draw (F : Nat) (x1 x2 x3 : Int32) (σ : MS) : Option (Int32 × MS) :=
  (m_isWall F x1 σ).bind (fun r1 => if r1.1 = 0 then (some ((-1), r1.2)) else ((m_in F x2 0 (r1.2.1 2)).bind (fun r2 => if r2 = 0 then (some ((-1), r1.2)) else ((m_in F x3 0 255).bind (fun r3 => if r3 = 0 then (some ((-1), r1.2)) else (if 100 ≤ (r1.2.1 80) then (some ((-1), r1.2)) else ((m_draws F x1 x2 x3 0 r1.2).bind (fun r4 => some (r4.1, r4.2)))))))))
theorem met_draw {l : Launch} {G : gG} {o F : Nat} {x1 x2 x3 : Int32} {σ : MS} {res : Int32 × MS} (hf : m_draw F x1 x2 x3 σ = some res) : MetMi l G yX1_draw cX1_draw 4 (some .int) 2 o [.int x1, .int x2, .int x3] σ res := by
  refine metMi_of (by decide) rfl rfl (fun γ hγ M => ?_)
  subst hγ
  show J γ (MW G o σ) 0 0 0 [(0, .ref o), (1, .int x1), (2, .int x2), (3, .int x3)] []
  unfold m_draw at hf
  refine j_aload_n (pc := 0) M.1 dX1_draw_0 0 rfl ?_
  refine j_iload_n (pc := 1) M.1 dX1_draw_1 1 rfl ?_
  obtain ⟨r1, g1, hf⟩ := o_bind hf
  refine jm_calli (pc := 2) (As := [.int x1]) (rest := []) M cm_527 (met_isWall g1) rfl rfl rfl rfl dX1_draw_2 ?_
  refine j_if_eq (pc := 5) M.1 51 dX1_draw_5 rfl (fun c1 => ?_) (fun c1 => ?_)
  · replace hf := o_pos c1 hf
    refine j_iconst (pc := 51) M.1 dX1_draw_51 kc_iconst_m1 ?_
    exact jm_iret (pc := 52) M dX1_draw_52 hf
  · replace hf := o_neg c1 hf
    refine j_iload_n (pc := 8) M.1 dX1_draw_8 2 rfl ?_
    refine j_iconst (pc := 9) M.1 dX1_draw_9 kc_iconst_0 ?_
    refine j_aload_n (pc := 10) M.1 dX1_draw_10 0 rfl ?_
    refine jm_getS (pc := 11) M fm_291 dX1_draw_11 ?_
    obtain ⟨r2, g2, hf⟩ := o_bind hf
    refine jm_calls (pc := 14) (As := [.int x2, .int 0, .int (r1.2.1 2)]) (rest := []) M cs_X1_278 (met_in g2) rfl rfl rfl rfl dX1_draw_14 ?_
    refine j_if_eq (pc := 17) M.1 51 dX1_draw_17 rfl (fun c2 => ?_) (fun c2 => ?_)
    · replace hf := o_pos c2 hf
      refine j_iconst (pc := 51) M.1 dX1_draw_51 kc_iconst_m1 ?_
      exact jm_iret (pc := 52) M dX1_draw_52 hf
    · replace hf := o_neg c2 hf
      refine j_iload_n (pc := 20) M.1 dX1_draw_20 3 rfl ?_
      refine j_iconst (pc := 21) M.1 dX1_draw_21 kc_iconst_0 ?_
      refine j_sipush (pc := 22) M.1 dX1_draw_22 kc_sipush_255 ?_
      obtain ⟨r3, g3, hf⟩ := o_bind hf
      refine jm_calls (pc := 25) (As := [.int x3, .int 0, .int 255]) (rest := []) M cs_X1_278 (met_in g3) rfl rfl rfl rfl dX1_draw_25 ?_
      refine j_if_eq (pc := 28) M.1 51 dX1_draw_28 rfl (fun c3 => ?_) (fun c3 => ?_)
      · replace hf := o_pos c3 hf
        refine j_iconst (pc := 51) M.1 dX1_draw_51 kc_iconst_m1 ?_
        exact jm_iret (pc := 52) M dX1_draw_52 hf
      · replace hf := o_neg c3 hf
        refine j_aload_n (pc := 31) M.1 dX1_draw_31 0 rfl ?_
        refine jm_getS (pc := 32) M fm_524 dX1_draw_32 ?_
        refine j_bipush (pc := 35) M.1 dX1_draw_35 kc_bipush_100 ?_
        refine j_icmp_ge (pc := 37) M.1 51 dX1_draw_37 rfl (fun c4 => ?_) (fun c4 => ?_)
        · replace hf := o_pos c4 hf
          refine j_iconst (pc := 51) M.1 dX1_draw_51 kc_iconst_m1 ?_
          exact jm_iret (pc := 52) M dX1_draw_52 hf
        · replace hf := o_neg c4 hf
          refine j_aload_n (pc := 40) M.1 dX1_draw_40 0 rfl ?_
          refine j_iload_n (pc := 41) M.1 dX1_draw_41 1 rfl ?_
          refine j_iload_n (pc := 42) M.1 dX1_draw_42 2 rfl ?_
          refine j_iload_n (pc := 43) M.1 dX1_draw_43 3 rfl ?_
          refine j_iconst (pc := 44) M.1 dX1_draw_44 kc_iconst_0 ?_
          obtain ⟨r4, g4, hf⟩ := o_bind hf
          refine jm_calli (pc := 45) (As := [.int x1, .int x2, .int x3, .int 0]) (rest := []) M cm_530 (met_draws g4) rfl rfl rfl rfl dX1_draw_45 ?_
          refine j_goto (pc := 48) M.1 52 dX1_draw_48 rfl ?_
          exact jm_iret (pc := 52) M dX1_draw_52 hf
end
theorem dX1_endsPiece_0 : decode cX1_endsPiece 0 = .ok (.aload_n 0, 1) := by decide +kernel
theorem dX1_endsPiece_1 : decode cX1_endsPiece 1 = .ok (.invokevirtual 381, 3) := by decide +kernel
theorem dX1_endsPiece_4 : decode cX1_endsPiece 4 = .ok (.bipush 10, 2) := by decide +kernel
theorem dX1_endsPiece_6 : decode cX1_endsPiece 6 = .ok (.if_icmp .ne 33, 3) := by decide +kernel
theorem dX1_endsPiece_9 : decode cX1_endsPiece 9 = .ok (.aload_n 0, 1) := by decide +kernel
theorem dX1_endsPiece_10 : decode cX1_endsPiece 10 = .ok (.bipush 10, 2) := by decide +kernel
theorem dX1_endsPiece_12 : decode cX1_endsPiece 12 = .ok (.iconst 0, 1) := by decide +kernel
theorem dX1_endsPiece_13 : decode cX1_endsPiece 13 = .ok (.invokevirtual 384, 3) := by decide +kernel
theorem dX1_endsPiece_16 : decode cX1_endsPiece 16 = .ok (.aload_n 0, 1) := by decide +kernel
theorem dX1_endsPiece_17 : decode cX1_endsPiece 17 = .ok (.aload_n 0, 1) := by decide +kernel
theorem dX1_endsPiece_18 : decode cX1_endsPiece 18 = .ok (.getfield 378, 3) := by decide +kernel
theorem dX1_endsPiece_21 : decode cX1_endsPiece 21 = .ok (.iconst 1, 1) := by decide +kernel
theorem dX1_endsPiece_22 : decode cX1_endsPiece 22 = .ok (.isub, 1) := by decide +kernel
theorem dX1_endsPiece_23 : decode cX1_endsPiece 23 = .ok (.putfield 378, 3) := by decide +kernel
theorem dX1_endsPiece_26 : decode cX1_endsPiece 26 = .ok (.aload_n 0, 1) := by decide +kernel
theorem dX1_endsPiece_27 : decode cX1_endsPiece 27 = .ok (.aload_n 0, 1) := by decide +kernel
theorem dX1_endsPiece_28 : decode cX1_endsPiece 28 = .ok (.getfield 375, 3) := by decide +kernel
theorem dX1_endsPiece_31 : decode cX1_endsPiece 31 = .ok (.iconst 1, 1) := by decide +kernel
theorem dX1_endsPiece_32 : decode cX1_endsPiece 32 = .ok (.isub, 1) := by decide +kernel
theorem dX1_endsPiece_33 : decode cX1_endsPiece 33 = .ok (.putfield 375, 3) := by decide +kernel
theorem dX1_endsPiece_36 : decode cX1_endsPiece 36 = .ok (.goto (-36), 3) := by decide +kernel
theorem dX1_endsPiece_39 : decode cX1_endsPiece 39 = .ok (.return_, 1) := by decide +kernel
section
variable {res : Int32 × MS}
noncomputable def m_endsPiece_B0 (F : Nat) (R : MS → Option (Int32 × MS)) (a : MS) : Option (Int32 × MS) :=
  (m_top F a).bind (fun r1 => if r1.1 = 10 then ((m_says F 10 0 r1.2).bind (fun r2 => nx (sS r2.2 35 ((r2.2.1 35) - 1)) (fun σ1 => nx (sS σ1 33 ((σ1.1 33) - 1)) (fun σ2 => R σ2)))) else (some (0, r1.2)))
theorem km_endsPiece_B0 (M : MC γ cX1_endsPiece 1 G o 2 none (mQv G o res)) : ∀ R : MS → Option (Int32 × MS), (∀ a, R a = some res → J γ (MW G o a) 0 0 0 [(0, .ref o)] []) → ∀ a, m_endsPiece_B0 F R a = some res → J γ (MW G o a) 0 0 0 [(0, .ref o)] [] := by
  intro R hR a hf
  unfold m_endsPiece_B0 at hf
  refine j_aload_n (pc := 0) M.1 dX1_endsPiece_0 0 rfl ?_
  obtain ⟨r1, g1, hf⟩ := o_bind hf
  refine jm_calli (pc := 1) (As := []) (rest := []) M cm_381 (met_top g1) rfl rfl rfl rfl dX1_endsPiece_1 ?_
  refine j_bipush (pc := 4) M.1 dX1_endsPiece_4 kc_bipush_10 ?_
  refine j_icmp_ne (pc := 6) M.1 39 dX1_endsPiece_6 rfl (fun c1 => ?_) (fun c1 => ?_)
  · replace hf := o_neg c1 hf
    exact jm_vret (pc := 39) M dX1_endsPiece_39 hf
  · replace hf := o_pos c1 hf
    refine j_aload_n (pc := 9) M.1 dX1_endsPiece_9 0 rfl ?_
    refine j_bipush (pc := 10) M.1 dX1_endsPiece_10 kc_bipush_10 ?_
    refine j_iconst (pc := 12) M.1 dX1_endsPiece_12 kc_iconst_0 ?_
    obtain ⟨r2, g2, hf⟩ := o_bind hf
    refine jm_callv (pc := 13) (As := [.int 10, .int 0]) (rest := []) M cm_384 (met_says g2) rfl rfl rfl rfl dX1_endsPiece_13 ?_
    refine j_aload_n (pc := 16) M.1 dX1_endsPiece_16 0 rfl ?_
    refine j_aload_n (pc := 17) M.1 dX1_endsPiece_17 0 rfl ?_
    refine jm_getS (pc := 18) M fm_378 dX1_endsPiece_18 ?_
    refine j_iconst (pc := 21) M.1 dX1_endsPiece_21 kc_iconst_1 ?_
    refine j_isub (pc := 22) M.1 dX1_endsPiece_22 ?_
    obtain ⟨σ1, e1, hf⟩ := o_nx hf
    refine jm_put (pc := 23) M fm_378 dX1_endsPiece_23 e1 ?_
    refine j_aload_n (pc := 26) M.1 dX1_endsPiece_26 0 rfl ?_
    refine j_aload_n (pc := 27) M.1 dX1_endsPiece_27 0 rfl ?_
    refine jm_getS (pc := 28) M fm_375 dX1_endsPiece_28 ?_
    refine j_iconst (pc := 31) M.1 dX1_endsPiece_31 kc_iconst_1 ?_
    refine j_isub (pc := 32) M.1 dX1_endsPiece_32 ?_
    obtain ⟨σ2, e2, hf⟩ := o_nx hf
    refine jm_put (pc := 33) M fm_375 dX1_endsPiece_33 e2 ?_
    refine j_goto (pc := 36) M.1 0 dX1_endsPiece_36 rfl ?_
    have hy := hR _ hf
    exact hy
noncomputable def m_endsPiece (F : Nat) (σ : MS) : Option (Int32 × MS) :=
  lp (m_endsPiece_B0 F) F σ
theorem met_endsPiece {l : Launch} {G : gG} {o F : Nat} {σ : MS} {res : Int32 × MS} (hf : m_endsPiece F σ = some res) : MetMv l G yX1_endsPiece cX1_endsPiece 1 2 o [] σ res := by
  refine metMv_of (by decide) rfl rfl (fun γ hγ M => ?_)
  subst hγ
  show J γ (MW G o σ) 0 0 0 [(0, .ref o)] []
  unfold m_endsPiece at hf
  refine lp_W (km_endsPiece_B0 M) F σ hf
end
theorem dX1_feed_0 : decode cX1_feed 0 = .ok (.aload_n 0, 1) := by decide +kernel
theorem dX1_feed_1 : decode cX1_feed 1 = .ok (.getfield 341, 3) := by decide +kernel
theorem dX1_feed_4 : decode cX1_feed 4 = .ok (.bipush 20, 2) := by decide +kernel
theorem dX1_feed_6 : decode cX1_feed 6 = .ok (.iadd, 1) := by decide +kernel
theorem dX1_feed_7 : decode cX1_feed 7 = .ok (.sipush 400, 3) := by decide +kernel
theorem dX1_feed_10 : decode cX1_feed 10 = .ok (.if_icmp .le 5, 3) := by decide +kernel
theorem dX1_feed_13 : decode cX1_feed 13 = .ok (.iconst (-1), 1) := by decide +kernel
theorem dX1_feed_14 : decode cX1_feed 14 = .ok (.ireturn, 1) := by decide +kernel
theorem dX1_feed_15 : decode cX1_feed 15 = .ok (.aload_n 0, 1) := by decide +kernel
theorem dX1_feed_16 : decode cX1_feed 16 = .ok (.iload_n 1, 1) := by decide +kernel
theorem dX1_feed_17 : decode cX1_feed 17 = .ok (.invokevirtual 344, 3) := by decide +kernel
theorem dX1_feed_20 : decode cX1_feed 20 = .ok (.aload_n 0, 1) := by decide +kernel
theorem dX1_feed_21 : decode cX1_feed 21 = .ok (.iload_n 2, 1) := by decide +kernel
theorem dX1_feed_22 : decode cX1_feed 22 = .ok (.invokevirtual 344, 3) := by decide +kernel
theorem dX1_feed_25 : decode cX1_feed 25 = .ok (.aload_n 0, 1) := by decide +kernel
theorem dX1_feed_26 : decode cX1_feed 26 = .ok (.iload_n 3, 1) := by decide +kernel
theorem dX1_feed_27 : decode cX1_feed 27 = .ok (.invokevirtual 344, 3) := by decide +kernel
theorem dX1_feed_30 : decode cX1_feed 30 = .ok (.aload_n 0, 1) := by decide +kernel
theorem dX1_feed_31 : decode cX1_feed 31 = .ok (.iload 4, 2) := by decide +kernel
theorem dX1_feed_33 : decode cX1_feed 33 = .ok (.invokevirtual 344, 3) := by decide +kernel
theorem dX1_feed_36 : decode cX1_feed 36 = .ok (.aload_n 0, 1) := by decide +kernel
theorem dX1_feed_37 : decode cX1_feed 37 = .ok (.iload 5, 2) := by decide +kernel
theorem dX1_feed_39 : decode cX1_feed 39 = .ok (.invokevirtual 344, 3) := by decide +kernel
theorem dX1_feed_42 : decode cX1_feed 42 = .ok (.aload_n 0, 1) := by decide +kernel
theorem dX1_feed_43 : decode cX1_feed 43 = .ok (.getfield 341, 3) := by decide +kernel
theorem dX1_feed_46 : decode cX1_feed 46 = .ok (.ireturn, 1) := by decide +kernel
section
variable {res : Int32 × MS}
noncomputable def m_feed (F : Nat) (x1 x2 x3 x4 x5 : Int32) (σ : MS) : Option (Int32 × MS) :=
  if ((σ.1 28) + 20) ≤ 400 then ((m_types F x1 σ).bind (fun r1 => (m_types F x2 r1.2).bind (fun r2 => (m_types F x3 r2.2).bind (fun r3 => (m_types F x4 r3.2).bind (fun r4 => (m_types F x5 r4.2).bind (fun r5 => some (r5.2.1 28, r5.2))))))) else (some ((-1), σ))
theorem met_feed {l : Launch} {G : gG} {o F : Nat} {x1 x2 x3 x4 x5 : Int32} {σ : MS} {res : Int32 × MS} (hf : m_feed F x1 x2 x3 x4 x5 σ = some res) : MetMi l G yX1_feed cX1_feed 6 (some .int) 2 o [.int x1, .int x2, .int x3, .int x4, .int x5] σ res := by
  refine metMi_of (by decide) rfl rfl (fun γ hγ M => ?_)
  subst hγ
  show J γ (MW G o σ) 0 0 0 [(0, .ref o), (1, .int x1), (2, .int x2), (3, .int x3), (4, .int x4), (5, .int x5)] []
  unfold m_feed at hf
  refine j_aload_n (pc := 0) M.1 dX1_feed_0 0 rfl ?_
  refine jm_getS (pc := 1) M fm_341 dX1_feed_1 ?_
  refine j_bipush (pc := 4) M.1 dX1_feed_4 kc_bipush_20 ?_
  refine j_iadd (pc := 6) M.1 dX1_feed_6 ?_
  refine j_sipush (pc := 7) M.1 dX1_feed_7 kc_sipush_400 ?_
  refine j_icmp_le (pc := 10) M.1 15 dX1_feed_10 rfl (fun c1 => ?_) (fun c1 => ?_)
  · replace hf := o_pos c1 hf
    refine j_aload_n (pc := 15) M.1 dX1_feed_15 0 rfl ?_
    refine j_iload_n (pc := 16) M.1 dX1_feed_16 1 rfl ?_
    obtain ⟨r1, g1, hf⟩ := o_bind hf
    refine jm_callv (pc := 17) (As := [.int x1]) (rest := []) M cm_344 (met_types g1) rfl rfl rfl rfl dX1_feed_17 ?_
    refine j_aload_n (pc := 20) M.1 dX1_feed_20 0 rfl ?_
    refine j_iload_n (pc := 21) M.1 dX1_feed_21 2 rfl ?_
    obtain ⟨r2, g2, hf⟩ := o_bind hf
    refine jm_callv (pc := 22) (As := [.int x2]) (rest := []) M cm_344 (met_types g2) rfl rfl rfl rfl dX1_feed_22 ?_
    refine j_aload_n (pc := 25) M.1 dX1_feed_25 0 rfl ?_
    refine j_iload_n (pc := 26) M.1 dX1_feed_26 3 rfl ?_
    obtain ⟨r3, g3, hf⟩ := o_bind hf
    refine jm_callv (pc := 27) (As := [.int x3]) (rest := []) M cm_344 (met_types g3) rfl rfl rfl rfl dX1_feed_27 ?_
    refine j_aload_n (pc := 30) M.1 dX1_feed_30 0 rfl ?_
    refine j_iload (pc := 31) M.1 dX1_feed_31 4 rfl ?_
    obtain ⟨r4, g4, hf⟩ := o_bind hf
    refine jm_callv (pc := 33) (As := [.int x4]) (rest := []) M cm_344 (met_types g4) rfl rfl rfl rfl dX1_feed_33 ?_
    refine j_aload_n (pc := 36) M.1 dX1_feed_36 0 rfl ?_
    refine j_iload (pc := 37) M.1 dX1_feed_37 5 rfl ?_
    obtain ⟨r5, g5, hf⟩ := o_bind hf
    refine jm_callv (pc := 39) (As := [.int x5]) (rest := []) M cm_344 (met_types g5) rfl rfl rfl rfl dX1_feed_39 ?_
    refine j_aload_n (pc := 42) M.1 dX1_feed_42 0 rfl ?_
    refine jm_getS (pc := 43) M fm_341 dX1_feed_43 ?_
    exact jm_iret (pc := 46) M dX1_feed_46 hf
  · replace hf := o_neg c1 hf
    refine j_iconst (pc := 13) M.1 dX1_feed_13 kc_iconst_m1 ?_
    exact jm_iret (pc := 14) M dX1_feed_14 hf
end
theorem dX1_find_0 : decode cX1_find 0 = .ok (.iload_n 1, 1) := by decide +kernel
theorem dX1_find_1 : decode cX1_find 1 = .ok (.iconst 0, 1) := by decide +kernel
theorem dX1_find_2 : decode cX1_find 2 = .ok (.bipush 7, 2) := by decide +kernel
theorem dX1_find_4 : decode cX1_find 4 = .ok (.invokestatic 278, 3) := by decide +kernel
theorem dX1_find_7 : decode cX1_find 7 = .ok (.ifCond .eq 99, 3) := by decide +kernel
theorem dX1_find_10 : decode cX1_find 10 = .ok (.iload_n 2, 1) := by decide +kernel
theorem dX1_find_11 : decode cX1_find 11 = .ok (.iconst 0, 1) := by decide +kernel
theorem dX1_find_12 : decode cX1_find 12 = .ok (.aload_n 0, 1) := by decide +kernel
theorem dX1_find_13 : decode cX1_find 13 = .ok (.getfield 291, 3) := by decide +kernel
theorem dX1_find_16 : decode cX1_find 16 = .ok (.invokestatic 278, 3) := by decide +kernel
theorem dX1_find_19 : decode cX1_find 19 = .ok (.ifCond .eq 87, 3) := by decide +kernel
theorem dX1_find_22 : decode cX1_find 22 = .ok (.iload_n 3, 1) := by decide +kernel
theorem dX1_find_23 : decode cX1_find 23 = .ok (.iload_n 2, 1) := by decide +kernel
theorem dX1_find_24 : decode cX1_find 24 = .ok (.aload_n 0, 1) := by decide +kernel
theorem dX1_find_25 : decode cX1_find 25 = .ok (.getfield 291, 3) := by decide +kernel
theorem dX1_find_28 : decode cX1_find 28 = .ok (.invokestatic 278, 3) := by decide +kernel
theorem dX1_find_31 : decode cX1_find 31 = .ok (.ifCond .eq 75, 3) := by decide +kernel
theorem dX1_find_34 : decode cX1_find 34 = .ok (.iload_n 3, 1) := by decide +kernel
theorem dX1_find_35 : decode cX1_find 35 = .ok (.iload_n 2, 1) := by decide +kernel
theorem dX1_find_36 : decode cX1_find 36 = .ok (.isub, 1) := by decide +kernel
theorem dX1_find_37 : decode cX1_find 37 = .ok (.bipush 19, 2) := by decide +kernel
theorem dX1_find_39 : decode cX1_find 39 = .ok (.if_icmp .gt 67, 3) := by decide +kernel
theorem dX1_find_42 : decode cX1_find 42 = .ok (.iload 4, 2) := by decide +kernel
theorem dX1_find_44 : decode cX1_find 44 = .ok (.iconst 0, 1) := by decide +kernel
theorem dX1_find_45 : decode cX1_find 45 = .ok (.bipush 99, 2) := by decide +kernel
theorem dX1_find_47 : decode cX1_find 47 = .ok (.invokestatic 278, 3) := by decide +kernel
theorem dX1_find_50 : decode cX1_find 50 = .ok (.ifCond .eq 56, 3) := by decide +kernel
theorem dX1_find_53 : decode cX1_find 53 = .ok (.iload 5, 2) := by decide +kernel
theorem dX1_find_55 : decode cX1_find 55 = .ok (.invokestatic 305, 3) := by decide +kernel
theorem dX1_find_58 : decode cX1_find 58 = .ok (.ifCond .eq 48, 3) := by decide +kernel
theorem dX1_find_61 : decode cX1_find 61 = .ok (.iload 6, 2) := by decide +kernel
theorem dX1_find_63 : decode cX1_find 63 = .ok (.iload 5, 2) := by decide +kernel
theorem dX1_find_65 : decode cX1_find 65 = .ok (.bipush 7, 2) := by decide +kernel
theorem dX1_find_67 : decode cX1_find 67 = .ok (.invokestatic 278, 3) := by decide +kernel
theorem dX1_find_70 : decode cX1_find 70 = .ok (.ifCond .eq 36, 3) := by decide +kernel
theorem dX1_find_73 : decode cX1_find 73 = .ok (.iload 7, 2) := by decide +kernel
theorem dX1_find_75 : decode cX1_find 75 = .ok (.iconst 0, 1) := by decide +kernel
theorem dX1_find_76 : decode cX1_find 76 = .ok (.bipush 7, 2) := by decide +kernel
theorem dX1_find_78 : decode cX1_find 78 = .ok (.invokestatic 278, 3) := by decide +kernel
theorem dX1_find_81 : decode cX1_find 81 = .ok (.ifCond .eq 25, 3) := by decide +kernel
theorem dX1_find_84 : decode cX1_find 84 = .ok (.iload 8, 2) := by decide +kernel
theorem dX1_find_86 : decode cX1_find 86 = .ok (.iconst 0, 1) := by decide +kernel
theorem dX1_find_87 : decode cX1_find 87 = .ok (.sipush 255, 3) := by decide +kernel
theorem dX1_find_90 : decode cX1_find 90 = .ok (.invokestatic 278, 3) := by decide +kernel
theorem dX1_find_93 : decode cX1_find 93 = .ok (.ifCond .eq 13, 3) := by decide +kernel
theorem dX1_find_96 : decode cX1_find 96 = .ok (.aload_n 0, 1) := by decide +kernel
theorem dX1_find_97 : decode cX1_find 97 = .ok (.getfield 470, 3) := by decide +kernel
theorem dX1_find_100 : decode cX1_find 100 = .ok (.sipush 150, 3) := by decide +kernel
theorem dX1_find_103 : decode cX1_find 103 = .ok (.if_icmp .ne 5, 3) := by decide +kernel
theorem dX1_find_106 : decode cX1_find 106 = .ok (.iconst (-1), 1) := by decide +kernel
theorem dX1_find_107 : decode cX1_find 107 = .ok (.ireturn, 1) := by decide +kernel
theorem dX1_find_108 : decode cX1_find 108 = .ok (.aload_n 0, 1) := by decide +kernel
theorem dX1_find_109 : decode cX1_find 109 = .ok (.getfield 136, 3) := by decide +kernel
theorem dX1_find_112 : decode cX1_find 112 = .ok (.aload_n 0, 1) := by decide +kernel
theorem dX1_find_113 : decode cX1_find 113 = .ok (.getfield 470, 3) := by decide +kernel
theorem dX1_find_116 : decode cX1_find 116 = .ok (.iload_n 1, 1) := by decide +kernel
theorem dX1_find_117 : decode cX1_find 117 = .ok (.iastore, 1) := by decide +kernel
theorem dX1_find_118 : decode cX1_find 118 = .ok (.aload_n 0, 1) := by decide +kernel
theorem dX1_find_119 : decode cX1_find 119 = .ok (.getfield 139, 3) := by decide +kernel
theorem dX1_find_122 : decode cX1_find 122 = .ok (.aload_n 0, 1) := by decide +kernel
theorem dX1_find_123 : decode cX1_find 123 = .ok (.getfield 470, 3) := by decide +kernel
theorem dX1_find_126 : decode cX1_find 126 = .ok (.iload_n 2, 1) := by decide +kernel
theorem dX1_find_127 : decode cX1_find 127 = .ok (.iastore, 1) := by decide +kernel
theorem dX1_find_128 : decode cX1_find 128 = .ok (.aload_n 0, 1) := by decide +kernel
theorem dX1_find_129 : decode cX1_find 129 = .ok (.getfield 142, 3) := by decide +kernel
theorem dX1_find_132 : decode cX1_find 132 = .ok (.aload_n 0, 1) := by decide +kernel
theorem dX1_find_133 : decode cX1_find 133 = .ok (.getfield 470, 3) := by decide +kernel
theorem dX1_find_136 : decode cX1_find 136 = .ok (.iload_n 3, 1) := by decide +kernel
theorem dX1_find_137 : decode cX1_find 137 = .ok (.iastore, 1) := by decide +kernel
theorem dX1_find_138 : decode cX1_find 138 = .ok (.aload_n 0, 1) := by decide +kernel
theorem dX1_find_139 : decode cX1_find 139 = .ok (.getfield 145, 3) := by decide +kernel
theorem dX1_find_142 : decode cX1_find 142 = .ok (.aload_n 0, 1) := by decide +kernel
theorem dX1_find_143 : decode cX1_find 143 = .ok (.getfield 470, 3) := by decide +kernel
theorem dX1_find_146 : decode cX1_find 146 = .ok (.iload 4, 2) := by decide +kernel
theorem dX1_find_148 : decode cX1_find 148 = .ok (.iastore, 1) := by decide +kernel
theorem dX1_find_149 : decode cX1_find 149 = .ok (.aload_n 0, 1) := by decide +kernel
theorem dX1_find_150 : decode cX1_find 150 = .ok (.getfield 148, 3) := by decide +kernel
theorem dX1_find_153 : decode cX1_find 153 = .ok (.aload_n 0, 1) := by decide +kernel
theorem dX1_find_154 : decode cX1_find 154 = .ok (.getfield 470, 3) := by decide +kernel
theorem dX1_find_157 : decode cX1_find 157 = .ok (.iload 5, 2) := by decide +kernel
theorem dX1_find_159 : decode cX1_find 159 = .ok (.iastore, 1) := by decide +kernel
theorem dX1_find_160 : decode cX1_find 160 = .ok (.aload_n 0, 1) := by decide +kernel
theorem dX1_find_161 : decode cX1_find 161 = .ok (.getfield 151, 3) := by decide +kernel
theorem dX1_find_164 : decode cX1_find 164 = .ok (.aload_n 0, 1) := by decide +kernel
theorem dX1_find_165 : decode cX1_find 165 = .ok (.getfield 470, 3) := by decide +kernel
theorem dX1_find_168 : decode cX1_find 168 = .ok (.iload 6, 2) := by decide +kernel
theorem dX1_find_170 : decode cX1_find 170 = .ok (.iastore, 1) := by decide +kernel
theorem dX1_find_171 : decode cX1_find 171 = .ok (.aload_n 0, 1) := by decide +kernel
theorem dX1_find_172 : decode cX1_find 172 = .ok (.getfield 154, 3) := by decide +kernel
theorem dX1_find_175 : decode cX1_find 175 = .ok (.aload_n 0, 1) := by decide +kernel
theorem dX1_find_176 : decode cX1_find 176 = .ok (.getfield 470, 3) := by decide +kernel
theorem dX1_find_179 : decode cX1_find 179 = .ok (.iload 7, 2) := by decide +kernel
theorem dX1_find_181 : decode cX1_find 181 = .ok (.iastore, 1) := by decide +kernel
theorem dX1_find_182 : decode cX1_find 182 = .ok (.aload_n 0, 1) := by decide +kernel
theorem dX1_find_183 : decode cX1_find 183 = .ok (.getfield 157, 3) := by decide +kernel
theorem dX1_find_186 : decode cX1_find 186 = .ok (.aload_n 0, 1) := by decide +kernel
theorem dX1_find_187 : decode cX1_find 187 = .ok (.getfield 470, 3) := by decide +kernel
theorem dX1_find_190 : decode cX1_find 190 = .ok (.iload 8, 2) := by decide +kernel
theorem dX1_find_192 : decode cX1_find 192 = .ok (.iastore, 1) := by decide +kernel
theorem dX1_find_193 : decode cX1_find 193 = .ok (.aload_n 0, 1) := by decide +kernel
theorem dX1_find_194 : decode cX1_find 194 = .ok (.getfield 160, 3) := by decide +kernel
theorem dX1_find_197 : decode cX1_find 197 = .ok (.aload_n 0, 1) := by decide +kernel
theorem dX1_find_198 : decode cX1_find 198 = .ok (.getfield 470, 3) := by decide +kernel
theorem dX1_find_201 : decode cX1_find 201 = .ok (.aload_n 0, 1) := by decide +kernel
theorem dX1_find_202 : decode cX1_find 202 = .ok (.getfield 291, 3) := by decide +kernel
theorem dX1_find_205 : decode cX1_find 205 = .ok (.iastore, 1) := by decide +kernel
theorem dX1_find_206 : decode cX1_find 206 = .ok (.aload_n 0, 1) := by decide +kernel
theorem dX1_find_207 : decode cX1_find 207 = .ok (.aload_n 0, 1) := by decide +kernel
theorem dX1_find_208 : decode cX1_find 208 = .ok (.getfield 470, 3) := by decide +kernel
theorem dX1_find_211 : decode cX1_find 211 = .ok (.iconst 1, 1) := by decide +kernel
theorem dX1_find_212 : decode cX1_find 212 = .ok (.iadd, 1) := by decide +kernel
theorem dX1_find_213 : decode cX1_find 213 = .ok (.putfield 470, 3) := by decide +kernel
theorem dX1_find_216 : decode cX1_find 216 = .ok (.aload_n 0, 1) := by decide +kernel
theorem dX1_find_217 : decode cX1_find 217 = .ok (.getfield 470, 3) := by decide +kernel
theorem dX1_find_220 : decode cX1_find 220 = .ok (.iconst 1, 1) := by decide +kernel
theorem dX1_find_221 : decode cX1_find 221 = .ok (.isub, 1) := by decide +kernel
theorem dX1_find_222 : decode cX1_find 222 = .ok (.ireturn, 1) := by decide +kernel
section
variable {res : Int32 × MS}
noncomputable def m_find (F : Nat) (x1 x2 x3 x4 x5 x6 x7 x8 : Int32) (σ : MS) : Option (Int32 × MS) :=
  (m_in F x1 0 7).bind (fun r1 => if r1 = 0 then (some ((-1), σ)) else ((m_in F x2 0 (σ.1 2)).bind (fun r2 => if r2 = 0 then (some ((-1), σ)) else ((m_in F x3 x2 (σ.1 2)).bind (fun r3 => if r3 = 0 then (some ((-1), σ)) else (if 19 < (x3 - x2) then (some ((-1), σ)) else ((m_in F x4 0 99).bind (fun r4 => if r4 = 0 then (some ((-1), σ)) else ((m_isLayer F x5).bind (fun r5 => if r5 = 0 then (some ((-1), σ)) else ((m_in F x6 x5 7).bind (fun r6 => if r6 = 0 then (some ((-1), σ)) else ((m_in F x7 0 7).bind (fun r7 => if r7 = 0 then (some ((-1), σ)) else ((m_in F x8 0 255).bind (fun r8 => if r8 = 0 then (some ((-1), σ)) else (if (σ.1 57) = 150 then (some ((-1), σ)) else (if okI (σ.1 57) 150 = true then nx (sA σ 40 (σ.1 57).toNatClampNeg x1) (fun σ1 => if okI (σ1.1 57) 150 = true then nx (sA σ1 41 (σ1.1 57).toNatClampNeg x2) (fun σ2 => if okI (σ2.1 57) 150 = true then nx (sA σ2 42 (σ2.1 57).toNatClampNeg x3) (fun σ3 => if okI (σ3.1 57) 150 = true then nx (sA σ3 43 (σ3.1 57).toNatClampNeg x4) (fun σ4 => if okI (σ4.1 57) 150 = true then nx (sA σ4 44 (σ4.1 57).toNatClampNeg x5) (fun σ5 => if okI (σ5.1 57) 150 = true then nx (sA σ5 45 (σ5.1 57).toNatClampNeg x6) (fun σ6 => if okI (σ6.1 57) 150 = true then nx (sA σ6 46 (σ6.1 57).toNatClampNeg x7) (fun σ7 => if okI (σ7.1 57) 150 = true then nx (sA σ7 47 (σ7.1 57).toNatClampNeg x8) (fun σ8 => if okI (σ8.1 57) 150 = true then nx (sA σ8 48 (σ8.1 57).toNatClampNeg (σ8.1 2)) (fun σ9 => nx (sS σ9 57 ((σ9.1 57) + 1)) (fun σ10 => some ((σ10.1 57) - 1, σ10))) else none) else none) else none) else none) else none) else none) else none) else none) else none))))))))))))))))))
theorem met_find {l : Launch} {G : gG} {o F : Nat} {x1 x2 x3 x4 x5 x6 x7 x8 : Int32} {σ : MS} {res : Int32 × MS} (hf : m_find F x1 x2 x3 x4 x5 x6 x7 x8 σ = some res) : MetMi l G yX1_find cX1_find 9 (some .int) 2 o [.int x1, .int x2, .int x3, .int x4, .int x5, .int x6, .int x7, .int x8] σ res := by
  refine metMi_of (by decide) rfl rfl (fun γ hγ M => ?_)
  subst hγ
  show J γ (MW G o σ) 0 0 0 [(0, .ref o), (1, .int x1), (2, .int x2), (3, .int x3), (4, .int x4), (5, .int x5), (6, .int x6), (7, .int x7), (8, .int x8)] []
  unfold m_find at hf
  refine j_iload_n (pc := 0) M.1 dX1_find_0 1 rfl ?_
  refine j_iconst (pc := 1) M.1 dX1_find_1 kc_iconst_0 ?_
  refine j_bipush (pc := 2) M.1 dX1_find_2 kc_bipush_7 ?_
  obtain ⟨r1, g1, hf⟩ := o_bind hf
  refine jm_calls (pc := 4) (As := [.int x1, .int 0, .int 7]) (rest := []) M cs_X1_278 (met_in g1) rfl rfl rfl rfl dX1_find_4 ?_
  refine j_if_eq (pc := 7) M.1 106 dX1_find_7 rfl (fun c1 => ?_) (fun c1 => ?_)
  · replace hf := o_pos c1 hf
    refine j_iconst (pc := 106) M.1 dX1_find_106 kc_iconst_m1 ?_
    exact jm_iret (pc := 107) M dX1_find_107 hf
  · replace hf := o_neg c1 hf
    refine j_iload_n (pc := 10) M.1 dX1_find_10 2 rfl ?_
    refine j_iconst (pc := 11) M.1 dX1_find_11 kc_iconst_0 ?_
    refine j_aload_n (pc := 12) M.1 dX1_find_12 0 rfl ?_
    refine jm_getS (pc := 13) M fm_291 dX1_find_13 ?_
    obtain ⟨r2, g2, hf⟩ := o_bind hf
    refine jm_calls (pc := 16) (As := [.int x2, .int 0, .int (σ.1 2)]) (rest := []) M cs_X1_278 (met_in g2) rfl rfl rfl rfl dX1_find_16 ?_
    refine j_if_eq (pc := 19) M.1 106 dX1_find_19 rfl (fun c2 => ?_) (fun c2 => ?_)
    · replace hf := o_pos c2 hf
      refine j_iconst (pc := 106) M.1 dX1_find_106 kc_iconst_m1 ?_
      exact jm_iret (pc := 107) M dX1_find_107 hf
    · replace hf := o_neg c2 hf
      refine j_iload_n (pc := 22) M.1 dX1_find_22 3 rfl ?_
      refine j_iload_n (pc := 23) M.1 dX1_find_23 2 rfl ?_
      refine j_aload_n (pc := 24) M.1 dX1_find_24 0 rfl ?_
      refine jm_getS (pc := 25) M fm_291 dX1_find_25 ?_
      obtain ⟨r3, g3, hf⟩ := o_bind hf
      refine jm_calls (pc := 28) (As := [.int x3, .int x2, .int (σ.1 2)]) (rest := []) M cs_X1_278 (met_in g3) rfl rfl rfl rfl dX1_find_28 ?_
      refine j_if_eq (pc := 31) M.1 106 dX1_find_31 rfl (fun c3 => ?_) (fun c3 => ?_)
      · replace hf := o_pos c3 hf
        refine j_iconst (pc := 106) M.1 dX1_find_106 kc_iconst_m1 ?_
        exact jm_iret (pc := 107) M dX1_find_107 hf
      · replace hf := o_neg c3 hf
        refine j_iload_n (pc := 34) M.1 dX1_find_34 3 rfl ?_
        refine j_iload_n (pc := 35) M.1 dX1_find_35 2 rfl ?_
        refine j_isub (pc := 36) M.1 dX1_find_36 ?_
        refine j_bipush (pc := 37) M.1 dX1_find_37 kc_bipush_19 ?_
        refine j_icmp_gt (pc := 39) M.1 106 dX1_find_39 rfl (fun c4 => ?_) (fun c4 => ?_)
        · replace hf := o_pos c4 hf
          refine j_iconst (pc := 106) M.1 dX1_find_106 kc_iconst_m1 ?_
          exact jm_iret (pc := 107) M dX1_find_107 hf
        · replace hf := o_neg c4 hf
          refine j_iload (pc := 42) M.1 dX1_find_42 4 rfl ?_
          refine j_iconst (pc := 44) M.1 dX1_find_44 kc_iconst_0 ?_
          refine j_bipush (pc := 45) M.1 dX1_find_45 kc_bipush_99 ?_
          obtain ⟨r4, g4, hf⟩ := o_bind hf
          refine jm_calls (pc := 47) (As := [.int x4, .int 0, .int 99]) (rest := []) M cs_X1_278 (met_in g4) rfl rfl rfl rfl dX1_find_47 ?_
          refine j_if_eq (pc := 50) M.1 106 dX1_find_50 rfl (fun c5 => ?_) (fun c5 => ?_)
          · replace hf := o_pos c5 hf
            refine j_iconst (pc := 106) M.1 dX1_find_106 kc_iconst_m1 ?_
            exact jm_iret (pc := 107) M dX1_find_107 hf
          · replace hf := o_neg c5 hf
            refine j_iload (pc := 53) M.1 dX1_find_53 5 rfl ?_
            obtain ⟨r5, g5, hf⟩ := o_bind hf
            refine jm_calls (pc := 55) (As := [.int x5]) (rest := []) M cs_X1_305 (met_isLayer g5) rfl rfl rfl rfl dX1_find_55 ?_
            refine j_if_eq (pc := 58) M.1 106 dX1_find_58 rfl (fun c6 => ?_) (fun c6 => ?_)
            · replace hf := o_pos c6 hf
              refine j_iconst (pc := 106) M.1 dX1_find_106 kc_iconst_m1 ?_
              exact jm_iret (pc := 107) M dX1_find_107 hf
            · replace hf := o_neg c6 hf
              refine j_iload (pc := 61) M.1 dX1_find_61 6 rfl ?_
              refine j_iload (pc := 63) M.1 dX1_find_63 5 rfl ?_
              refine j_bipush (pc := 65) M.1 dX1_find_65 kc_bipush_7 ?_
              obtain ⟨r6, g6, hf⟩ := o_bind hf
              refine jm_calls (pc := 67) (As := [.int x6, .int x5, .int 7]) (rest := []) M cs_X1_278 (met_in g6) rfl rfl rfl rfl dX1_find_67 ?_
              refine j_if_eq (pc := 70) M.1 106 dX1_find_70 rfl (fun c7 => ?_) (fun c7 => ?_)
              · replace hf := o_pos c7 hf
                refine j_iconst (pc := 106) M.1 dX1_find_106 kc_iconst_m1 ?_
                exact jm_iret (pc := 107) M dX1_find_107 hf
              · replace hf := o_neg c7 hf
                refine j_iload (pc := 73) M.1 dX1_find_73 7 rfl ?_
                refine j_iconst (pc := 75) M.1 dX1_find_75 kc_iconst_0 ?_
                refine j_bipush (pc := 76) M.1 dX1_find_76 kc_bipush_7 ?_
                obtain ⟨r7, g7, hf⟩ := o_bind hf
                refine jm_calls (pc := 78) (As := [.int x7, .int 0, .int 7]) (rest := []) M cs_X1_278 (met_in g7) rfl rfl rfl rfl dX1_find_78 ?_
                refine j_if_eq (pc := 81) M.1 106 dX1_find_81 rfl (fun c8 => ?_) (fun c8 => ?_)
                · replace hf := o_pos c8 hf
                  refine j_iconst (pc := 106) M.1 dX1_find_106 kc_iconst_m1 ?_
                  exact jm_iret (pc := 107) M dX1_find_107 hf
                · replace hf := o_neg c8 hf
                  refine j_iload (pc := 84) M.1 dX1_find_84 8 rfl ?_
                  refine j_iconst (pc := 86) M.1 dX1_find_86 kc_iconst_0 ?_
                  refine j_sipush (pc := 87) M.1 dX1_find_87 kc_sipush_255 ?_
                  obtain ⟨r8, g8, hf⟩ := o_bind hf
                  refine jm_calls (pc := 90) (As := [.int x8, .int 0, .int 255]) (rest := []) M cs_X1_278 (met_in g8) rfl rfl rfl rfl dX1_find_90 ?_
                  refine j_if_eq (pc := 93) M.1 106 dX1_find_93 rfl (fun c9 => ?_) (fun c9 => ?_)
                  · replace hf := o_pos c9 hf
                    refine j_iconst (pc := 106) M.1 dX1_find_106 kc_iconst_m1 ?_
                    exact jm_iret (pc := 107) M dX1_find_107 hf
                  · replace hf := o_neg c9 hf
                    refine j_aload_n (pc := 96) M.1 dX1_find_96 0 rfl ?_
                    refine jm_getS (pc := 97) M fm_470 dX1_find_97 ?_
                    refine j_sipush (pc := 100) M.1 dX1_find_100 kc_sipush_150 ?_
                    refine j_icmp_ne (pc := 103) M.1 108 dX1_find_103 rfl (fun c10 => ?_) (fun c10 => ?_)
                    · replace hf := o_neg c10 hf
                      refine j_aload_n (pc := 108) M.1 dX1_find_108 0 rfl ?_
                      refine jm_getA (pc := 109) M fa_136 dX1_find_109 ?_
                      refine j_aload_n (pc := 112) M.1 dX1_find_112 0 rfl ?_
                      refine jm_getS (pc := 113) M fm_470 dX1_find_113 ?_
                      refine j_iload_n (pc := 116) M.1 dX1_find_116 1 rfl ?_
                      obtain ⟨b1, hf⟩ := o_need hf
                      obtain ⟨σ1, e1, hf⟩ := o_nx hf
                      refine jm_iast (pc := 117) M ax_40 b1 dX1_find_117 e1 ?_
                      refine j_aload_n (pc := 118) M.1 dX1_find_118 0 rfl ?_
                      refine jm_getA (pc := 119) M fa_139 dX1_find_119 ?_
                      refine j_aload_n (pc := 122) M.1 dX1_find_122 0 rfl ?_
                      refine jm_getS (pc := 123) M fm_470 dX1_find_123 ?_
                      refine j_iload_n (pc := 126) M.1 dX1_find_126 2 rfl ?_
                      obtain ⟨b2, hf⟩ := o_need hf
                      obtain ⟨σ2, e2, hf⟩ := o_nx hf
                      refine jm_iast (pc := 127) M ax_41 b2 dX1_find_127 e2 ?_
                      refine j_aload_n (pc := 128) M.1 dX1_find_128 0 rfl ?_
                      refine jm_getA (pc := 129) M fa_142 dX1_find_129 ?_
                      refine j_aload_n (pc := 132) M.1 dX1_find_132 0 rfl ?_
                      refine jm_getS (pc := 133) M fm_470 dX1_find_133 ?_
                      refine j_iload_n (pc := 136) M.1 dX1_find_136 3 rfl ?_
                      obtain ⟨b3, hf⟩ := o_need hf
                      obtain ⟨σ3, e3, hf⟩ := o_nx hf
                      refine jm_iast (pc := 137) M ax_42 b3 dX1_find_137 e3 ?_
                      refine j_aload_n (pc := 138) M.1 dX1_find_138 0 rfl ?_
                      refine jm_getA (pc := 139) M fa_145 dX1_find_139 ?_
                      refine j_aload_n (pc := 142) M.1 dX1_find_142 0 rfl ?_
                      refine jm_getS (pc := 143) M fm_470 dX1_find_143 ?_
                      refine j_iload (pc := 146) M.1 dX1_find_146 4 rfl ?_
                      obtain ⟨b4, hf⟩ := o_need hf
                      obtain ⟨σ4, e4, hf⟩ := o_nx hf
                      refine jm_iast (pc := 148) M ax_43 b4 dX1_find_148 e4 ?_
                      refine j_aload_n (pc := 149) M.1 dX1_find_149 0 rfl ?_
                      refine jm_getA (pc := 150) M fa_148 dX1_find_150 ?_
                      refine j_aload_n (pc := 153) M.1 dX1_find_153 0 rfl ?_
                      refine jm_getS (pc := 154) M fm_470 dX1_find_154 ?_
                      refine j_iload (pc := 157) M.1 dX1_find_157 5 rfl ?_
                      obtain ⟨b5, hf⟩ := o_need hf
                      obtain ⟨σ5, e5, hf⟩ := o_nx hf
                      refine jm_iast (pc := 159) M ax_44 b5 dX1_find_159 e5 ?_
                      refine j_aload_n (pc := 160) M.1 dX1_find_160 0 rfl ?_
                      refine jm_getA (pc := 161) M fa_151 dX1_find_161 ?_
                      refine j_aload_n (pc := 164) M.1 dX1_find_164 0 rfl ?_
                      refine jm_getS (pc := 165) M fm_470 dX1_find_165 ?_
                      refine j_iload (pc := 168) M.1 dX1_find_168 6 rfl ?_
                      obtain ⟨b6, hf⟩ := o_need hf
                      obtain ⟨σ6, e6, hf⟩ := o_nx hf
                      refine jm_iast (pc := 170) M ax_45 b6 dX1_find_170 e6 ?_
                      refine j_aload_n (pc := 171) M.1 dX1_find_171 0 rfl ?_
                      refine jm_getA (pc := 172) M fa_154 dX1_find_172 ?_
                      refine j_aload_n (pc := 175) M.1 dX1_find_175 0 rfl ?_
                      refine jm_getS (pc := 176) M fm_470 dX1_find_176 ?_
                      refine j_iload (pc := 179) M.1 dX1_find_179 7 rfl ?_
                      obtain ⟨b7, hf⟩ := o_need hf
                      obtain ⟨σ7, e7, hf⟩ := o_nx hf
                      refine jm_iast (pc := 181) M ax_46 b7 dX1_find_181 e7 ?_
                      refine j_aload_n (pc := 182) M.1 dX1_find_182 0 rfl ?_
                      refine jm_getA (pc := 183) M fa_157 dX1_find_183 ?_
                      refine j_aload_n (pc := 186) M.1 dX1_find_186 0 rfl ?_
                      refine jm_getS (pc := 187) M fm_470 dX1_find_187 ?_
                      refine j_iload (pc := 190) M.1 dX1_find_190 8 rfl ?_
                      obtain ⟨b8, hf⟩ := o_need hf
                      obtain ⟨σ8, e8, hf⟩ := o_nx hf
                      refine jm_iast (pc := 192) M ax_47 b8 dX1_find_192 e8 ?_
                      refine j_aload_n (pc := 193) M.1 dX1_find_193 0 rfl ?_
                      refine jm_getA (pc := 194) M fa_160 dX1_find_194 ?_
                      refine j_aload_n (pc := 197) M.1 dX1_find_197 0 rfl ?_
                      refine jm_getS (pc := 198) M fm_470 dX1_find_198 ?_
                      refine j_aload_n (pc := 201) M.1 dX1_find_201 0 rfl ?_
                      refine jm_getS (pc := 202) M fm_291 dX1_find_202 ?_
                      obtain ⟨b9, hf⟩ := o_need hf
                      obtain ⟨σ9, e9, hf⟩ := o_nx hf
                      refine jm_iast (pc := 205) M ax_48 b9 dX1_find_205 e9 ?_
                      refine j_aload_n (pc := 206) M.1 dX1_find_206 0 rfl ?_
                      refine j_aload_n (pc := 207) M.1 dX1_find_207 0 rfl ?_
                      refine jm_getS (pc := 208) M fm_470 dX1_find_208 ?_
                      refine j_iconst (pc := 211) M.1 dX1_find_211 kc_iconst_1 ?_
                      refine j_iadd (pc := 212) M.1 dX1_find_212 ?_
                      obtain ⟨σ10, e10, hf⟩ := o_nx hf
                      refine jm_put (pc := 213) M fm_470 dX1_find_213 e10 ?_
                      refine j_aload_n (pc := 216) M.1 dX1_find_216 0 rfl ?_
                      refine jm_getS (pc := 217) M fm_470 dX1_find_217 ?_
                      refine j_iconst (pc := 220) M.1 dX1_find_220 kc_iconst_1 ?_
                      refine j_isub (pc := 221) M.1 dX1_find_221 ?_
                      exact jm_iret (pc := 222) M dX1_find_222 hf
                    · replace hf := o_pos c10 hf
                      refine j_iconst (pc := 106) M.1 dX1_find_106 kc_iconst_m1 ?_
                      exact jm_iret (pc := 107) M dX1_find_107 hf
end
theorem dX1_gone_0 : decode cX1_gone 0 = .ok (.aload_n 0, 1) := by decide +kernel
theorem dX1_gone_1 : decode cX1_gone 1 = .ok (.iload_n 1, 1) := by decide +kernel
theorem dX1_gone_2 : decode cX1_gone 2 = .ok (.invokevirtual 494, 3) := by decide +kernel
theorem dX1_gone_5 : decode cX1_gone 5 = .ok (.ifCond .eq 13, 3) := by decide +kernel
theorem dX1_gone_8 : decode cX1_gone 8 = .ok (.aload_n 0, 1) := by decide +kernel
theorem dX1_gone_9 : decode cX1_gone 9 = .ok (.getfield 181, 3) := by decide +kernel
theorem dX1_gone_12 : decode cX1_gone 12 = .ok (.iload_n 1, 1) := by decide +kernel
theorem dX1_gone_13 : decode cX1_gone 13 = .ok (.baload, 1) := by decide +kernel
theorem dX1_gone_14 : decode cX1_gone 14 = .ok (.iload_n 2, 1) := by decide +kernel
theorem dX1_gone_15 : decode cX1_gone 15 = .ok (.if_icmp .ne 5, 3) := by decide +kernel
theorem dX1_gone_18 : decode cX1_gone 18 = .ok (.iconst 0, 1) := by decide +kernel
theorem dX1_gone_19 : decode cX1_gone 19 = .ok (.ireturn, 1) := by decide +kernel
theorem dX1_gone_20 : decode cX1_gone 20 = .ok (.aload_n 0, 1) := by decide +kernel
theorem dX1_gone_21 : decode cX1_gone 21 = .ok (.getfield 181, 3) := by decide +kernel
theorem dX1_gone_24 : decode cX1_gone 24 = .ok (.iload_n 1, 1) := by decide +kernel
theorem dX1_gone_25 : decode cX1_gone 25 = .ok (.iload_n 2, 1) := by decide +kernel
theorem dX1_gone_26 : decode cX1_gone 26 = .ok (.bastore, 1) := by decide +kernel
theorem dX1_gone_27 : decode cX1_gone 27 = .ok (.iconst 1, 1) := by decide +kernel
theorem dX1_gone_28 : decode cX1_gone 28 = .ok (.ireturn, 1) := by decide +kernel
section
variable {res : Int32 × MS}
noncomputable def m_gone (F : Nat) (x1 x2 : Int32) (σ : MS) : Option (Int32 × MS) :=
  (m_isThing F x1 σ).bind (fun r1 => if r1.1 = 0 then (some (0, r1.2)) else (if okI x1 60 = true then if (r1.2.2 55 x1.toNatClampNeg) = x2 then (some (0, r1.2)) else (if okI x1 60 = true then nx (sA r1.2 55 x1.toNatClampNeg (vp_nar .boolean x2)) (fun σ1 => some (1, σ1)) else none) else none))
theorem met_gone {l : Launch} {G : gG} {o F : Nat} {x1 x2 : Int32} {σ : MS} {res : Int32 × MS} (hf : m_gone F x1 x2 σ = some res) : MetMi l G yX1_gone cX1_gone 3 (some .boolean) 2 o [.int x1, .int x2] σ res := by
  refine metMi_of (by decide) rfl rfl (fun γ hγ M => ?_)
  subst hγ
  show J γ (MW G o σ) 0 0 0 [(0, .ref o), (1, .int x1), (2, .int x2)] []
  unfold m_gone at hf
  refine j_aload_n (pc := 0) M.1 dX1_gone_0 0 rfl ?_
  refine j_iload_n (pc := 1) M.1 dX1_gone_1 1 rfl ?_
  obtain ⟨r1, g1, hf⟩ := o_bind hf
  refine jm_calli (pc := 2) (As := [.int x1]) (rest := []) M cm_494 (met_isThing g1) rfl rfl rfl rfl dX1_gone_2 ?_
  refine j_if_eq (pc := 5) M.1 18 dX1_gone_5 rfl (fun c1 => ?_) (fun c1 => ?_)
  · replace hf := o_pos c1 hf
    refine j_iconst (pc := 18) M.1 dX1_gone_18 kc_iconst_0 ?_
    exact jm_zret (pc := 19) M dX1_gone_19 rfl hf
  · replace hf := o_neg c1 hf
    refine j_aload_n (pc := 8) M.1 dX1_gone_8 0 rfl ?_
    refine jm_getA (pc := 9) M fa_181 dX1_gone_9 ?_
    refine j_iload_n (pc := 12) M.1 dX1_gone_12 1 rfl ?_
    obtain ⟨b1, hf⟩ := o_need hf
    refine jm_zald (pc := 13) M ax_55 b1 dX1_gone_13 ?_
    refine j_iload_n (pc := 14) M.1 dX1_gone_14 2 rfl ?_
    refine j_icmp_ne (pc := 15) M.1 20 dX1_gone_15 rfl (fun c2 => ?_) (fun c2 => ?_)
    · replace hf := o_neg c2 hf
      refine j_aload_n (pc := 20) M.1 dX1_gone_20 0 rfl ?_
      refine jm_getA (pc := 21) M fa_181 dX1_gone_21 ?_
      refine j_iload_n (pc := 24) M.1 dX1_gone_24 1 rfl ?_
      refine j_iload_n (pc := 25) M.1 dX1_gone_25 2 rfl ?_
      obtain ⟨b2, hf⟩ := o_need hf
      obtain ⟨σ1, e1, hf⟩ := o_nx hf
      refine jm_zast (pc := 26) M ax_55 b2 dX1_gone_26 e1 ?_
      refine j_iconst (pc := 27) M.1 dX1_gone_27 kc_iconst_1 ?_
      exact jm_zret (pc := 28) M dX1_gone_28 rfl hf
    · replace hf := o_pos c2 hf
      refine j_iconst (pc := 18) M.1 dX1_gone_18 kc_iconst_0 ?_
      exact jm_zret (pc := 19) M dX1_gone_19 rfl hf
end
theorem dX1_hearsFinds_0 : decode cX1_hearsFinds 0 = .ok (.iconst 0, 1) := by decide +kernel
theorem dX1_hearsFinds_1 : decode cX1_hearsFinds 1 = .ok (.istore_n 2, 1) := by decide +kernel
theorem dX1_hearsFinds_2 : decode cX1_hearsFinds 2 = .ok (.iload_n 2, 1) := by decide +kernel
theorem dX1_hearsFinds_3 : decode cX1_hearsFinds 3 = .ok (.iload_n 1, 1) := by decide +kernel
theorem dX1_hearsFinds_4 : decode cX1_hearsFinds 4 = .ok (.if_icmp .ge 70, 3) := by decide +kernel
theorem dX1_hearsFinds_7 : decode cX1_hearsFinds 7 = .ok (.aload_n 0, 1) := by decide +kernel
theorem dX1_hearsFinds_8 : decode cX1_hearsFinds 8 = .ok (.getfield 172, 3) := by decide +kernel
theorem dX1_hearsFinds_11 : decode cX1_hearsFinds 11 = .ok (.iload_n 2, 1) := by decide +kernel
theorem dX1_hearsFinds_12 : decode cX1_hearsFinds 12 = .ok (.aload_n 0, 1) := by decide +kernel
theorem dX1_hearsFinds_13 : decode cX1_hearsFinds 13 = .ok (.getfield 70, 3) := by decide +kernel
theorem dX1_hearsFinds_16 : decode cX1_hearsFinds 16 = .ok (.iload_n 2, 1) := by decide +kernel
theorem dX1_hearsFinds_17 : decode cX1_hearsFinds 17 = .ok (.baload, 1) := by decide +kernel
theorem dX1_hearsFinds_18 : decode cX1_hearsFinds 18 = .ok (.sipush 255, 3) := by decide +kernel
theorem dX1_hearsFinds_21 : decode cX1_hearsFinds 21 = .ok (.iand, 1) := by decide +kernel
theorem dX1_hearsFinds_22 : decode cX1_hearsFinds 22 = .ok (.iastore, 1) := by decide +kernel
theorem dX1_hearsFinds_23 : decode cX1_hearsFinds 23 = .ok (.aload_n 0, 1) := by decide +kernel
theorem dX1_hearsFinds_24 : decode cX1_hearsFinds 24 = .ok (.aload_n 0, 1) := by decide +kernel
theorem dX1_hearsFinds_25 : decode cX1_hearsFinds 25 = .ok (.getfield 172, 3) := by decide +kernel
theorem dX1_hearsFinds_28 : decode cX1_hearsFinds 28 = .ok (.iload_n 2, 1) := by decide +kernel
theorem dX1_hearsFinds_29 : decode cX1_hearsFinds 29 = .ok (.iaload, 1) := by decide +kernel
theorem dX1_hearsFinds_30 : decode cX1_hearsFinds 30 = .ok (.invokevirtual 482, 3) := by decide +kernel
theorem dX1_hearsFinds_33 : decode cX1_hearsFinds 33 = .ok (.ifCond .ne 5, 3) := by decide +kernel
theorem dX1_hearsFinds_36 : decode cX1_hearsFinds 36 = .ok (.iconst 0, 1) := by decide +kernel
theorem dX1_hearsFinds_37 : decode cX1_hearsFinds 37 = .ok (.ireturn, 1) := by decide +kernel
theorem dX1_hearsFinds_38 : decode cX1_hearsFinds 38 = .ok (.iconst 0, 1) := by decide +kernel
theorem dX1_hearsFinds_39 : decode cX1_hearsFinds 39 = .ok (.istore_n 3, 1) := by decide +kernel
theorem dX1_hearsFinds_40 : decode cX1_hearsFinds 40 = .ok (.iload_n 3, 1) := by decide +kernel
theorem dX1_hearsFinds_41 : decode cX1_hearsFinds 41 = .ok (.iload_n 2, 1) := by decide +kernel
theorem dX1_hearsFinds_42 : decode cX1_hearsFinds 42 = .ok (.if_icmp .ge 26, 3) := by decide +kernel
theorem dX1_hearsFinds_45 : decode cX1_hearsFinds 45 = .ok (.aload_n 0, 1) := by decide +kernel
theorem dX1_hearsFinds_46 : decode cX1_hearsFinds 46 = .ok (.getfield 172, 3) := by decide +kernel
theorem dX1_hearsFinds_49 : decode cX1_hearsFinds 49 = .ok (.iload_n 3, 1) := by decide +kernel
theorem dX1_hearsFinds_50 : decode cX1_hearsFinds 50 = .ok (.iaload, 1) := by decide +kernel
theorem dX1_hearsFinds_51 : decode cX1_hearsFinds 51 = .ok (.aload_n 0, 1) := by decide +kernel
theorem dX1_hearsFinds_52 : decode cX1_hearsFinds 52 = .ok (.getfield 172, 3) := by decide +kernel
theorem dX1_hearsFinds_55 : decode cX1_hearsFinds 55 = .ok (.iload_n 2, 1) := by decide +kernel
theorem dX1_hearsFinds_56 : decode cX1_hearsFinds 56 = .ok (.iaload, 1) := by decide +kernel
theorem dX1_hearsFinds_57 : decode cX1_hearsFinds 57 = .ok (.if_icmp .ne 5, 3) := by decide +kernel
theorem dX1_hearsFinds_60 : decode cX1_hearsFinds 60 = .ok (.iconst 0, 1) := by decide +kernel
theorem dX1_hearsFinds_61 : decode cX1_hearsFinds 61 = .ok (.ireturn, 1) := by decide +kernel
theorem dX1_hearsFinds_62 : decode cX1_hearsFinds 62 = .ok (.iinc 3 1, 3) := by decide +kernel
theorem dX1_hearsFinds_65 : decode cX1_hearsFinds 65 = .ok (.goto (-25), 3) := by decide +kernel
theorem dX1_hearsFinds_68 : decode cX1_hearsFinds 68 = .ok (.iinc 2 1, 3) := by decide +kernel
theorem dX1_hearsFinds_71 : decode cX1_hearsFinds 71 = .ok (.goto (-69), 3) := by decide +kernel
theorem dX1_hearsFinds_74 : decode cX1_hearsFinds 74 = .ok (.iconst 1, 1) := by decide +kernel
theorem dX1_hearsFinds_75 : decode cX1_hearsFinds 75 = .ok (.ireturn, 1) := by decide +kernel
section
variable {res : Int32 × MS}
noncomputable def m_hearsFinds_B40 (F : Nat) (K68 : Int32 × MS → Option (Int32 × MS)) (x1 x2 : Int32) (R : Int32 × MS → Option (Int32 × MS)) (a : Int32 × MS) : Option (Int32 × MS) :=
  if x2 ≤ a.1 then (K68 (a.1, a.2)) else (if okI a.1 100 = true then if okI x2 100 = true then if (a.2.2 52 a.1.toNatClampNeg) = (a.2.2 52 x2.toNatClampNeg) then (some (0, a.2)) else (R (a.1 + 1, a.2)) else none else none)
theorem km_hearsFinds_B40 (M : MC γ cX1_hearsFinds 4 G o 2 (some .boolean) (mQi G o res)) (x1 x2 : Int32) (K68 : Int32 × MS → Option (Int32 × MS)) (hK68 : ∀ a, K68 a = some res → J γ (MW G o a.2) 0 0 68 [(0, .ref o), (1, .int x1), (2, .int x2)] []) : ∀ R : Int32 × MS → Option (Int32 × MS), (∀ a, R a = some res → J γ (MW G o a.2) 0 0 40 [(0, .ref o), (1, .int x1), (2, .int x2), (3, .int a.1)] []) → ∀ a, m_hearsFinds_B40 F K68 x1 x2 R a = some res → J γ (MW G o a.2) 0 0 40 [(0, .ref o), (1, .int x1), (2, .int x2), (3, .int a.1)] [] := by
  intro R hR a hf
  unfold m_hearsFinds_B40 at hf
  refine j_iload_n (pc := 40) M.1 dX1_hearsFinds_40 3 rfl ?_
  refine j_iload_n (pc := 41) M.1 dX1_hearsFinds_41 2 rfl ?_
  refine j_icmp_ge (pc := 42) M.1 68 dX1_hearsFinds_42 rfl (fun c1 => ?_) (fun c1 => ?_)
  · replace hf := o_pos c1 hf
    refine j_sub [0, 1, 2] (show lv_pick _ _ = [(0, .ref o), (1, .int x1), (2, .int x2)] from rfl) ?_
    have hy := hK68 _ hf
    exact hy
  · replace hf := o_neg c1 hf
    refine j_aload_n (pc := 45) M.1 dX1_hearsFinds_45 0 rfl ?_
    refine jm_getA (pc := 46) M fa_172 dX1_hearsFinds_46 ?_
    refine j_iload_n (pc := 49) M.1 dX1_hearsFinds_49 3 rfl ?_
    obtain ⟨b1, hf⟩ := o_need hf
    refine jm_iald (pc := 50) M ax_52 b1 dX1_hearsFinds_50 ?_
    refine j_aload_n (pc := 51) M.1 dX1_hearsFinds_51 0 rfl ?_
    refine jm_getA (pc := 52) M fa_172 dX1_hearsFinds_52 ?_
    refine j_iload_n (pc := 55) M.1 dX1_hearsFinds_55 2 rfl ?_
    obtain ⟨b2, hf⟩ := o_need hf
    refine jm_iald (pc := 56) M ax_52 b2 dX1_hearsFinds_56 ?_
    refine j_icmp_ne (pc := 57) M.1 62 dX1_hearsFinds_57 rfl (fun c2 => ?_) (fun c2 => ?_)
    · replace hf := o_neg c2 hf
      refine j_iinc (pc := 62) M.1 [(3, .int (a.1 + 1)), (0, .ref o), (1, .int x1), (2, .int x2)] dX1_hearsFinds_62 3 rfl (congrArg _ kc_iconst_1) rfl rfl ?_
      refine j_goto (pc := 65) M.1 40 dX1_hearsFinds_65 rfl ?_
      refine j_sub [1, 2, 3, 0] (show lv_pick _ _ = [(0, .ref o), (1, .int x1), (2, .int x2), (3, .int (a.1 + 1))] from rfl) ?_
      have hy := hR _ hf
      exact hy
    · replace hf := o_pos c2 hf
      refine j_iconst (pc := 60) M.1 dX1_hearsFinds_60 kc_iconst_0 ?_
      exact jm_zret (pc := 61) M dX1_hearsFinds_61 rfl hf
noncomputable def m_hearsFinds_B2 (F : Nat) (x1 : Int32) (R : Int32 × MS → Option (Int32 × MS)) (a : Int32 × MS) : Option (Int32 × MS) :=
  if x1 ≤ a.1 then (some (1, a.2)) else (if okI a.1 400 = true then if okI a.1 100 = true then nx (sA a.2 52 a.1.toNatClampNeg ((a.2.2 20 a.1.toNatClampNeg) &&& 255)) (fun σ1 => if okI a.1 100 = true then (m_isFind F (σ1.2 52 a.1.toNatClampNeg) σ1).bind (fun r1 => if r1.1 = 0 then (some (0, r1.2)) else (lp (m_hearsFinds_B40 F (fun a1 => R (a.1 + 1, a1.2)) x1 a.1) F (0, r1.2))) else none) else none else none)
theorem km_hearsFinds_B2 (M : MC γ cX1_hearsFinds 4 G o 2 (some .boolean) (mQi G o res)) (x1 : Int32) : ∀ R : Int32 × MS → Option (Int32 × MS), (∀ a, R a = some res → J γ (MW G o a.2) 0 0 2 [(0, .ref o), (1, .int x1), (2, .int a.1)] []) → ∀ a, m_hearsFinds_B2 F x1 R a = some res → J γ (MW G o a.2) 0 0 2 [(0, .ref o), (1, .int x1), (2, .int a.1)] [] := by
  intro R hR a hf
  unfold m_hearsFinds_B2 at hf
  refine j_iload_n (pc := 2) M.1 dX1_hearsFinds_2 2 rfl ?_
  refine j_iload_n (pc := 3) M.1 dX1_hearsFinds_3 1 rfl ?_
  refine j_icmp_ge (pc := 4) M.1 74 dX1_hearsFinds_4 rfl (fun c1 => ?_) (fun c1 => ?_)
  · replace hf := o_pos c1 hf
    refine j_iconst (pc := 74) M.1 dX1_hearsFinds_74 kc_iconst_1 ?_
    exact jm_zret (pc := 75) M dX1_hearsFinds_75 rfl hf
  · replace hf := o_neg c1 hf
    refine j_aload_n (pc := 7) M.1 dX1_hearsFinds_7 0 rfl ?_
    refine jm_getA (pc := 8) M fa_172 dX1_hearsFinds_8 ?_
    refine j_iload_n (pc := 11) M.1 dX1_hearsFinds_11 2 rfl ?_
    refine j_aload_n (pc := 12) M.1 dX1_hearsFinds_12 0 rfl ?_
    refine jm_getA (pc := 13) M fa_70 dX1_hearsFinds_13 ?_
    refine j_iload_n (pc := 16) M.1 dX1_hearsFinds_16 2 rfl ?_
    obtain ⟨b1, hf⟩ := o_need hf
    refine jm_bald (pc := 17) M ax_20 b1 dX1_hearsFinds_17 ?_
    refine j_sipush (pc := 18) M.1 dX1_hearsFinds_18 kc_sipush_255 ?_
    refine j_iand (pc := 21) M.1 dX1_hearsFinds_21 ?_
    obtain ⟨b2, hf⟩ := o_need hf
    obtain ⟨σ1, e1, hf⟩ := o_nx hf
    refine jm_iast (pc := 22) M ax_52 b2 dX1_hearsFinds_22 e1 ?_
    refine j_aload_n (pc := 23) M.1 dX1_hearsFinds_23 0 rfl ?_
    refine j_aload_n (pc := 24) M.1 dX1_hearsFinds_24 0 rfl ?_
    refine jm_getA (pc := 25) M fa_172 dX1_hearsFinds_25 ?_
    refine j_iload_n (pc := 28) M.1 dX1_hearsFinds_28 2 rfl ?_
    obtain ⟨b3, hf⟩ := o_need hf
    refine jm_iald (pc := 29) M ax_52 b3 dX1_hearsFinds_29 ?_
    obtain ⟨r1, g1, hf⟩ := o_bind hf
    refine jm_calli (pc := 30) (As := [.int (σ1.2 52 a.1.toNatClampNeg)]) (rest := []) M cm_482 (met_isFind g1) rfl rfl rfl rfl dX1_hearsFinds_30 ?_
    refine j_if_ne (pc := 33) M.1 38 dX1_hearsFinds_33 rfl (fun c2 => ?_) (fun c2 => ?_)
    · replace hf := o_neg c2 hf
      refine j_iconst (pc := 38) M.1 dX1_hearsFinds_38 kc_iconst_0 ?_
      refine j_istore_n (pc := 39) M.1 [(3, .int 0), (0, .ref o), (1, .int x1), (2, .int a.1)] dX1_hearsFinds_39 rfl rfl ?_
      refine j_sub [1, 2, 3, 0] (show lv_pick _ _ = [(0, .ref o), (1, .int x1), (2, .int a.1), (3, .int 0)] from rfl) ?_
      refine lp_W (km_hearsFinds_B40 M x1 a.1 _ ?_) F (0, r1.2) hf
      · intro a1 hf
        refine j_iinc (pc := 68) M.1 [(2, .int (a.1 + 1)), (0, .ref o), (1, .int x1)] dX1_hearsFinds_68 2 rfl (congrArg _ kc_iconst_1) rfl rfl ?_
        refine j_goto (pc := 71) M.1 2 dX1_hearsFinds_71 rfl ?_
        refine j_sub [1, 2, 0] (show lv_pick _ _ = [(0, .ref o), (1, .int x1), (2, .int (a.1 + 1))] from rfl) ?_
        have hy := hR _ hf
        exact hy
    · replace hf := o_pos c2 hf
      refine j_iconst (pc := 36) M.1 dX1_hearsFinds_36 kc_iconst_0 ?_
      exact jm_zret (pc := 37) M dX1_hearsFinds_37 rfl hf
noncomputable def m_hearsFinds (F : Nat) (x1 : Int32) (σ : MS) : Option (Int32 × MS) :=
  lp (m_hearsFinds_B2 F x1) F (0, σ)
theorem met_hearsFinds {l : Launch} {G : gG} {o F : Nat} {x1 : Int32} {σ : MS} {res : Int32 × MS} (hf : m_hearsFinds F x1 σ = some res) : MetMi l G yX1_hearsFinds cX1_hearsFinds 4 (some .boolean) 2 o [.int x1] σ res := by
  refine metMi_of (by decide) rfl rfl (fun γ hγ M => ?_)
  subst hγ
  show J γ (MW G o σ) 0 0 0 [(0, .ref o), (1, .int x1)] []
  unfold m_hearsFinds at hf
  refine j_iconst (pc := 0) M.1 dX1_hearsFinds_0 kc_iconst_0 ?_
  refine j_istore_n (pc := 1) M.1 [(2, .int 0), (0, .ref o), (1, .int x1)] dX1_hearsFinds_1 rfl rfl ?_
  refine j_sub [1, 2, 0] (show lv_pick _ _ = [(0, .ref o), (1, .int x1), (2, .int 0)] from rfl) ?_
  refine lp_W (km_hearsFinds_B2 M x1) F (0, σ) hf
end
theorem dX1_height_0 : decode cX1_height 0 = .ok (.aload_n 0, 1) := by decide +kernel
theorem dX1_height_1 : decode cX1_height 1 = .ok (.iload_n 1, 1) := by decide +kernel
theorem dX1_height_2 : decode cX1_height 2 = .ok (.invokevirtual 294, 3) := by decide +kernel
theorem dX1_height_5 : decode cX1_height 5 = .ok (.ifCond .eq 13, 3) := by decide +kernel
theorem dX1_height_8 : decode cX1_height 8 = .ok (.iload_n 2, 1) := by decide +kernel
theorem dX1_height_9 : decode cX1_height 9 = .ok (.iconst 0, 1) := by decide +kernel
theorem dX1_height_10 : decode cX1_height 10 = .ok (.bipush 8, 2) := by decide +kernel
theorem dX1_height_12 : decode cX1_height 12 = .ok (.invokestatic 278, 3) := by decide +kernel
theorem dX1_height_15 : decode cX1_height 15 = .ok (.ifCond .ne 5, 3) := by decide +kernel
theorem dX1_height_18 : decode cX1_height 18 = .ok (.iconst 0, 1) := by decide +kernel
theorem dX1_height_19 : decode cX1_height 19 = .ok (.ireturn, 1) := by decide +kernel
theorem dX1_height_20 : decode cX1_height 20 = .ok (.aload_n 0, 1) := by decide +kernel
theorem dX1_height_21 : decode cX1_height 21 = .ok (.getfield 7, 3) := by decide +kernel
theorem dX1_height_24 : decode cX1_height 24 = .ok (.iload_n 1, 1) := by decide +kernel
theorem dX1_height_25 : decode cX1_height 25 = .ok (.iload_n 2, 1) := by decide +kernel
theorem dX1_height_26 : decode cX1_height 26 = .ok (.iastore, 1) := by decide +kernel
theorem dX1_height_27 : decode cX1_height 27 = .ok (.iconst 1, 1) := by decide +kernel
theorem dX1_height_28 : decode cX1_height 28 = .ok (.ireturn, 1) := by decide +kernel
section
variable {res : Int32 × MS}
noncomputable def m_height (F : Nat) (x1 x2 : Int32) (σ : MS) : Option (Int32 × MS) :=
  (m_isCell F x1 σ).bind (fun r1 => if r1.1 = 0 then (some (0, r1.2)) else ((m_in F x2 0 8).bind (fun r2 => if r2 = 0 then (some (0, r1.2)) else (if okI x1 100 = true then nx (sA r1.2 0 x1.toNatClampNeg x2) (fun σ1 => some (1, σ1)) else none))))
theorem met_height {l : Launch} {G : gG} {o F : Nat} {x1 x2 : Int32} {σ : MS} {res : Int32 × MS} (hf : m_height F x1 x2 σ = some res) : MetMi l G yX1_height cX1_height 3 (some .boolean) 2 o [.int x1, .int x2] σ res := by
  refine metMi_of (by decide) rfl rfl (fun γ hγ M => ?_)
  subst hγ
  show J γ (MW G o σ) 0 0 0 [(0, .ref o), (1, .int x1), (2, .int x2)] []
  unfold m_height at hf
  refine j_aload_n (pc := 0) M.1 dX1_height_0 0 rfl ?_
  refine j_iload_n (pc := 1) M.1 dX1_height_1 1 rfl ?_
  obtain ⟨r1, g1, hf⟩ := o_bind hf
  refine jm_calli (pc := 2) (As := [.int x1]) (rest := []) M cm_294 (met_isCell g1) rfl rfl rfl rfl dX1_height_2 ?_
  refine j_if_eq (pc := 5) M.1 18 dX1_height_5 rfl (fun c1 => ?_) (fun c1 => ?_)
  · replace hf := o_pos c1 hf
    refine j_iconst (pc := 18) M.1 dX1_height_18 kc_iconst_0 ?_
    exact jm_zret (pc := 19) M dX1_height_19 rfl hf
  · replace hf := o_neg c1 hf
    refine j_iload_n (pc := 8) M.1 dX1_height_8 2 rfl ?_
    refine j_iconst (pc := 9) M.1 dX1_height_9 kc_iconst_0 ?_
    refine j_bipush (pc := 10) M.1 dX1_height_10 kc_bipush_8 ?_
    obtain ⟨r2, g2, hf⟩ := o_bind hf
    refine jm_calls (pc := 12) (As := [.int x2, .int 0, .int 8]) (rest := []) M cs_X1_278 (met_in g2) rfl rfl rfl rfl dX1_height_12 ?_
    refine j_if_ne (pc := 15) M.1 20 dX1_height_15 rfl (fun c2 => ?_) (fun c2 => ?_)
    · replace hf := o_neg c2 hf
      refine j_aload_n (pc := 20) M.1 dX1_height_20 0 rfl ?_
      refine jm_getA (pc := 21) M fa_7 dX1_height_21 ?_
      refine j_iload_n (pc := 24) M.1 dX1_height_24 1 rfl ?_
      refine j_iload_n (pc := 25) M.1 dX1_height_25 2 rfl ?_
      obtain ⟨b1, hf⟩ := o_need hf
      obtain ⟨σ1, e1, hf⟩ := o_nx hf
      refine jm_iast (pc := 26) M ax_0 b1 dX1_height_26 e1 ?_
      refine j_iconst (pc := 27) M.1 dX1_height_27 kc_iconst_1 ?_
      exact jm_zret (pc := 28) M dX1_height_28 rfl hf
    · replace hf := o_pos c2 hf
      refine j_iconst (pc := 18) M.1 dX1_height_18 kc_iconst_0 ?_
      exact jm_zret (pc := 19) M dX1_height_19 rfl hf
end
theorem dX1_hollow_0 : decode cX1_hollow 0 = .ok (.aload_n 0, 1) := by decide +kernel
theorem dX1_hollow_1 : decode cX1_hollow 1 = .ok (.iload_n 1, 1) := by decide +kernel
theorem dX1_hollow_2 : decode cX1_hollow 2 = .ok (.invokevirtual 294, 3) := by decide +kernel
theorem dX1_hollow_5 : decode cX1_hollow 5 = .ok (.ifCond .eq 19, 3) := by decide +kernel
theorem dX1_hollow_8 : decode cX1_hollow 8 = .ok (.iload_n 2, 1) := by decide +kernel
theorem dX1_hollow_9 : decode cX1_hollow 9 = .ok (.invokestatic 305, 3) := by decide +kernel
theorem dX1_hollow_12 : decode cX1_hollow 12 = .ok (.ifCond .eq 12, 3) := by decide +kernel
theorem dX1_hollow_15 : decode cX1_hollow 15 = .ok (.aload_n 0, 1) := by decide +kernel
theorem dX1_hollow_16 : decode cX1_hollow 16 = .ok (.getfield 288, 3) := by decide +kernel
theorem dX1_hollow_19 : decode cX1_hollow 19 = .ok (.bipush 40, 2) := by decide +kernel
theorem dX1_hollow_21 : decode cX1_hollow 21 = .ok (.if_icmp .ne 5, 3) := by decide +kernel
theorem dX1_hollow_24 : decode cX1_hollow 24 = .ok (.iconst (-1), 1) := by decide +kernel
theorem dX1_hollow_25 : decode cX1_hollow 25 = .ok (.ireturn, 1) := by decide +kernel
theorem dX1_hollow_26 : decode cX1_hollow 26 = .ok (.aload_n 0, 1) := by decide +kernel
theorem dX1_hollow_27 : decode cX1_hollow 27 = .ok (.getfield 232, 3) := by decide +kernel
theorem dX1_hollow_30 : decode cX1_hollow 30 = .ok (.aload_n 0, 1) := by decide +kernel
theorem dX1_hollow_31 : decode cX1_hollow 31 = .ok (.getfield 288, 3) := by decide +kernel
theorem dX1_hollow_34 : decode cX1_hollow 34 = .ok (.iload_n 1, 1) := by decide +kernel
theorem dX1_hollow_35 : decode cX1_hollow 35 = .ok (.iastore, 1) := by decide +kernel
theorem dX1_hollow_36 : decode cX1_hollow 36 = .ok (.aload_n 0, 1) := by decide +kernel
theorem dX1_hollow_37 : decode cX1_hollow 37 = .ok (.getfield 235, 3) := by decide +kernel
theorem dX1_hollow_40 : decode cX1_hollow 40 = .ok (.aload_n 0, 1) := by decide +kernel
theorem dX1_hollow_41 : decode cX1_hollow 41 = .ok (.getfield 288, 3) := by decide +kernel
theorem dX1_hollow_44 : decode cX1_hollow 44 = .ok (.iload_n 2, 1) := by decide +kernel
theorem dX1_hollow_45 : decode cX1_hollow 45 = .ok (.iastore, 1) := by decide +kernel
theorem dX1_hollow_46 : decode cX1_hollow 46 = .ok (.aload_n 0, 1) := by decide +kernel
theorem dX1_hollow_47 : decode cX1_hollow 47 = .ok (.aload_n 0, 1) := by decide +kernel
theorem dX1_hollow_48 : decode cX1_hollow 48 = .ok (.getfield 288, 3) := by decide +kernel
theorem dX1_hollow_51 : decode cX1_hollow 51 = .ok (.iconst 1, 1) := by decide +kernel
theorem dX1_hollow_52 : decode cX1_hollow 52 = .ok (.iadd, 1) := by decide +kernel
theorem dX1_hollow_53 : decode cX1_hollow 53 = .ok (.putfield 288, 3) := by decide +kernel
theorem dX1_hollow_56 : decode cX1_hollow 56 = .ok (.aload_n 0, 1) := by decide +kernel
theorem dX1_hollow_57 : decode cX1_hollow 57 = .ok (.getfield 288, 3) := by decide +kernel
theorem dX1_hollow_60 : decode cX1_hollow 60 = .ok (.iconst 1, 1) := by decide +kernel
theorem dX1_hollow_61 : decode cX1_hollow 61 = .ok (.isub, 1) := by decide +kernel
theorem dX1_hollow_62 : decode cX1_hollow 62 = .ok (.ireturn, 1) := by decide +kernel
section
variable {res : Int32 × MS}
noncomputable def m_hollow (F : Nat) (x1 x2 : Int32) (σ : MS) : Option (Int32 × MS) :=
  (m_isCell F x1 σ).bind (fun r1 => if r1.1 = 0 then (some ((-1), r1.2)) else ((m_isLayer F x2).bind (fun r2 => if r2 = 0 then (some ((-1), r1.2)) else (if (r1.2.1 90) = 40 then (some ((-1), r1.2)) else (if okI (r1.2.1 90) 40 = true then nx (sA r1.2 72 (r1.2.1 90).toNatClampNeg x1) (fun σ1 => if okI (σ1.1 90) 40 = true then nx (sA σ1 73 (σ1.1 90).toNatClampNeg x2) (fun σ2 => nx (sS σ2 90 ((σ2.1 90) + 1)) (fun σ3 => some ((σ3.1 90) - 1, σ3))) else none) else none)))))
theorem met_hollow {l : Launch} {G : gG} {o F : Nat} {x1 x2 : Int32} {σ : MS} {res : Int32 × MS} (hf : m_hollow F x1 x2 σ = some res) : MetMi l G yX1_hollow cX1_hollow 3 (some .int) 2 o [.int x1, .int x2] σ res := by
  refine metMi_of (by decide) rfl rfl (fun γ hγ M => ?_)
  subst hγ
  show J γ (MW G o σ) 0 0 0 [(0, .ref o), (1, .int x1), (2, .int x2)] []
  unfold m_hollow at hf
  refine j_aload_n (pc := 0) M.1 dX1_hollow_0 0 rfl ?_
  refine j_iload_n (pc := 1) M.1 dX1_hollow_1 1 rfl ?_
  obtain ⟨r1, g1, hf⟩ := o_bind hf
  refine jm_calli (pc := 2) (As := [.int x1]) (rest := []) M cm_294 (met_isCell g1) rfl rfl rfl rfl dX1_hollow_2 ?_
  refine j_if_eq (pc := 5) M.1 24 dX1_hollow_5 rfl (fun c1 => ?_) (fun c1 => ?_)
  · replace hf := o_pos c1 hf
    refine j_iconst (pc := 24) M.1 dX1_hollow_24 kc_iconst_m1 ?_
    exact jm_iret (pc := 25) M dX1_hollow_25 hf
  · replace hf := o_neg c1 hf
    refine j_iload_n (pc := 8) M.1 dX1_hollow_8 2 rfl ?_
    obtain ⟨r2, g2, hf⟩ := o_bind hf
    refine jm_calls (pc := 9) (As := [.int x2]) (rest := []) M cs_X1_305 (met_isLayer g2) rfl rfl rfl rfl dX1_hollow_9 ?_
    refine j_if_eq (pc := 12) M.1 24 dX1_hollow_12 rfl (fun c2 => ?_) (fun c2 => ?_)
    · replace hf := o_pos c2 hf
      refine j_iconst (pc := 24) M.1 dX1_hollow_24 kc_iconst_m1 ?_
      exact jm_iret (pc := 25) M dX1_hollow_25 hf
    · replace hf := o_neg c2 hf
      refine j_aload_n (pc := 15) M.1 dX1_hollow_15 0 rfl ?_
      refine jm_getS (pc := 16) M fm_288 dX1_hollow_16 ?_
      refine j_bipush (pc := 19) M.1 dX1_hollow_19 kc_bipush_40 ?_
      refine j_icmp_ne (pc := 21) M.1 26 dX1_hollow_21 rfl (fun c3 => ?_) (fun c3 => ?_)
      · replace hf := o_neg c3 hf
        refine j_aload_n (pc := 26) M.1 dX1_hollow_26 0 rfl ?_
        refine jm_getA (pc := 27) M fa_232 dX1_hollow_27 ?_
        refine j_aload_n (pc := 30) M.1 dX1_hollow_30 0 rfl ?_
        refine jm_getS (pc := 31) M fm_288 dX1_hollow_31 ?_
        refine j_iload_n (pc := 34) M.1 dX1_hollow_34 1 rfl ?_
        obtain ⟨b1, hf⟩ := o_need hf
        obtain ⟨σ1, e1, hf⟩ := o_nx hf
        refine jm_iast (pc := 35) M ax_72 b1 dX1_hollow_35 e1 ?_
        refine j_aload_n (pc := 36) M.1 dX1_hollow_36 0 rfl ?_
        refine jm_getA (pc := 37) M fa_235 dX1_hollow_37 ?_
        refine j_aload_n (pc := 40) M.1 dX1_hollow_40 0 rfl ?_
        refine jm_getS (pc := 41) M fm_288 dX1_hollow_41 ?_
        refine j_iload_n (pc := 44) M.1 dX1_hollow_44 2 rfl ?_
        obtain ⟨b2, hf⟩ := o_need hf
        obtain ⟨σ2, e2, hf⟩ := o_nx hf
        refine jm_iast (pc := 45) M ax_73 b2 dX1_hollow_45 e2 ?_
        refine j_aload_n (pc := 46) M.1 dX1_hollow_46 0 rfl ?_
        refine j_aload_n (pc := 47) M.1 dX1_hollow_47 0 rfl ?_
        refine jm_getS (pc := 48) M fm_288 dX1_hollow_48 ?_
        refine j_iconst (pc := 51) M.1 dX1_hollow_51 kc_iconst_1 ?_
        refine j_iadd (pc := 52) M.1 dX1_hollow_52 ?_
        obtain ⟨σ3, e3, hf⟩ := o_nx hf
        refine jm_put (pc := 53) M fm_288 dX1_hollow_53 e3 ?_
        refine j_aload_n (pc := 56) M.1 dX1_hollow_56 0 rfl ?_
        refine jm_getS (pc := 57) M fm_288 dX1_hollow_57 ?_
        refine j_iconst (pc := 60) M.1 dX1_hollow_60 kc_iconst_1 ?_
        refine j_isub (pc := 61) M.1 dX1_hollow_61 ?_
        exact jm_iret (pc := 62) M dX1_hollow_62 hf
      · replace hf := o_pos c3 hf
        refine j_iconst (pc := 24) M.1 dX1_hollow_24 kc_iconst_m1 ?_
        exact jm_iret (pc := 25) M dX1_hollow_25 hf
end
theorem dX1_hour_0 : decode cX1_hour 0 = .ok (.iload_n 1, 1) := by decide +kernel
theorem dX1_hour_1 : decode cX1_hour 1 = .ok (.invokestatic 305, 3) := by decide +kernel
theorem dX1_hour_4 : decode cX1_hour 4 = .ok (.ifCond .eq 19, 3) := by decide +kernel
theorem dX1_hour_7 : decode cX1_hour 7 = .ok (.iload_n 2, 1) := by decide +kernel
theorem dX1_hour_8 : decode cX1_hour 8 = .ok (.iconst 0, 1) := by decide +kernel
theorem dX1_hour_9 : decode cX1_hour 9 = .ok (.iconst 1, 1) := by decide +kernel
theorem dX1_hour_10 : decode cX1_hour 10 = .ok (.invokestatic 278, 3) := by decide +kernel
theorem dX1_hour_13 : decode cX1_hour 13 = .ok (.ifCond .eq 10, 3) := by decide +kernel
theorem dX1_hour_16 : decode cX1_hour 16 = .ok (.aload_n 0, 1) := by decide +kernel
theorem dX1_hour_17 : decode cX1_hour 17 = .ok (.invokevirtual 543, 3) := by decide +kernel
theorem dX1_hour_20 : decode cX1_hour 20 = .ok (.ifCond .ne 5, 3) := by decide +kernel
theorem dX1_hour_23 : decode cX1_hour 23 = .ok (.iconst (-1), 1) := by decide +kernel
theorem dX1_hour_24 : decode cX1_hour 24 = .ok (.ireturn, 1) := by decide +kernel
theorem dX1_hour_25 : decode cX1_hour 25 = .ok (.iload_n 2, 1) := by decide +kernel
theorem dX1_hour_26 : decode cX1_hour 26 = .ok (.ifCond .ne 12, 3) := by decide +kernel
theorem dX1_hour_29 : decode cX1_hour 29 = .ok (.aload_n 0, 1) := by decide +kernel
theorem dX1_hour_30 : decode cX1_hour 30 = .ok (.getfield 226, 3) := by decide +kernel
theorem dX1_hour_33 : decode cX1_hour 33 = .ok (.iload_n 1, 1) := by decide +kernel
theorem dX1_hour_34 : decode cX1_hour 34 = .ok (.iaload, 1) := by decide +kernel
theorem dX1_hour_35 : decode cX1_hour 35 = .ok (.goto 9, 3) := by decide +kernel
theorem dX1_hour_38 : decode cX1_hour 38 = .ok (.aload_n 0, 1) := by decide +kernel
theorem dX1_hour_39 : decode cX1_hour 39 = .ok (.getfield 229, 3) := by decide +kernel
theorem dX1_hour_42 : decode cX1_hour 42 = .ok (.iload_n 1, 1) := by decide +kernel
theorem dX1_hour_43 : decode cX1_hour 43 = .ok (.iaload, 1) := by decide +kernel
theorem dX1_hour_44 : decode cX1_hour 44 = .ok (.ireturn, 1) := by decide +kernel
section
variable {res : Int32 × MS}
noncomputable def m_hour (F : Nat) (x1 x2 : Int32) (σ : MS) : Option (Int32 × MS) :=
  (m_isLayer F x1).bind (fun r1 => if r1 = 0 then (some ((-1), σ)) else ((m_in F x2 0 1).bind (fun r2 => if r2 = 0 then (some ((-1), σ)) else ((m_hours F σ).bind (fun r3 => if r3.1 = 0 then (some ((-1), r3.2)) else (if x2 = 0 then (if okI x1 8 = true then some (r3.2.2 70 x1.toNatClampNeg, r3.2) else none) else (if okI x1 8 = true then some (r3.2.2 71 x1.toNatClampNeg, r3.2) else none)))))))
theorem met_hour {l : Launch} {G : gG} {o F : Nat} {x1 x2 : Int32} {σ : MS} {res : Int32 × MS} (hf : m_hour F x1 x2 σ = some res) : MetMi l G yX1_hour cX1_hour 3 (some .int) 2 o [.int x1, .int x2] σ res := by
  refine metMi_of (by decide) rfl rfl (fun γ hγ M => ?_)
  subst hγ
  show J γ (MW G o σ) 0 0 0 [(0, .ref o), (1, .int x1), (2, .int x2)] []
  unfold m_hour at hf
  refine j_iload_n (pc := 0) M.1 dX1_hour_0 1 rfl ?_
  obtain ⟨r1, g1, hf⟩ := o_bind hf
  refine jm_calls (pc := 1) (As := [.int x1]) (rest := []) M cs_X1_305 (met_isLayer g1) rfl rfl rfl rfl dX1_hour_1 ?_
  refine j_if_eq (pc := 4) M.1 23 dX1_hour_4 rfl (fun c1 => ?_) (fun c1 => ?_)
  · replace hf := o_pos c1 hf
    refine j_iconst (pc := 23) M.1 dX1_hour_23 kc_iconst_m1 ?_
    exact jm_iret (pc := 24) M dX1_hour_24 hf
  · replace hf := o_neg c1 hf
    refine j_iload_n (pc := 7) M.1 dX1_hour_7 2 rfl ?_
    refine j_iconst (pc := 8) M.1 dX1_hour_8 kc_iconst_0 ?_
    refine j_iconst (pc := 9) M.1 dX1_hour_9 kc_iconst_1 ?_
    obtain ⟨r2, g2, hf⟩ := o_bind hf
    refine jm_calls (pc := 10) (As := [.int x2, .int 0, .int 1]) (rest := []) M cs_X1_278 (met_in g2) rfl rfl rfl rfl dX1_hour_10 ?_
    refine j_if_eq (pc := 13) M.1 23 dX1_hour_13 rfl (fun c2 => ?_) (fun c2 => ?_)
    · replace hf := o_pos c2 hf
      refine j_iconst (pc := 23) M.1 dX1_hour_23 kc_iconst_m1 ?_
      exact jm_iret (pc := 24) M dX1_hour_24 hf
    · replace hf := o_neg c2 hf
      refine j_aload_n (pc := 16) M.1 dX1_hour_16 0 rfl ?_
      obtain ⟨r3, g3, hf⟩ := o_bind hf
      refine jm_calli (pc := 17) (As := []) (rest := []) M cm_543 (met_hours g3) rfl rfl rfl rfl dX1_hour_17 ?_
      refine j_if_ne (pc := 20) M.1 25 dX1_hour_20 rfl (fun c3 => ?_) (fun c3 => ?_)
      · replace hf := o_neg c3 hf
        refine j_iload_n (pc := 25) M.1 dX1_hour_25 2 rfl ?_
        refine j_if_ne (pc := 26) M.1 38 dX1_hour_26 rfl (fun c4 => ?_) (fun c4 => ?_)
        · replace hf := o_neg c4 hf
          refine j_aload_n (pc := 38) M.1 dX1_hour_38 0 rfl ?_
          refine jm_getA (pc := 39) M fa_229 dX1_hour_39 ?_
          refine j_iload_n (pc := 42) M.1 dX1_hour_42 1 rfl ?_
          obtain ⟨b1, hf⟩ := o_need hf
          refine jm_iald (pc := 43) M ax_71 b1 dX1_hour_43 ?_
          exact jm_iret (pc := 44) M dX1_hour_44 hf
        · replace hf := o_pos c4 hf
          refine j_aload_n (pc := 29) M.1 dX1_hour_29 0 rfl ?_
          refine jm_getA (pc := 30) M fa_226 dX1_hour_30 ?_
          refine j_iload_n (pc := 33) M.1 dX1_hour_33 1 rfl ?_
          obtain ⟨b2, hf⟩ := o_need hf
          refine jm_iald (pc := 34) M ax_70 b2 dX1_hour_34 ?_
          refine j_goto (pc := 35) M.1 44 dX1_hour_35 rfl ?_
          exact jm_iret (pc := 44) M dX1_hour_44 hf
      · replace hf := o_pos c3 hf
        refine j_iconst (pc := 23) M.1 dX1_hour_23 kc_iconst_m1 ?_
        exact jm_iret (pc := 24) M dX1_hour_24 hf
end
theorem dX1_isDigit_0 : decode cX1_isDigit 0 = .ok (.aload_n 0, 1) := by decide +kernel
theorem dX1_isDigit_1 : decode cX1_isDigit 1 = .ok (.invokevirtual 354, 3) := by decide +kernel
theorem dX1_isDigit_4 : decode cX1_isDigit 4 = .ok (.bipush 48, 2) := by decide +kernel
theorem dX1_isDigit_6 : decode cX1_isDigit 6 = .ok (.if_icmp .lt 16, 3) := by decide +kernel
theorem dX1_isDigit_9 : decode cX1_isDigit 9 = .ok (.aload_n 0, 1) := by decide +kernel
theorem dX1_isDigit_10 : decode cX1_isDigit 10 = .ok (.invokevirtual 354, 3) := by decide +kernel
theorem dX1_isDigit_13 : decode cX1_isDigit 13 = .ok (.bipush 57, 2) := by decide +kernel
theorem dX1_isDigit_15 : decode cX1_isDigit 15 = .ok (.if_icmp .gt 7, 3) := by decide +kernel
theorem dX1_isDigit_18 : decode cX1_isDigit 18 = .ok (.iconst 1, 1) := by decide +kernel
theorem dX1_isDigit_19 : decode cX1_isDigit 19 = .ok (.goto 4, 3) := by decide +kernel
theorem dX1_isDigit_22 : decode cX1_isDigit 22 = .ok (.iconst 0, 1) := by decide +kernel
theorem dX1_isDigit_23 : decode cX1_isDigit 23 = .ok (.ireturn, 1) := by decide +kernel
section
variable {res : Int32 × MS}
noncomputable def m_isDigit (F : Nat) (σ : MS) : Option (Int32 × MS) :=
  (m_byteHere F σ).bind (fun r1 => if r1.1 < 48 then (some (0, r1.2)) else ((m_byteHere F r1.2).bind (fun r2 => if 57 < r2.1 then (some (0, r2.2)) else (some (1, r2.2)))))
theorem met_isDigit {l : Launch} {G : gG} {o F : Nat} {σ : MS} {res : Int32 × MS} (hf : m_isDigit F σ = some res) : MetMi l G yX1_isDigit cX1_isDigit 1 (some .boolean) 2 o [] σ res := by
  refine metMi_of (by decide) rfl rfl (fun γ hγ M => ?_)
  subst hγ
  show J γ (MW G o σ) 0 0 0 [(0, .ref o)] []
  unfold m_isDigit at hf
  refine j_aload_n (pc := 0) M.1 dX1_isDigit_0 0 rfl ?_
  obtain ⟨r1, g1, hf⟩ := o_bind hf
  refine jm_calli (pc := 1) (As := []) (rest := []) M cm_354 (met_byteHere g1) rfl rfl rfl rfl dX1_isDigit_1 ?_
  refine j_bipush (pc := 4) M.1 dX1_isDigit_4 kc_bipush_48 ?_
  refine j_icmp_lt (pc := 6) M.1 22 dX1_isDigit_6 rfl (fun c1 => ?_) (fun c1 => ?_)
  · replace hf := o_pos c1 hf
    refine j_iconst (pc := 22) M.1 dX1_isDigit_22 kc_iconst_0 ?_
    exact jm_zret (pc := 23) M dX1_isDigit_23 rfl hf
  · replace hf := o_neg c1 hf
    refine j_aload_n (pc := 9) M.1 dX1_isDigit_9 0 rfl ?_
    obtain ⟨r2, g2, hf⟩ := o_bind hf
    refine jm_calli (pc := 10) (As := []) (rest := []) M cm_354 (met_byteHere g2) rfl rfl rfl rfl dX1_isDigit_10 ?_
    refine j_bipush (pc := 13) M.1 dX1_isDigit_13 kc_bipush_57 ?_
    refine j_icmp_gt (pc := 15) M.1 22 dX1_isDigit_15 rfl (fun c2 => ?_) (fun c2 => ?_)
    · replace hf := o_pos c2 hf
      refine j_iconst (pc := 22) M.1 dX1_isDigit_22 kc_iconst_0 ?_
      exact jm_zret (pc := 23) M dX1_isDigit_23 rfl hf
    · replace hf := o_neg c2 hf
      refine j_iconst (pc := 18) M.1 dX1_isDigit_18 kc_iconst_1 ?_
      refine j_goto (pc := 19) M.1 23 dX1_isDigit_19 rfl ?_
      exact jm_zret (pc := 23) M dX1_isDigit_23 rfl hf
end
theorem dX1_isForce_0 : decode cX1_isForce 0 = .ok (.iload_n 2, 1) := by decide +kernel
theorem dX1_isForce_1 : decode cX1_isForce 1 = .ok (.aload_n 0, 1) := by decide +kernel
theorem dX1_isForce_2 : decode cX1_isForce 2 = .ok (.getfield 98, 3) := by decide +kernel
theorem dX1_isForce_5 : decode cX1_isForce 5 = .ok (.iload_n 1, 1) := by decide +kernel
theorem dX1_isForce_6 : decode cX1_isForce 6 = .ok (.iaload, 1) := by decide +kernel
theorem dX1_isForce_7 : decode cX1_isForce 7 = .ok (.aload_n 0, 1) := by decide +kernel
theorem dX1_isForce_8 : decode cX1_isForce 8 = .ok (.getfield 101, 3) := by decide +kernel
theorem dX1_isForce_11 : decode cX1_isForce 11 = .ok (.iload_n 1, 1) := by decide +kernel
theorem dX1_isForce_12 : decode cX1_isForce 12 = .ok (.iaload, 1) := by decide +kernel
theorem dX1_isForce_13 : decode cX1_isForce 13 = .ok (.invokestatic 278, 3) := by decide +kernel
theorem dX1_isForce_16 : decode cX1_isForce 16 = .ok (.ireturn, 1) := by decide +kernel
section
variable {res : Int32 × MS}
noncomputable def m_isForce (F : Nat) (x1 x2 : Int32) (σ : MS) : Option (Int32 × MS) :=
  if okI x1 20 = true then if okI x1 20 = true then (m_in F x2 (σ.2 29 x1.toNatClampNeg) (σ.2 30 x1.toNatClampNeg)).bind (fun r1 => if okB r1 = true then some (r1, σ) else none) else none else none
theorem met_isForce {l : Launch} {G : gG} {o F : Nat} {x1 x2 : Int32} {σ : MS} {res : Int32 × MS} (hf : m_isForce F x1 x2 σ = some res) : MetMi l G yX1_isForce cX1_isForce 3 (some .boolean) 2 o [.int x1, .int x2] σ res := by
  refine metMi_of (by decide) rfl rfl (fun γ hγ M => ?_)
  subst hγ
  show J γ (MW G o σ) 0 0 0 [(0, .ref o), (1, .int x1), (2, .int x2)] []
  unfold m_isForce at hf
  refine j_iload_n (pc := 0) M.1 dX1_isForce_0 2 rfl ?_
  refine j_aload_n (pc := 1) M.1 dX1_isForce_1 0 rfl ?_
  refine jm_getA (pc := 2) M fa_98 dX1_isForce_2 ?_
  refine j_iload_n (pc := 5) M.1 dX1_isForce_5 1 rfl ?_
  obtain ⟨b1, hf⟩ := o_need hf
  refine jm_iald (pc := 6) M ax_29 b1 dX1_isForce_6 ?_
  refine j_aload_n (pc := 7) M.1 dX1_isForce_7 0 rfl ?_
  refine jm_getA (pc := 8) M fa_101 dX1_isForce_8 ?_
  refine j_iload_n (pc := 11) M.1 dX1_isForce_11 1 rfl ?_
  obtain ⟨b2, hf⟩ := o_need hf
  refine jm_iald (pc := 12) M ax_30 b2 dX1_isForce_12 ?_
  obtain ⟨r1, g1, hf⟩ := o_bind hf
  refine jm_calls (pc := 13) (As := [.int x2, .int (σ.2 29 x1.toNatClampNeg), .int (σ.2 30 x1.toNatClampNeg)]) (rest := []) M cs_X1_278 (met_in g1) rfl rfl rfl rfl dX1_isForce_13 ?_
  obtain ⟨b3, hf⟩ := o_need hf
  exact jm_zret (pc := 16) M dX1_isForce_16 b3 hf
end
theorem dX1_isGround_0 : decode cX1_isGround 0 = .ok (.aload_n 0, 1) := by decide +kernel
theorem dX1_isGround_1 : decode cX1_isGround 1 = .ok (.iload_n 1, 1) := by decide +kernel
theorem dX1_isGround_2 : decode cX1_isGround 2 = .ok (.invokevirtual 294, 3) := by decide +kernel
theorem dX1_isGround_5 : decode cX1_isGround 5 = .ok (.ifCond .eq 29, 3) := by decide +kernel
theorem dX1_isGround_8 : decode cX1_isGround 8 = .ok (.iload_n 2, 1) := by decide +kernel
theorem dX1_isGround_9 : decode cX1_isGround 9 = .ok (.invokestatic 305, 3) := by decide +kernel
theorem dX1_isGround_12 : decode cX1_isGround 12 = .ok (.ifCond .eq 22, 3) := by decide +kernel
theorem dX1_isGround_15 : decode cX1_isGround 15 = .ok (.iload_n 3, 1) := by decide +kernel
theorem dX1_isGround_16 : decode cX1_isGround 16 = .ok (.invokestatic 320, 3) := by decide +kernel
theorem dX1_isGround_19 : decode cX1_isGround 19 = .ok (.ifCond .eq 15, 3) := by decide +kernel
theorem dX1_isGround_22 : decode cX1_isGround 22 = .ok (.iload 4, 2) := by decide +kernel
theorem dX1_isGround_24 : decode cX1_isGround 24 = .ok (.invokestatic 320, 3) := by decide +kernel
theorem dX1_isGround_27 : decode cX1_isGround 27 = .ok (.ifCond .eq 7, 3) := by decide +kernel
theorem dX1_isGround_30 : decode cX1_isGround 30 = .ok (.iconst 1, 1) := by decide +kernel
theorem dX1_isGround_31 : decode cX1_isGround 31 = .ok (.goto 4, 3) := by decide +kernel
theorem dX1_isGround_34 : decode cX1_isGround 34 = .ok (.iconst 0, 1) := by decide +kernel
theorem dX1_isGround_35 : decode cX1_isGround 35 = .ok (.ireturn, 1) := by decide +kernel
section
variable {res : Int32 × MS}
noncomputable def m_isGround (F : Nat) (x1 x2 x3 x4 : Int32) (σ : MS) : Option (Int32 × MS) :=
  (m_isCell F x1 σ).bind (fun r1 => if r1.1 = 0 then (some (0, r1.2)) else ((m_isLayer F x2).bind (fun r2 => if r2 = 0 then (some (0, r1.2)) else ((m_isWeek F x3).bind (fun r3 => if r3 = 0 then (some (0, r1.2)) else ((m_isWeek F x4).bind (fun r4 => if r4 = 0 then (some (0, r1.2)) else (some (1, r1.2)))))))))
theorem met_isGround {l : Launch} {G : gG} {o F : Nat} {x1 x2 x3 x4 : Int32} {σ : MS} {res : Int32 × MS} (hf : m_isGround F x1 x2 x3 x4 σ = some res) : MetMi l G yX1_isGround cX1_isGround 5 (some .boolean) 2 o [.int x1, .int x2, .int x3, .int x4] σ res := by
  refine metMi_of (by decide) rfl rfl (fun γ hγ M => ?_)
  subst hγ
  show J γ (MW G o σ) 0 0 0 [(0, .ref o), (1, .int x1), (2, .int x2), (3, .int x3), (4, .int x4)] []
  unfold m_isGround at hf
  refine j_aload_n (pc := 0) M.1 dX1_isGround_0 0 rfl ?_
  refine j_iload_n (pc := 1) M.1 dX1_isGround_1 1 rfl ?_
  obtain ⟨r1, g1, hf⟩ := o_bind hf
  refine jm_calli (pc := 2) (As := [.int x1]) (rest := []) M cm_294 (met_isCell g1) rfl rfl rfl rfl dX1_isGround_2 ?_
  refine j_if_eq (pc := 5) M.1 34 dX1_isGround_5 rfl (fun c1 => ?_) (fun c1 => ?_)
  · replace hf := o_pos c1 hf
    refine j_iconst (pc := 34) M.1 dX1_isGround_34 kc_iconst_0 ?_
    exact jm_zret (pc := 35) M dX1_isGround_35 rfl hf
  · replace hf := o_neg c1 hf
    refine j_iload_n (pc := 8) M.1 dX1_isGround_8 2 rfl ?_
    obtain ⟨r2, g2, hf⟩ := o_bind hf
    refine jm_calls (pc := 9) (As := [.int x2]) (rest := []) M cs_X1_305 (met_isLayer g2) rfl rfl rfl rfl dX1_isGround_9 ?_
    refine j_if_eq (pc := 12) M.1 34 dX1_isGround_12 rfl (fun c2 => ?_) (fun c2 => ?_)
    · replace hf := o_pos c2 hf
      refine j_iconst (pc := 34) M.1 dX1_isGround_34 kc_iconst_0 ?_
      exact jm_zret (pc := 35) M dX1_isGround_35 rfl hf
    · replace hf := o_neg c2 hf
      refine j_iload_n (pc := 15) M.1 dX1_isGround_15 3 rfl ?_
      obtain ⟨r3, g3, hf⟩ := o_bind hf
      refine jm_calls (pc := 16) (As := [.int x3]) (rest := []) M cs_X1_320 (met_isWeek g3) rfl rfl rfl rfl dX1_isGround_16 ?_
      refine j_if_eq (pc := 19) M.1 34 dX1_isGround_19 rfl (fun c3 => ?_) (fun c3 => ?_)
      · replace hf := o_pos c3 hf
        refine j_iconst (pc := 34) M.1 dX1_isGround_34 kc_iconst_0 ?_
        exact jm_zret (pc := 35) M dX1_isGround_35 rfl hf
      · replace hf := o_neg c3 hf
        refine j_iload (pc := 22) M.1 dX1_isGround_22 4 rfl ?_
        obtain ⟨r4, g4, hf⟩ := o_bind hf
        refine jm_calls (pc := 24) (As := [.int x4]) (rest := []) M cs_X1_320 (met_isWeek g4) rfl rfl rfl rfl dX1_isGround_24 ?_
        refine j_if_eq (pc := 27) M.1 34 dX1_isGround_27 rfl (fun c4 => ?_) (fun c4 => ?_)
        · replace hf := o_pos c4 hf
          refine j_iconst (pc := 34) M.1 dX1_isGround_34 kc_iconst_0 ?_
          exact jm_zret (pc := 35) M dX1_isGround_35 rfl hf
        · replace hf := o_neg c4 hf
          refine j_iconst (pc := 30) M.1 dX1_isGround_30 kc_iconst_1 ?_
          refine j_goto (pc := 31) M.1 35 dX1_isGround_31 rfl ?_
          exact jm_zret (pc := 35) M dX1_isGround_35 rfl hf
end
theorem dX1_isIn_0 : decode cX1_isIn 0 = .ok (.iload_n 1, 1) := by decide +kernel
theorem dX1_isIn_1 : decode cX1_isIn 1 = .ok (.aload_n 0, 1) := by decide +kernel
theorem dX1_isIn_2 : decode cX1_isIn 2 = .ok (.getfield 272, 3) := by decide +kernel
theorem dX1_isIn_5 : decode cX1_isIn 5 = .ok (.irem, 1) := by decide +kernel
theorem dX1_isIn_6 : decode cX1_isIn 6 = .ok (.iload_n 2, 1) := by decide +kernel
theorem dX1_isIn_7 : decode cX1_isIn 7 = .ok (.aload_n 0, 1) := by decide +kernel
theorem dX1_isIn_8 : decode cX1_isIn 8 = .ok (.getfield 272, 3) := by decide +kernel
theorem dX1_isIn_11 : decode cX1_isIn 11 = .ok (.irem, 1) := by decide +kernel
theorem dX1_isIn_12 : decode cX1_isIn 12 = .ok (.iload_n 3, 1) := by decide +kernel
theorem dX1_isIn_13 : decode cX1_isIn 13 = .ok (.aload_n 0, 1) := by decide +kernel
theorem dX1_isIn_14 : decode cX1_isIn 14 = .ok (.getfield 272, 3) := by decide +kernel
theorem dX1_isIn_17 : decode cX1_isIn 17 = .ok (.irem, 1) := by decide +kernel
theorem dX1_isIn_18 : decode cX1_isIn 18 = .ok (.invokestatic 278, 3) := by decide +kernel
theorem dX1_isIn_21 : decode cX1_isIn 21 = .ok (.ifCond .eq 31, 3) := by decide +kernel
theorem dX1_isIn_24 : decode cX1_isIn 24 = .ok (.iload_n 1, 1) := by decide +kernel
theorem dX1_isIn_25 : decode cX1_isIn 25 = .ok (.aload_n 0, 1) := by decide +kernel
theorem dX1_isIn_26 : decode cX1_isIn 26 = .ok (.getfield 272, 3) := by decide +kernel
theorem dX1_isIn_29 : decode cX1_isIn 29 = .ok (.idiv, 1) := by decide +kernel
theorem dX1_isIn_30 : decode cX1_isIn 30 = .ok (.iload_n 2, 1) := by decide +kernel
theorem dX1_isIn_31 : decode cX1_isIn 31 = .ok (.aload_n 0, 1) := by decide +kernel
theorem dX1_isIn_32 : decode cX1_isIn 32 = .ok (.getfield 272, 3) := by decide +kernel
theorem dX1_isIn_35 : decode cX1_isIn 35 = .ok (.idiv, 1) := by decide +kernel
theorem dX1_isIn_36 : decode cX1_isIn 36 = .ok (.iload_n 3, 1) := by decide +kernel
theorem dX1_isIn_37 : decode cX1_isIn 37 = .ok (.aload_n 0, 1) := by decide +kernel
theorem dX1_isIn_38 : decode cX1_isIn 38 = .ok (.getfield 272, 3) := by decide +kernel
theorem dX1_isIn_41 : decode cX1_isIn 41 = .ok (.idiv, 1) := by decide +kernel
theorem dX1_isIn_42 : decode cX1_isIn 42 = .ok (.invokestatic 278, 3) := by decide +kernel
theorem dX1_isIn_45 : decode cX1_isIn 45 = .ok (.ifCond .eq 7, 3) := by decide +kernel
theorem dX1_isIn_48 : decode cX1_isIn 48 = .ok (.iconst 1, 1) := by decide +kernel
theorem dX1_isIn_49 : decode cX1_isIn 49 = .ok (.goto 4, 3) := by decide +kernel
theorem dX1_isIn_52 : decode cX1_isIn 52 = .ok (.iconst 0, 1) := by decide +kernel
theorem dX1_isIn_53 : decode cX1_isIn 53 = .ok (.ireturn, 1) := by decide +kernel
section
variable {res : Int32 × MS}
noncomputable def m_isIn (F : Nat) (x1 x2 x3 : Int32) (σ : MS) : Option (Int32 × MS) :=
  if ¬ (σ.1 0) = 0 then if ¬ (σ.1 0) = 0 then if ¬ (σ.1 0) = 0 then (m_in F (jrem x1 (σ.1 0)) (jrem x2 (σ.1 0)) (jrem x3 (σ.1 0))).bind (fun r1 => if r1 = 0 then (some (0, σ)) else (if ¬ (σ.1 0) = 0 then if ¬ (σ.1 0) = 0 then if ¬ (σ.1 0) = 0 then (m_in F (x1 / (σ.1 0)) (x2 / (σ.1 0)) (x3 / (σ.1 0))).bind (fun r2 => if r2 = 0 then (some (0, σ)) else (some (1, σ))) else none else none else none)) else none else none else none
theorem met_isIn {l : Launch} {G : gG} {o F : Nat} {x1 x2 x3 : Int32} {σ : MS} {res : Int32 × MS} (hf : m_isIn F x1 x2 x3 σ = some res) : MetMi l G yX1_isIn cX1_isIn 4 (some .boolean) 2 o [.int x1, .int x2, .int x3] σ res := by
  refine metMi_of (by decide) rfl rfl (fun γ hγ M => ?_)
  subst hγ
  show J γ (MW G o σ) 0 0 0 [(0, .ref o), (1, .int x1), (2, .int x2), (3, .int x3)] []
  unfold m_isIn at hf
  refine j_iload_n (pc := 0) M.1 dX1_isIn_0 1 rfl ?_
  refine j_aload_n (pc := 1) M.1 dX1_isIn_1 0 rfl ?_
  refine jm_getS (pc := 2) M fm_272 dX1_isIn_2 ?_
  obtain ⟨b1, hf⟩ := o_need hf
  refine j_irem (pc := 5) M.1 dX1_isIn_5 b1 ?_
  refine j_iload_n (pc := 6) M.1 dX1_isIn_6 2 rfl ?_
  refine j_aload_n (pc := 7) M.1 dX1_isIn_7 0 rfl ?_
  refine jm_getS (pc := 8) M fm_272 dX1_isIn_8 ?_
  obtain ⟨b2, hf⟩ := o_need hf
  refine j_irem (pc := 11) M.1 dX1_isIn_11 b2 ?_
  refine j_iload_n (pc := 12) M.1 dX1_isIn_12 3 rfl ?_
  refine j_aload_n (pc := 13) M.1 dX1_isIn_13 0 rfl ?_
  refine jm_getS (pc := 14) M fm_272 dX1_isIn_14 ?_
  obtain ⟨b3, hf⟩ := o_need hf
  refine j_irem (pc := 17) M.1 dX1_isIn_17 b3 ?_
  obtain ⟨r1, g1, hf⟩ := o_bind hf
  refine jm_calls (pc := 18) (As := [.int (jrem x1 (σ.1 0)), .int (jrem x2 (σ.1 0)), .int (jrem x3 (σ.1 0))]) (rest := []) M cs_X1_278 (met_in g1) rfl rfl rfl rfl dX1_isIn_18 ?_
  refine j_if_eq (pc := 21) M.1 52 dX1_isIn_21 rfl (fun c1 => ?_) (fun c1 => ?_)
  · replace hf := o_pos c1 hf
    refine j_iconst (pc := 52) M.1 dX1_isIn_52 kc_iconst_0 ?_
    exact jm_zret (pc := 53) M dX1_isIn_53 rfl hf
  · replace hf := o_neg c1 hf
    refine j_iload_n (pc := 24) M.1 dX1_isIn_24 1 rfl ?_
    refine j_aload_n (pc := 25) M.1 dX1_isIn_25 0 rfl ?_
    refine jm_getS (pc := 26) M fm_272 dX1_isIn_26 ?_
    obtain ⟨b4, hf⟩ := o_need hf
    refine j_idiv (pc := 29) M.1 dX1_isIn_29 b4 ?_
    refine j_iload_n (pc := 30) M.1 dX1_isIn_30 2 rfl ?_
    refine j_aload_n (pc := 31) M.1 dX1_isIn_31 0 rfl ?_
    refine jm_getS (pc := 32) M fm_272 dX1_isIn_32 ?_
    obtain ⟨b5, hf⟩ := o_need hf
    refine j_idiv (pc := 35) M.1 dX1_isIn_35 b5 ?_
    refine j_iload_n (pc := 36) M.1 dX1_isIn_36 3 rfl ?_
    refine j_aload_n (pc := 37) M.1 dX1_isIn_37 0 rfl ?_
    refine jm_getS (pc := 38) M fm_272 dX1_isIn_38 ?_
    obtain ⟨b6, hf⟩ := o_need hf
    refine j_idiv (pc := 41) M.1 dX1_isIn_41 b6 ?_
    obtain ⟨r2, g2, hf⟩ := o_bind hf
    refine jm_calls (pc := 42) (As := [.int (x1 / (σ.1 0)), .int (x2 / (σ.1 0)), .int (x3 / (σ.1 0))]) (rest := []) M cs_X1_278 (met_in g2) rfl rfl rfl rfl dX1_isIn_42 ?_
    refine j_if_eq (pc := 45) M.1 52 dX1_isIn_45 rfl (fun c2 => ?_) (fun c2 => ?_)
    · replace hf := o_pos c2 hf
      refine j_iconst (pc := 52) M.1 dX1_isIn_52 kc_iconst_0 ?_
      exact jm_zret (pc := 53) M dX1_isIn_53 rfl hf
    · replace hf := o_neg c2 hf
      refine j_iconst (pc := 48) M.1 dX1_isIn_48 kc_iconst_1 ?_
      refine j_goto (pc := 49) M.1 53 dX1_isIn_49 rfl ?_
      exact jm_zret (pc := 53) M dX1_isIn_53 rfl hf
end
theorem dX1_isRectangle_0 : decode cX1_isRectangle 0 = .ok (.aload_n 0, 1) := by decide +kernel
theorem dX1_isRectangle_1 : decode cX1_isRectangle 1 = .ok (.iload_n 1, 1) := by decide +kernel
theorem dX1_isRectangle_2 : decode cX1_isRectangle 2 = .ok (.invokevirtual 294, 3) := by decide +kernel
theorem dX1_isRectangle_5 : decode cX1_isRectangle 5 = .ok (.ifCond .eq 45, 3) := by decide +kernel
theorem dX1_isRectangle_8 : decode cX1_isRectangle 8 = .ok (.aload_n 0, 1) := by decide +kernel
theorem dX1_isRectangle_9 : decode cX1_isRectangle 9 = .ok (.iload_n 2, 1) := by decide +kernel
theorem dX1_isRectangle_10 : decode cX1_isRectangle 10 = .ok (.invokevirtual 294, 3) := by decide +kernel
theorem dX1_isRectangle_13 : decode cX1_isRectangle 13 = .ok (.ifCond .eq 37, 3) := by decide +kernel
theorem dX1_isRectangle_16 : decode cX1_isRectangle 16 = .ok (.iload_n 1, 1) := by decide +kernel
theorem dX1_isRectangle_17 : decode cX1_isRectangle 17 = .ok (.aload_n 0, 1) := by decide +kernel
theorem dX1_isRectangle_18 : decode cX1_isRectangle 18 = .ok (.getfield 272, 3) := by decide +kernel
theorem dX1_isRectangle_21 : decode cX1_isRectangle 21 = .ok (.irem, 1) := by decide +kernel
theorem dX1_isRectangle_22 : decode cX1_isRectangle 22 = .ok (.iload_n 2, 1) := by decide +kernel
theorem dX1_isRectangle_23 : decode cX1_isRectangle 23 = .ok (.aload_n 0, 1) := by decide +kernel
theorem dX1_isRectangle_24 : decode cX1_isRectangle 24 = .ok (.getfield 272, 3) := by decide +kernel
theorem dX1_isRectangle_27 : decode cX1_isRectangle 27 = .ok (.irem, 1) := by decide +kernel
theorem dX1_isRectangle_28 : decode cX1_isRectangle 28 = .ok (.if_icmp .gt 22, 3) := by decide +kernel
theorem dX1_isRectangle_31 : decode cX1_isRectangle 31 = .ok (.iload_n 1, 1) := by decide +kernel
theorem dX1_isRectangle_32 : decode cX1_isRectangle 32 = .ok (.aload_n 0, 1) := by decide +kernel
theorem dX1_isRectangle_33 : decode cX1_isRectangle 33 = .ok (.getfield 272, 3) := by decide +kernel
theorem dX1_isRectangle_36 : decode cX1_isRectangle 36 = .ok (.idiv, 1) := by decide +kernel
theorem dX1_isRectangle_37 : decode cX1_isRectangle 37 = .ok (.iload_n 2, 1) := by decide +kernel
theorem dX1_isRectangle_38 : decode cX1_isRectangle 38 = .ok (.aload_n 0, 1) := by decide +kernel
theorem dX1_isRectangle_39 : decode cX1_isRectangle 39 = .ok (.getfield 272, 3) := by decide +kernel
theorem dX1_isRectangle_42 : decode cX1_isRectangle 42 = .ok (.idiv, 1) := by decide +kernel
theorem dX1_isRectangle_43 : decode cX1_isRectangle 43 = .ok (.if_icmp .gt 7, 3) := by decide +kernel
theorem dX1_isRectangle_46 : decode cX1_isRectangle 46 = .ok (.iconst 1, 1) := by decide +kernel
theorem dX1_isRectangle_47 : decode cX1_isRectangle 47 = .ok (.goto 4, 3) := by decide +kernel
theorem dX1_isRectangle_50 : decode cX1_isRectangle 50 = .ok (.iconst 0, 1) := by decide +kernel
theorem dX1_isRectangle_51 : decode cX1_isRectangle 51 = .ok (.ireturn, 1) := by decide +kernel
section
variable {res : Int32 × MS}
noncomputable def m_isRectangle (F : Nat) (x1 x2 : Int32) (σ : MS) : Option (Int32 × MS) :=
  (m_isCell F x1 σ).bind (fun r1 => if r1.1 = 0 then (some (0, r1.2)) else ((m_isCell F x2 r1.2).bind (fun r2 => if r2.1 = 0 then (some (0, r2.2)) else (if ¬ (r2.2.1 0) = 0 then if ¬ (r2.2.1 0) = 0 then if (jrem x2 (r2.2.1 0)) < (jrem x1 (r2.2.1 0)) then (some (0, r2.2)) else (if ¬ (r2.2.1 0) = 0 then if ¬ (r2.2.1 0) = 0 then if (x2 / (r2.2.1 0)) < (x1 / (r2.2.1 0)) then (some (0, r2.2)) else (some (1, r2.2)) else none else none) else none else none))))
theorem met_isRectangle {l : Launch} {G : gG} {o F : Nat} {x1 x2 : Int32} {σ : MS} {res : Int32 × MS} (hf : m_isRectangle F x1 x2 σ = some res) : MetMi l G yX1_isRectangle cX1_isRectangle 3 (some .boolean) 2 o [.int x1, .int x2] σ res := by
  refine metMi_of (by decide) rfl rfl (fun γ hγ M => ?_)
  subst hγ
  show J γ (MW G o σ) 0 0 0 [(0, .ref o), (1, .int x1), (2, .int x2)] []
  unfold m_isRectangle at hf
  refine j_aload_n (pc := 0) M.1 dX1_isRectangle_0 0 rfl ?_
  refine j_iload_n (pc := 1) M.1 dX1_isRectangle_1 1 rfl ?_
  obtain ⟨r1, g1, hf⟩ := o_bind hf
  refine jm_calli (pc := 2) (As := [.int x1]) (rest := []) M cm_294 (met_isCell g1) rfl rfl rfl rfl dX1_isRectangle_2 ?_
  refine j_if_eq (pc := 5) M.1 50 dX1_isRectangle_5 rfl (fun c1 => ?_) (fun c1 => ?_)
  · replace hf := o_pos c1 hf
    refine j_iconst (pc := 50) M.1 dX1_isRectangle_50 kc_iconst_0 ?_
    exact jm_zret (pc := 51) M dX1_isRectangle_51 rfl hf
  · replace hf := o_neg c1 hf
    refine j_aload_n (pc := 8) M.1 dX1_isRectangle_8 0 rfl ?_
    refine j_iload_n (pc := 9) M.1 dX1_isRectangle_9 2 rfl ?_
    obtain ⟨r2, g2, hf⟩ := o_bind hf
    refine jm_calli (pc := 10) (As := [.int x2]) (rest := []) M cm_294 (met_isCell g2) rfl rfl rfl rfl dX1_isRectangle_10 ?_
    refine j_if_eq (pc := 13) M.1 50 dX1_isRectangle_13 rfl (fun c2 => ?_) (fun c2 => ?_)
    · replace hf := o_pos c2 hf
      refine j_iconst (pc := 50) M.1 dX1_isRectangle_50 kc_iconst_0 ?_
      exact jm_zret (pc := 51) M dX1_isRectangle_51 rfl hf
    · replace hf := o_neg c2 hf
      refine j_iload_n (pc := 16) M.1 dX1_isRectangle_16 1 rfl ?_
      refine j_aload_n (pc := 17) M.1 dX1_isRectangle_17 0 rfl ?_
      refine jm_getS (pc := 18) M fm_272 dX1_isRectangle_18 ?_
      obtain ⟨b1, hf⟩ := o_need hf
      refine j_irem (pc := 21) M.1 dX1_isRectangle_21 b1 ?_
      refine j_iload_n (pc := 22) M.1 dX1_isRectangle_22 2 rfl ?_
      refine j_aload_n (pc := 23) M.1 dX1_isRectangle_23 0 rfl ?_
      refine jm_getS (pc := 24) M fm_272 dX1_isRectangle_24 ?_
      obtain ⟨b2, hf⟩ := o_need hf
      refine j_irem (pc := 27) M.1 dX1_isRectangle_27 b2 ?_
      refine j_icmp_gt (pc := 28) M.1 50 dX1_isRectangle_28 rfl (fun c3 => ?_) (fun c3 => ?_)
      · replace hf := o_pos c3 hf
        refine j_iconst (pc := 50) M.1 dX1_isRectangle_50 kc_iconst_0 ?_
        exact jm_zret (pc := 51) M dX1_isRectangle_51 rfl hf
      · replace hf := o_neg c3 hf
        refine j_iload_n (pc := 31) M.1 dX1_isRectangle_31 1 rfl ?_
        refine j_aload_n (pc := 32) M.1 dX1_isRectangle_32 0 rfl ?_
        refine jm_getS (pc := 33) M fm_272 dX1_isRectangle_33 ?_
        obtain ⟨b3, hf⟩ := o_need hf
        refine j_idiv (pc := 36) M.1 dX1_isRectangle_36 b3 ?_
        refine j_iload_n (pc := 37) M.1 dX1_isRectangle_37 2 rfl ?_
        refine j_aload_n (pc := 38) M.1 dX1_isRectangle_38 0 rfl ?_
        refine jm_getS (pc := 39) M fm_272 dX1_isRectangle_39 ?_
        obtain ⟨b4, hf⟩ := o_need hf
        refine j_idiv (pc := 42) M.1 dX1_isRectangle_42 b4 ?_
        refine j_icmp_gt (pc := 43) M.1 50 dX1_isRectangle_43 rfl (fun c4 => ?_) (fun c4 => ?_)
        · replace hf := o_pos c4 hf
          refine j_iconst (pc := 50) M.1 dX1_isRectangle_50 kc_iconst_0 ?_
          exact jm_zret (pc := 51) M dX1_isRectangle_51 rfl hf
        · replace hf := o_neg c4 hf
          refine j_iconst (pc := 46) M.1 dX1_isRectangle_46 kc_iconst_1 ?_
          refine j_goto (pc := 47) M.1 51 dX1_isRectangle_47 rfl ?_
          exact jm_zret (pc := 51) M dX1_isRectangle_51 rfl hf
end
theorem dX1_isTrue_0 : decode cX1_isTrue 0 = .ok (.iconst 0, 1) := by decide +kernel
theorem dX1_isTrue_1 : decode cX1_isTrue 1 = .ok (.istore_n 2, 1) := by decide +kernel
theorem dX1_isTrue_2 : decode cX1_isTrue 2 = .ok (.sipush 180, 3) := by decide +kernel
theorem dX1_isTrue_5 : decode cX1_isTrue 5 = .ok (.iload_n 1, 1) := by decide +kernel
theorem dX1_isTrue_6 : decode cX1_isTrue 6 = .ok (.bipush 10, 2) := by decide +kernel
theorem dX1_isTrue_8 : decode cX1_isTrue 8 = .ok (.idiv, 1) := by decide +kernel
theorem dX1_isTrue_9 : decode cX1_isTrue 9 = .ok (.imul, 1) := by decide +kernel
theorem dX1_isTrue_10 : decode cX1_isTrue 10 = .ok (.istore_n 3, 1) := by decide +kernel
theorem dX1_isTrue_11 : decode cX1_isTrue 11 = .ok (.aload_n 0, 1) := by decide +kernel
theorem dX1_isTrue_12 : decode cX1_isTrue 12 = .ok (.getfield 110, 3) := by decide +kernel
theorem dX1_isTrue_15 : decode cX1_isTrue 15 = .ok (.iload_n 1, 1) := by decide +kernel
theorem dX1_isTrue_16 : decode cX1_isTrue 16 = .ok (.iaload, 1) := by decide +kernel
theorem dX1_isTrue_17 : decode cX1_isTrue 17 = .ok (.istore 4, 2) := by decide +kernel
theorem dX1_isTrue_19 : decode cX1_isTrue 19 = .ok (.iload 4, 2) := by decide +kernel
theorem dX1_isTrue_21 : decode cX1_isTrue 21 = .ok (.aload_n 0, 1) := by decide +kernel
theorem dX1_isTrue_22 : decode cX1_isTrue 22 = .ok (.getfield 113, 3) := by decide +kernel
theorem dX1_isTrue_25 : decode cX1_isTrue 25 = .ok (.iload_n 1, 1) := by decide +kernel
theorem dX1_isTrue_26 : decode cX1_isTrue 26 = .ok (.iaload, 1) := by decide +kernel
theorem dX1_isTrue_27 : decode cX1_isTrue 27 = .ok (.if_icmp .ge 215, 3) := by decide +kernel
theorem dX1_isTrue_30 : decode cX1_isTrue 30 = .ok (.aload_n 0, 1) := by decide +kernel
theorem dX1_isTrue_31 : decode cX1_isTrue 31 = .ok (.getfield 95, 3) := by decide +kernel
theorem dX1_isTrue_34 : decode cX1_isTrue 34 = .ok (.iload 4, 2) := by decide +kernel
theorem dX1_isTrue_36 : decode cX1_isTrue 36 = .ok (.iaload, 1) := by decide +kernel
theorem dX1_isTrue_37 : decode cX1_isTrue 37 = .ok (.ldc_w 374, 3) := by decide +kernel
theorem dX1_isTrue_40 : decode cX1_isTrue 40 = .ok (.idiv, 1) := by decide +kernel
theorem dX1_isTrue_41 : decode cX1_isTrue 41 = .ok (.istore 5, 2) := by decide +kernel
theorem dX1_isTrue_43 : decode cX1_isTrue 43 = .ok (.aload_n 0, 1) := by decide +kernel
theorem dX1_isTrue_44 : decode cX1_isTrue 44 = .ok (.getfield 95, 3) := by decide +kernel
theorem dX1_isTrue_47 : decode cX1_isTrue 47 = .ok (.iload 4, 2) := by decide +kernel
theorem dX1_isTrue_49 : decode cX1_isTrue 49 = .ok (.iaload, 1) := by decide +kernel
theorem dX1_isTrue_50 : decode cX1_isTrue 50 = .ok (.ldc_w 374, 3) := by decide +kernel
theorem dX1_isTrue_53 : decode cX1_isTrue 53 = .ok (.irem, 1) := by decide +kernel
theorem dX1_isTrue_54 : decode cX1_isTrue 54 = .ok (.istore 6, 2) := by decide +kernel
theorem dX1_isTrue_56 : decode cX1_isTrue 56 = .ok (.iload 4, 2) := by decide +kernel
theorem dX1_isTrue_58 : decode cX1_isTrue 58 = .ok (.iconst 1, 1) := by decide +kernel
theorem dX1_isTrue_59 : decode cX1_isTrue 59 = .ok (.iadd, 1) := by decide +kernel
theorem dX1_isTrue_60 : decode cX1_isTrue 60 = .ok (.istore 4, 2) := by decide +kernel
theorem dX1_isTrue_62 : decode cX1_isTrue 62 = .ok (.iload 5, 2) := by decide +kernel
theorem dX1_isTrue_64 : decode cX1_isTrue 64 = .ok (.ifCond .eq 9, 3) := by decide +kernel
theorem dX1_isTrue_67 : decode cX1_isTrue 67 = .ok (.iload 5, 2) := by decide +kernel
theorem dX1_isTrue_69 : decode cX1_isTrue 69 = .ok (.iconst 1, 1) := by decide +kernel
theorem dX1_isTrue_70 : decode cX1_isTrue 70 = .ok (.if_icmp .ne 33, 3) := by decide +kernel
theorem dX1_isTrue_73 : decode cX1_isTrue 73 = .ok (.aload_n 0, 1) := by decide +kernel
theorem dX1_isTrue_74 : decode cX1_isTrue 74 = .ok (.getfield 126, 3) := by decide +kernel
theorem dX1_isTrue_77 : decode cX1_isTrue 77 = .ok (.iload_n 2, 1) := by decide +kernel
theorem dX1_isTrue_78 : decode cX1_isTrue 78 = .ok (.iload 5, 2) := by decide +kernel
theorem dX1_isTrue_80 : decode cX1_isTrue 80 = .ok (.ifCond .ne 8, 3) := by decide +kernel
theorem dX1_isTrue_83 : decode cX1_isTrue 83 = .ok (.iload 6, 2) := by decide +kernel
theorem dX1_isTrue_85 : decode cX1_isTrue 85 = .ok (.goto 10, 3) := by decide +kernel
theorem dX1_isTrue_88 : decode cX1_isTrue 88 = .ok (.aload_n 0, 1) := by decide +kernel
theorem dX1_isTrue_89 : decode cX1_isTrue 89 = .ok (.getfield 129, 3) := by decide +kernel
theorem dX1_isTrue_92 : decode cX1_isTrue 92 = .ok (.iload 6, 2) := by decide +kernel
theorem dX1_isTrue_94 : decode cX1_isTrue 94 = .ok (.iaload, 1) := by decide +kernel
theorem dX1_isTrue_95 : decode cX1_isTrue 95 = .ok (.iastore, 1) := by decide +kernel
theorem dX1_isTrue_96 : decode cX1_isTrue 96 = .ok (.iload_n 2, 1) := by decide +kernel
theorem dX1_isTrue_97 : decode cX1_isTrue 97 = .ok (.iconst 1, 1) := by decide +kernel
theorem dX1_isTrue_98 : decode cX1_isTrue 98 = .ok (.iadd, 1) := by decide +kernel
theorem dX1_isTrue_99 : decode cX1_isTrue 99 = .ok (.istore_n 2, 1) := by decide +kernel
theorem dX1_isTrue_100 : decode cX1_isTrue 100 = .ok (.goto 139, 3) := by decide +kernel
theorem dX1_isTrue_103 : decode cX1_isTrue 103 = .ok (.iload 5, 2) := by decide +kernel
theorem dX1_isTrue_105 : decode cX1_isTrue 105 = .ok (.bipush 10, 2) := by decide +kernel
theorem dX1_isTrue_107 : decode cX1_isTrue 107 = .ok (.if_icmp .ne 24, 3) := by decide +kernel
theorem dX1_isTrue_110 : decode cX1_isTrue 110 = .ok (.aload_n 0, 1) := by decide +kernel
theorem dX1_isTrue_111 : decode cX1_isTrue 111 = .ok (.getfield 126, 3) := by decide +kernel
theorem dX1_isTrue_114 : decode cX1_isTrue 114 = .ok (.iload_n 2, 1) := by decide +kernel
theorem dX1_isTrue_115 : decode cX1_isTrue 115 = .ok (.iconst 1, 1) := by decide +kernel
theorem dX1_isTrue_116 : decode cX1_isTrue 116 = .ok (.isub, 1) := by decide +kernel
theorem dX1_isTrue_117 : decode cX1_isTrue 117 = .ok (.iconst 1, 1) := by decide +kernel
theorem dX1_isTrue_118 : decode cX1_isTrue 118 = .ok (.aload_n 0, 1) := by decide +kernel
theorem dX1_isTrue_119 : decode cX1_isTrue 119 = .ok (.getfield 126, 3) := by decide +kernel
theorem dX1_isTrue_122 : decode cX1_isTrue 122 = .ok (.iload_n 2, 1) := by decide +kernel
theorem dX1_isTrue_123 : decode cX1_isTrue 123 = .ok (.iconst 1, 1) := by decide +kernel
theorem dX1_isTrue_124 : decode cX1_isTrue 124 = .ok (.isub, 1) := by decide +kernel
theorem dX1_isTrue_125 : decode cX1_isTrue 125 = .ok (.iaload, 1) := by decide +kernel
theorem dX1_isTrue_126 : decode cX1_isTrue 126 = .ok (.isub, 1) := by decide +kernel
theorem dX1_isTrue_127 : decode cX1_isTrue 127 = .ok (.iastore, 1) := by decide +kernel
theorem dX1_isTrue_128 : decode cX1_isTrue 128 = .ok (.goto 111, 3) := by decide +kernel
theorem dX1_isTrue_131 : decode cX1_isTrue 131 = .ok (.iload 5, 2) := by decide +kernel
theorem dX1_isTrue_133 : decode cX1_isTrue 133 = .ok (.bipush 11, 2) := by decide +kernel
theorem dX1_isTrue_135 : decode cX1_isTrue 135 = .ok (.if_icmp .eq 10, 3) := by decide +kernel
theorem dX1_isTrue_138 : decode cX1_isTrue 138 = .ok (.iload 5, 2) := by decide +kernel
theorem dX1_isTrue_140 : decode cX1_isTrue 140 = .ok (.bipush 12, 2) := by decide +kernel
theorem dX1_isTrue_142 : decode cX1_isTrue 142 = .ok (.if_icmp .ne 42, 3) := by decide +kernel
theorem dX1_isTrue_145 : decode cX1_isTrue 145 = .ok (.aload_n 0, 1) := by decide +kernel
theorem dX1_isTrue_146 : decode cX1_isTrue 146 = .ok (.getfield 126, 3) := by decide +kernel
theorem dX1_isTrue_149 : decode cX1_isTrue 149 = .ok (.iload_n 2, 1) := by decide +kernel
theorem dX1_isTrue_150 : decode cX1_isTrue 150 = .ok (.iconst 1, 1) := by decide +kernel
theorem dX1_isTrue_151 : decode cX1_isTrue 151 = .ok (.isub, 1) := by decide +kernel
theorem dX1_isTrue_152 : decode cX1_isTrue 152 = .ok (.iaload, 1) := by decide +kernel
theorem dX1_isTrue_153 : decode cX1_isTrue 153 = .ok (.iload 5, 2) := by decide +kernel
theorem dX1_isTrue_155 : decode cX1_isTrue 155 = .ok (.bipush 12, 2) := by decide +kernel
theorem dX1_isTrue_157 : decode cX1_isTrue 157 = .ok (.if_icmp .ne 7, 3) := by decide +kernel
theorem dX1_isTrue_160 : decode cX1_isTrue 160 = .ok (.iconst 1, 1) := by decide +kernel
theorem dX1_isTrue_161 : decode cX1_isTrue 161 = .ok (.goto 4, 3) := by decide +kernel
theorem dX1_isTrue_164 : decode cX1_isTrue 164 = .ok (.iconst 0, 1) := by decide +kernel
theorem dX1_isTrue_165 : decode cX1_isTrue 165 = .ok (.if_icmp .ne 12, 3) := by decide +kernel
theorem dX1_isTrue_168 : decode cX1_isTrue 168 = .ok (.iload_n 3, 1) := by decide +kernel
theorem dX1_isTrue_169 : decode cX1_isTrue 169 = .ok (.iload 6, 2) := by decide +kernel
theorem dX1_isTrue_171 : decode cX1_isTrue 171 = .ok (.iadd, 1) := by decide +kernel
theorem dX1_isTrue_172 : decode cX1_isTrue 172 = .ok (.istore 4, 2) := by decide +kernel
theorem dX1_isTrue_174 : decode cX1_isTrue 174 = .ok (.goto 65, 3) := by decide +kernel
theorem dX1_isTrue_177 : decode cX1_isTrue 177 = .ok (.iload_n 2, 1) := by decide +kernel
theorem dX1_isTrue_178 : decode cX1_isTrue 178 = .ok (.iconst 1, 1) := by decide +kernel
theorem dX1_isTrue_179 : decode cX1_isTrue 179 = .ok (.isub, 1) := by decide +kernel
theorem dX1_isTrue_180 : decode cX1_isTrue 180 = .ok (.istore_n 2, 1) := by decide +kernel
theorem dX1_isTrue_181 : decode cX1_isTrue 181 = .ok (.goto 58, 3) := by decide +kernel
theorem dX1_isTrue_184 : decode cX1_isTrue 184 = .ok (.iload_n 2, 1) := by decide +kernel
theorem dX1_isTrue_185 : decode cX1_isTrue 185 = .ok (.iconst 1, 1) := by decide +kernel
theorem dX1_isTrue_186 : decode cX1_isTrue 186 = .ok (.isub, 1) := by decide +kernel
theorem dX1_isTrue_187 : decode cX1_isTrue 187 = .ok (.istore_n 2, 1) := by decide +kernel
theorem dX1_isTrue_188 : decode cX1_isTrue 188 = .ok (.iload 5, 2) := by decide +kernel
theorem dX1_isTrue_190 : decode cX1_isTrue 190 = .ok (.iconst 5, 1) := by decide +kernel
theorem dX1_isTrue_191 : decode cX1_isTrue 191 = .ok (.if_icmp .eq 10, 3) := by decide +kernel
theorem dX1_isTrue_194 : decode cX1_isTrue 194 = .ok (.iload 5, 2) := by decide +kernel
theorem dX1_isTrue_196 : decode cX1_isTrue 196 = .ok (.bipush 6, 2) := by decide +kernel
theorem dX1_isTrue_198 : decode cX1_isTrue 198 = .ok (.if_icmp .ne 14, 3) := by decide +kernel
theorem dX1_isTrue_201 : decode cX1_isTrue 201 = .ok (.aload_n 0, 1) := by decide +kernel
theorem dX1_isTrue_202 : decode cX1_isTrue 202 = .ok (.getfield 126, 3) := by decide +kernel
theorem dX1_isTrue_205 : decode cX1_isTrue 205 = .ok (.iload_n 2, 1) := by decide +kernel
theorem dX1_isTrue_206 : decode cX1_isTrue 206 = .ok (.iaload, 1) := by decide +kernel
theorem dX1_isTrue_207 : decode cX1_isTrue 207 = .ok (.ifCond .ne 5, 3) := by decide +kernel
theorem dX1_isTrue_210 : decode cX1_isTrue 210 = .ok (.iconst 0, 1) := by decide +kernel
theorem dX1_isTrue_211 : decode cX1_isTrue 211 = .ok (.ireturn, 1) := by decide +kernel
theorem dX1_isTrue_212 : decode cX1_isTrue 212 = .ok (.aload_n 0, 1) := by decide +kernel
theorem dX1_isTrue_213 : decode cX1_isTrue 213 = .ok (.getfield 126, 3) := by decide +kernel
theorem dX1_isTrue_216 : decode cX1_isTrue 216 = .ok (.iload_n 2, 1) := by decide +kernel
theorem dX1_isTrue_217 : decode cX1_isTrue 217 = .ok (.iconst 1, 1) := by decide +kernel
theorem dX1_isTrue_218 : decode cX1_isTrue 218 = .ok (.isub, 1) := by decide +kernel
theorem dX1_isTrue_219 : decode cX1_isTrue 219 = .ok (.iload 5, 2) := by decide +kernel
theorem dX1_isTrue_221 : decode cX1_isTrue 221 = .ok (.aload_n 0, 1) := by decide +kernel
theorem dX1_isTrue_222 : decode cX1_isTrue 222 = .ok (.getfield 126, 3) := by decide +kernel
theorem dX1_isTrue_225 : decode cX1_isTrue 225 = .ok (.iload_n 2, 1) := by decide +kernel
theorem dX1_isTrue_226 : decode cX1_isTrue 226 = .ok (.iconst 1, 1) := by decide +kernel
theorem dX1_isTrue_227 : decode cX1_isTrue 227 = .ok (.isub, 1) := by decide +kernel
theorem dX1_isTrue_228 : decode cX1_isTrue 228 = .ok (.iaload, 1) := by decide +kernel
theorem dX1_isTrue_229 : decode cX1_isTrue 229 = .ok (.aload_n 0, 1) := by decide +kernel
theorem dX1_isTrue_230 : decode cX1_isTrue 230 = .ok (.getfield 126, 3) := by decide +kernel
theorem dX1_isTrue_233 : decode cX1_isTrue 233 = .ok (.iload_n 2, 1) := by decide +kernel
theorem dX1_isTrue_234 : decode cX1_isTrue 234 = .ok (.iaload, 1) := by decide +kernel
theorem dX1_isTrue_235 : decode cX1_isTrue 235 = .ok (.invokestatic 450, 3) := by decide +kernel
theorem dX1_isTrue_238 : decode cX1_isTrue 238 = .ok (.iastore, 1) := by decide +kernel
theorem dX1_isTrue_239 : decode cX1_isTrue 239 = .ok (.goto (-220), 3) := by decide +kernel
theorem dX1_isTrue_242 : decode cX1_isTrue 242 = .ok (.iload_n 2, 1) := by decide +kernel
theorem dX1_isTrue_243 : decode cX1_isTrue 243 = .ok (.ifCond .eq 13, 3) := by decide +kernel
theorem dX1_isTrue_246 : decode cX1_isTrue 246 = .ok (.aload_n 0, 1) := by decide +kernel
theorem dX1_isTrue_247 : decode cX1_isTrue 247 = .ok (.getfield 126, 3) := by decide +kernel
theorem dX1_isTrue_250 : decode cX1_isTrue 250 = .ok (.iconst 0, 1) := by decide +kernel
theorem dX1_isTrue_251 : decode cX1_isTrue 251 = .ok (.iaload, 1) := by decide +kernel
theorem dX1_isTrue_252 : decode cX1_isTrue 252 = .ok (.iconst 1, 1) := by decide +kernel
theorem dX1_isTrue_253 : decode cX1_isTrue 253 = .ok (.if_icmp .ne 7, 3) := by decide +kernel
theorem dX1_isTrue_256 : decode cX1_isTrue 256 = .ok (.iconst 1, 1) := by decide +kernel
theorem dX1_isTrue_257 : decode cX1_isTrue 257 = .ok (.goto 4, 3) := by decide +kernel
theorem dX1_isTrue_260 : decode cX1_isTrue 260 = .ok (.iconst 0, 1) := by decide +kernel
theorem dX1_isTrue_261 : decode cX1_isTrue 261 = .ok (.ireturn, 1) := by decide +kernel
section
variable {res : Int32 × MS}
noncomputable def m_isTrue_73 (F : Nat) (K242 : Int32 × Int32 × MS → Option (Int32 × MS)) (R : Int32 × Int32 × MS → Option (Int32 × MS)) (x1 x2 x3 x4 x5 x6 : Int32) (σ : MS) : Option (Int32 × MS) :=
  if x5 = 0 then (if okI x2 180 = true then nx (sA σ 38 x2.toNatClampNeg x6) (fun σ2 => R (x2 + 1, x4, σ2)) else none) else (if okI x6 5 = true then if okI x2 180 = true then nx (sA σ 38 x2.toNatClampNeg (σ.2 39 x6.toNatClampNeg)) (fun σ1 => R (x2 + 1, x4, σ1)) else none else none)
theorem km_isTrue_73 (M : MC γ cX1_isTrue 7 G o 2 (some .boolean) (mQi G o res)) (x1 x3 x2 x4 x5 x6 : Int32) (K242 : Int32 × Int32 × MS → Option (Int32 × MS)) (hK242 : ∀ a, K242 a = some res → J γ (MW G o a.2.2) 0 0 242 [(0, .ref o), (2, .int a.1)] []) (R : Int32 × Int32 × MS → Option (Int32 × MS)) (hR : ∀ a, R a = some res → J γ (MW G o a.2.2) 0 0 19 [(0, .ref o), (1, .int x1), (2, .int a.1), (3, .int x3), (4, .int a.2.1)] []) (σ : MS) (hf : m_isTrue_73 F K242 R x1 x2 x3 x4 x5 x6 σ = some res) : J γ (MW G o σ) 0 0 73 [(0, .ref o), (1, .int x1), (2, .int x2), (3, .int x3), (4, .int x4), (5, .int x5), (6, .int x6)] [] := by
  unfold m_isTrue_73 at hf
  refine j_aload_n (pc := 73) M.1 dX1_isTrue_73 0 rfl ?_
  refine jm_getA (pc := 74) M fa_126 dX1_isTrue_74 ?_
  refine j_iload_n (pc := 77) M.1 dX1_isTrue_77 2 rfl ?_
  refine j_iload (pc := 78) M.1 dX1_isTrue_78 5 rfl ?_
  refine j_if_ne (pc := 80) M.1 88 dX1_isTrue_80 rfl (fun c1 => ?_) (fun c1 => ?_)
  · replace hf := o_neg c1 hf
    refine j_aload_n (pc := 88) M.1 dX1_isTrue_88 0 rfl ?_
    refine jm_getA (pc := 89) M fa_129 dX1_isTrue_89 ?_
    refine j_iload (pc := 92) M.1 dX1_isTrue_92 6 rfl ?_
    obtain ⟨b1, hf⟩ := o_need hf
    refine jm_iald (pc := 94) M ax_39 b1 dX1_isTrue_94 ?_
    obtain ⟨b2, hf⟩ := o_need hf
    obtain ⟨σ1, e1, hf⟩ := o_nx hf
    refine jm_iast (pc := 95) M ax_38 b2 dX1_isTrue_95 e1 ?_
    refine j_iload_n (pc := 96) M.1 dX1_isTrue_96 2 rfl ?_
    refine j_iconst (pc := 97) M.1 dX1_isTrue_97 kc_iconst_1 ?_
    refine j_iadd (pc := 98) M.1 dX1_isTrue_98 ?_
    refine j_istore_n (pc := 99) M.1 [(2, .int (x2 + 1)), (0, .ref o), (1, .int x1), (3, .int x3), (4, .int x4), (5, .int x5), (6, .int x6)] dX1_isTrue_99 rfl rfl ?_
    refine j_goto (pc := 100) M.1 239 dX1_isTrue_100 rfl ?_
    refine j_goto (pc := 239) M.1 19 dX1_isTrue_239 rfl ?_
    refine j_sub [1, 2, 0, 3, 4] (show lv_pick _ _ = [(0, .ref o), (1, .int x1), (2, .int (x2 + 1)), (3, .int x3), (4, .int x4)] from rfl) ?_
    have hy := hR _ hf
    exact hy
  · replace hf := o_pos c1 hf
    refine j_iload (pc := 83) M.1 dX1_isTrue_83 6 rfl ?_
    refine j_goto (pc := 85) M.1 95 dX1_isTrue_85 rfl ?_
    obtain ⟨b3, hf⟩ := o_need hf
    obtain ⟨σ2, e2, hf⟩ := o_nx hf
    refine jm_iast (pc := 95) M ax_38 b3 dX1_isTrue_95 e2 ?_
    refine j_iload_n (pc := 96) M.1 dX1_isTrue_96 2 rfl ?_
    refine j_iconst (pc := 97) M.1 dX1_isTrue_97 kc_iconst_1 ?_
    refine j_iadd (pc := 98) M.1 dX1_isTrue_98 ?_
    refine j_istore_n (pc := 99) M.1 [(2, .int (x2 + 1)), (0, .ref o), (1, .int x1), (3, .int x3), (4, .int x4), (5, .int x5), (6, .int x6)] dX1_isTrue_99 rfl rfl ?_
    refine j_goto (pc := 100) M.1 239 dX1_isTrue_100 rfl ?_
    refine j_goto (pc := 239) M.1 19 dX1_isTrue_239 rfl ?_
    refine j_sub [1, 2, 0, 3, 4] (show lv_pick _ _ = [(0, .ref o), (1, .int x1), (2, .int (x2 + 1)), (3, .int x3), (4, .int x4)] from rfl) ?_
    have hy := hR _ hf
    exact hy
noncomputable def m_isTrue_165 (F : Nat) (K242 : Int32 × Int32 × MS → Option (Int32 × MS)) (R : Int32 × Int32 × MS → Option (Int32 × MS)) (x1 x2 x3 x4 x6 s0 s1 : Int32) (σ : MS) : Option (Int32 × MS) :=
  if s1 = s0 then (R (x2, x3 + x6, σ)) else (R (x2 - 1, x4, σ))
theorem km_isTrue_165 (M : MC γ cX1_isTrue 7 G o 2 (some .boolean) (mQi G o res)) (x1 x3 x2 x4 x6 s0 s1 : Int32) (K242 : Int32 × Int32 × MS → Option (Int32 × MS)) (hK242 : ∀ a, K242 a = some res → J γ (MW G o a.2.2) 0 0 242 [(0, .ref o), (2, .int a.1)] []) (R : Int32 × Int32 × MS → Option (Int32 × MS)) (hR : ∀ a, R a = some res → J γ (MW G o a.2.2) 0 0 19 [(0, .ref o), (1, .int x1), (2, .int a.1), (3, .int x3), (4, .int a.2.1)] []) (σ : MS) (hf : m_isTrue_165 F K242 R x1 x2 x3 x4 x6 s0 s1 σ = some res) : J γ (MW G o σ) 0 0 165 [(0, .ref o), (1, .int x1), (2, .int x2), (3, .int x3), (4, .int x4), (6, .int x6)] [.int s0, .int s1] := by
  unfold m_isTrue_165 at hf
  refine j_icmp_ne (pc := 165) M.1 177 dX1_isTrue_165 rfl (fun c1 => ?_) (fun c1 => ?_)
  · replace hf := o_neg c1 hf
    refine j_iload_n (pc := 177) M.1 dX1_isTrue_177 2 rfl ?_
    refine j_iconst (pc := 178) M.1 dX1_isTrue_178 kc_iconst_1 ?_
    refine j_isub (pc := 179) M.1 dX1_isTrue_179 ?_
    refine j_istore_n (pc := 180) M.1 [(2, .int (x2 - 1)), (0, .ref o), (1, .int x1), (3, .int x3), (4, .int x4), (6, .int x6)] dX1_isTrue_180 rfl rfl ?_
    refine j_goto (pc := 181) M.1 239 dX1_isTrue_181 rfl ?_
    refine j_goto (pc := 239) M.1 19 dX1_isTrue_239 rfl ?_
    refine j_sub [1, 2, 0, 3, 4] (show lv_pick _ _ = [(0, .ref o), (1, .int x1), (2, .int (x2 - 1)), (3, .int x3), (4, .int x4)] from rfl) ?_
    have hy := hR _ hf
    exact hy
  · replace hf := o_pos c1 hf
    refine j_iload_n (pc := 168) M.1 dX1_isTrue_168 3 rfl ?_
    refine j_iload (pc := 169) M.1 dX1_isTrue_169 5 rfl ?_
    refine j_iadd (pc := 171) M.1 dX1_isTrue_171 ?_
    refine j_istore (pc := 172) M.1 [(4, .int (x3 + x6)), (0, .ref o), (1, .int x1), (2, .int x2), (3, .int x3), (6, .int x6)] dX1_isTrue_172 rfl rfl ?_
    refine j_goto (pc := 174) M.1 239 dX1_isTrue_174 rfl ?_
    refine j_goto (pc := 239) M.1 19 dX1_isTrue_239 rfl ?_
    refine j_sub [1, 2, 3, 4, 0] (show lv_pick _ _ = [(0, .ref o), (1, .int x1), (2, .int x2), (3, .int x3), (4, .int (x3 + x6))] from rfl) ?_
    have hy := hR _ hf
    exact hy
noncomputable def m_isTrue_145 (F : Nat) (K242 : Int32 × Int32 × MS → Option (Int32 × MS)) (R : Int32 × Int32 × MS → Option (Int32 × MS)) (x1 x2 x3 x4 x5 x6 : Int32) (σ : MS) : Option (Int32 × MS) :=
  if okI (x2 - 1) 180 = true then if x5 = 12 then (m_isTrue_165 F K242 R x1 x2 x3 x4 x6 1 (σ.2 38 (x2 - 1).toNatClampNeg) σ) else (m_isTrue_165 F K242 R x1 x2 x3 x4 x6 0 (σ.2 38 (x2 - 1).toNatClampNeg) σ) else none
theorem km_isTrue_145 (M : MC γ cX1_isTrue 7 G o 2 (some .boolean) (mQi G o res)) (x1 x3 x2 x4 x5 x6 : Int32) (K242 : Int32 × Int32 × MS → Option (Int32 × MS)) (hK242 : ∀ a, K242 a = some res → J γ (MW G o a.2.2) 0 0 242 [(0, .ref o), (2, .int a.1)] []) (R : Int32 × Int32 × MS → Option (Int32 × MS)) (hR : ∀ a, R a = some res → J γ (MW G o a.2.2) 0 0 19 [(0, .ref o), (1, .int x1), (2, .int a.1), (3, .int x3), (4, .int a.2.1)] []) (σ : MS) (hf : m_isTrue_145 F K242 R x1 x2 x3 x4 x5 x6 σ = some res) : J γ (MW G o σ) 0 0 145 [(0, .ref o), (1, .int x1), (2, .int x2), (3, .int x3), (4, .int x4), (5, .int x5), (6, .int x6)] [] := by
  unfold m_isTrue_145 at hf
  refine j_aload_n (pc := 145) M.1 dX1_isTrue_145 0 rfl ?_
  refine jm_getA (pc := 146) M fa_126 dX1_isTrue_146 ?_
  refine j_iload_n (pc := 149) M.1 dX1_isTrue_149 2 rfl ?_
  refine j_iconst (pc := 150) M.1 dX1_isTrue_150 kc_iconst_1 ?_
  refine j_isub (pc := 151) M.1 dX1_isTrue_151 ?_
  obtain ⟨b1, hf⟩ := o_need hf
  refine jm_iald (pc := 152) M ax_38 b1 dX1_isTrue_152 ?_
  refine j_iload (pc := 153) M.1 dX1_isTrue_153 5 rfl ?_
  refine j_bipush (pc := 155) M.1 dX1_isTrue_155 kc_bipush_12 ?_
  refine j_icmp_ne (pc := 157) M.1 164 dX1_isTrue_157 rfl (fun c1 => ?_) (fun c1 => ?_)
  · replace hf := o_neg c1 hf
    refine j_iconst (pc := 164) M.1 dX1_isTrue_164 kc_iconst_0 ?_
    refine j_sub [0, 1, 2, 3, 4, 6] (show lv_pick _ _ = [(0, .ref o), (1, .int x1), (2, .int x2), (3, .int x3), (4, .int x4), (6, .int x6)] from rfl) ?_
    exact km_isTrue_165 M x1 x3 x2 x4 x6 0 (σ.2 38 (x2 - 1).toNatClampNeg) K242 hK242 R hR σ hf
  · replace hf := o_pos c1 hf
    refine j_iconst (pc := 160) M.1 dX1_isTrue_160 kc_iconst_1 ?_
    refine j_goto (pc := 161) M.1 165 dX1_isTrue_161 rfl ?_
    refine j_sub [0, 1, 2, 3, 4, 6] (show lv_pick _ _ = [(0, .ref o), (1, .int x1), (2, .int x2), (3, .int x3), (4, .int x4), (6, .int x6)] from rfl) ?_
    exact km_isTrue_165 M x1 x3 x2 x4 x6 1 (σ.2 38 (x2 - 1).toNatClampNeg) K242 hK242 R hR σ hf
noncomputable def m_isTrue_212 (F : Nat) (K242 : Int32 × Int32 × MS → Option (Int32 × MS)) (R : Int32 × Int32 × MS → Option (Int32 × MS)) (x1 x2 x3 x4 x5 : Int32) (σ : MS) : Option (Int32 × MS) :=
  if okI (x2 - 1) 180 = true then if okI x2 180 = true then (m_reckon F x5 (σ.2 38 (x2 - 1).toNatClampNeg) (σ.2 38 x2.toNatClampNeg)).bind (fun r1 => if okI (x2 - 1) 180 = true then nx (sA σ 38 (x2 - 1).toNatClampNeg r1) (fun σ1 => R (x2, x4, σ1)) else none) else none else none
theorem km_isTrue_212 (M : MC γ cX1_isTrue 7 G o 2 (some .boolean) (mQi G o res)) (x1 x3 x2 x4 x5 : Int32) (K242 : Int32 × Int32 × MS → Option (Int32 × MS)) (hK242 : ∀ a, K242 a = some res → J γ (MW G o a.2.2) 0 0 242 [(0, .ref o), (2, .int a.1)] []) (R : Int32 × Int32 × MS → Option (Int32 × MS)) (hR : ∀ a, R a = some res → J γ (MW G o a.2.2) 0 0 19 [(0, .ref o), (1, .int x1), (2, .int a.1), (3, .int x3), (4, .int a.2.1)] []) (σ : MS) (hf : m_isTrue_212 F K242 R x1 x2 x3 x4 x5 σ = some res) : J γ (MW G o σ) 0 0 212 [(0, .ref o), (1, .int x1), (2, .int x2), (3, .int x3), (4, .int x4), (5, .int x5)] [] := by
  unfold m_isTrue_212 at hf
  refine j_aload_n (pc := 212) M.1 dX1_isTrue_212 0 rfl ?_
  refine jm_getA (pc := 213) M fa_126 dX1_isTrue_213 ?_
  refine j_iload_n (pc := 216) M.1 dX1_isTrue_216 2 rfl ?_
  refine j_iconst (pc := 217) M.1 dX1_isTrue_217 kc_iconst_1 ?_
  refine j_isub (pc := 218) M.1 dX1_isTrue_218 ?_
  refine j_iload (pc := 219) M.1 dX1_isTrue_219 5 rfl ?_
  refine j_aload_n (pc := 221) M.1 dX1_isTrue_221 0 rfl ?_
  refine jm_getA (pc := 222) M fa_126 dX1_isTrue_222 ?_
  refine j_iload_n (pc := 225) M.1 dX1_isTrue_225 2 rfl ?_
  refine j_iconst (pc := 226) M.1 dX1_isTrue_226 kc_iconst_1 ?_
  refine j_isub (pc := 227) M.1 dX1_isTrue_227 ?_
  obtain ⟨b1, hf⟩ := o_need hf
  refine jm_iald (pc := 228) M ax_38 b1 dX1_isTrue_228 ?_
  refine j_aload_n (pc := 229) M.1 dX1_isTrue_229 0 rfl ?_
  refine jm_getA (pc := 230) M fa_126 dX1_isTrue_230 ?_
  refine j_iload_n (pc := 233) M.1 dX1_isTrue_233 2 rfl ?_
  obtain ⟨b2, hf⟩ := o_need hf
  refine jm_iald (pc := 234) M ax_38 b2 dX1_isTrue_234 ?_
  obtain ⟨r1, g1, hf⟩ := o_bind hf
  refine jm_calls (pc := 235) (As := [.int x5, .int (σ.2 38 (x2 - 1).toNatClampNeg), .int (σ.2 38 x2.toNatClampNeg)]) (rest := [.int (x2 - 1), .ref (o + 1 + 38)]) M cs_X1_450 (met_reckon g1) rfl rfl rfl rfl dX1_isTrue_235 ?_
  obtain ⟨b3, hf⟩ := o_need hf
  obtain ⟨σ1, e1, hf⟩ := o_nx hf
  refine jm_iast (pc := 238) M ax_38 b3 dX1_isTrue_238 e1 ?_
  refine j_goto (pc := 239) M.1 19 dX1_isTrue_239 rfl ?_
  refine j_sub [0, 1, 2, 3, 4] (show lv_pick _ _ = [(0, .ref o), (1, .int x1), (2, .int x2), (3, .int x3), (4, .int x4)] from rfl) ?_
  have hy := hR _ hf
  exact hy
noncomputable def m_isTrue_201 (F : Nat) (K242 : Int32 × Int32 × MS → Option (Int32 × MS)) (R : Int32 × Int32 × MS → Option (Int32 × MS)) (x1 x2 x3 x4 x5 : Int32) (σ : MS) : Option (Int32 × MS) :=
  if okI x2 180 = true then if (σ.2 38 x2.toNatClampNeg) = 0 then (some (0, σ)) else (m_isTrue_212 F K242 R x1 x2 x3 x4 x5 σ) else none
theorem km_isTrue_201 (M : MC γ cX1_isTrue 7 G o 2 (some .boolean) (mQi G o res)) (x1 x3 x2 x4 x5 : Int32) (K242 : Int32 × Int32 × MS → Option (Int32 × MS)) (hK242 : ∀ a, K242 a = some res → J γ (MW G o a.2.2) 0 0 242 [(0, .ref o), (2, .int a.1)] []) (R : Int32 × Int32 × MS → Option (Int32 × MS)) (hR : ∀ a, R a = some res → J γ (MW G o a.2.2) 0 0 19 [(0, .ref o), (1, .int x1), (2, .int a.1), (3, .int x3), (4, .int a.2.1)] []) (σ : MS) (hf : m_isTrue_201 F K242 R x1 x2 x3 x4 x5 σ = some res) : J γ (MW G o σ) 0 0 201 [(0, .ref o), (1, .int x1), (2, .int x2), (3, .int x3), (4, .int x4), (5, .int x5)] [] := by
  unfold m_isTrue_201 at hf
  refine j_aload_n (pc := 201) M.1 dX1_isTrue_201 0 rfl ?_
  refine jm_getA (pc := 202) M fa_126 dX1_isTrue_202 ?_
  refine j_iload_n (pc := 205) M.1 dX1_isTrue_205 2 rfl ?_
  obtain ⟨b1, hf⟩ := o_need hf
  refine jm_iald (pc := 206) M ax_38 b1 dX1_isTrue_206 ?_
  refine j_if_ne (pc := 207) M.1 212 dX1_isTrue_207 rfl (fun c1 => ?_) (fun c1 => ?_)
  · replace hf := o_neg c1 hf
    exact km_isTrue_212 M x1 x3 x2 x4 x5 K242 hK242 R hR σ hf
  · replace hf := o_pos c1 hf
    refine j_iconst (pc := 210) M.1 dX1_isTrue_210 kc_iconst_0 ?_
    exact jm_zret (pc := 211) M dX1_isTrue_211 rfl hf
noncomputable def m_isTrue_B19 (F : Nat) (K242 : Int32 × Int32 × MS → Option (Int32 × MS)) (x1 x3 : Int32) (R : Int32 × Int32 × MS → Option (Int32 × MS)) (a : Int32 × Int32 × MS) : Option (Int32 × MS) :=
  if okI x1 200 = true then if (a.2.2.2 34 x1.toNatClampNeg) ≤ a.2.1 then (K242 (a.1, a.2.1, a.2.2)) else (if okI a.2.1 3600 = true then nx ((a.2.2.2 28 a.2.1.toNatClampNeg) / 1048576 : Int32) (fun y1 => if okI a.2.1 3600 = true then nx (jrem (a.2.2.2 28 a.2.1.toNatClampNeg) 1048576 : Int32) (fun y2 => if y1 = 0 then (m_isTrue_73 F K242 R x1 a.1 x3 (a.2.1 + 1) y1 y2 a.2.2) else (if y1 = 1 then (m_isTrue_73 F K242 R x1 a.1 x3 (a.2.1 + 1) y1 y2 a.2.2) else (if y1 = 10 then (if okI (a.1 - 1) 180 = true then if okI (a.1 - 1) 180 = true then nx (sA a.2.2 38 (a.1 - 1).toNatClampNeg (1 - (a.2.2.2 38 (a.1 - 1).toNatClampNeg))) (fun σ1 => R (a.1, a.2.1 + 1, σ1)) else none else none) else (if y1 = 11 then (m_isTrue_145 F K242 R x1 a.1 x3 (a.2.1 + 1) y1 y2 a.2.2) else (if y1 = 12 then (m_isTrue_145 F K242 R x1 a.1 x3 (a.2.1 + 1) y1 y2 a.2.2) else (if y1 = 5 then (m_isTrue_201 F K242 R x1 (a.1 - 1) x3 (a.2.1 + 1) y1 a.2.2) else (if y1 = 6 then (m_isTrue_201 F K242 R x1 (a.1 - 1) x3 (a.2.1 + 1) y1 a.2.2) else (m_isTrue_212 F K242 R x1 (a.1 - 1) x3 (a.2.1 + 1) y1 a.2.2)))))))) else none) else none) else none
theorem km_isTrue_B19 (M : MC γ cX1_isTrue 7 G o 2 (some .boolean) (mQi G o res)) (x1 x3 : Int32) (K242 : Int32 × Int32 × MS → Option (Int32 × MS)) (hK242 : ∀ a, K242 a = some res → J γ (MW G o a.2.2) 0 0 242 [(0, .ref o), (2, .int a.1)] []) : ∀ R : Int32 × Int32 × MS → Option (Int32 × MS), (∀ a, R a = some res → J γ (MW G o a.2.2) 0 0 19 [(0, .ref o), (1, .int x1), (2, .int a.1), (3, .int x3), (4, .int a.2.1)] []) → ∀ a, m_isTrue_B19 F K242 x1 x3 R a = some res → J γ (MW G o a.2.2) 0 0 19 [(0, .ref o), (1, .int x1), (2, .int a.1), (3, .int x3), (4, .int a.2.1)] [] := by
  intro R hR a hf
  unfold m_isTrue_B19 at hf
  refine j_iload (pc := 19) M.1 dX1_isTrue_19 4 rfl ?_
  refine j_aload_n (pc := 21) M.1 dX1_isTrue_21 0 rfl ?_
  refine jm_getA (pc := 22) M fa_113 dX1_isTrue_22 ?_
  refine j_iload_n (pc := 25) M.1 dX1_isTrue_25 1 rfl ?_
  obtain ⟨b1, hf⟩ := o_need hf
  refine jm_iald (pc := 26) M ax_34 b1 dX1_isTrue_26 ?_
  refine j_icmp_ge (pc := 27) M.1 242 dX1_isTrue_27 rfl (fun c1 => ?_) (fun c1 => ?_)
  · replace hf := o_pos c1 hf
    refine j_sub [0, 2] (show lv_pick _ _ = [(0, .ref o), (2, .int a.1)] from rfl) ?_
    have hy := hK242 _ hf
    exact hy
  · replace hf := o_neg c1 hf
    refine j_aload_n (pc := 30) M.1 dX1_isTrue_30 0 rfl ?_
    refine jm_getA (pc := 31) M fa_95 dX1_isTrue_31 ?_
    refine j_iload (pc := 34) M.1 dX1_isTrue_34 4 rfl ?_
    obtain ⟨b2, hf⟩ := o_need hf
    refine jm_iald (pc := 36) M ax_28 b2 dX1_isTrue_36 ?_
    refine j_ldcw (pc := 37) M.1 q1824 dX1_isTrue_37 ?_
    refine j_idiv (pc := 40) M.1 dX1_isTrue_40 (by decide) ?_
    obtain ⟨y1, e1, hf⟩ := o_nx hf
    refine j_top e1 ?_
    refine j_istore (pc := 41) M.1 [(5, .int y1), (0, .ref o), (1, .int x1), (2, .int a.1), (3, .int x3), (4, .int a.2.1)] dX1_isTrue_41 rfl rfl ?_
    refine j_aload_n (pc := 43) M.1 dX1_isTrue_43 1 rfl ?_
    refine jm_getA (pc := 44) M fa_95 dX1_isTrue_44 ?_
    refine j_iload (pc := 47) M.1 dX1_isTrue_47 5 rfl ?_
    obtain ⟨b3, hf⟩ := o_need hf
    refine jm_iald (pc := 49) M ax_28 b3 dX1_isTrue_49 ?_
    refine j_ldcw (pc := 50) M.1 q1824 dX1_isTrue_50 ?_
    refine j_irem (pc := 53) M.1 dX1_isTrue_53 (by decide) ?_
    obtain ⟨y2, e2, hf⟩ := o_nx hf
    refine j_top e2 ?_
    refine j_istore (pc := 54) M.1 [(6, .int y2), (5, .int y1), (0, .ref o), (1, .int x1), (2, .int a.1), (3, .int x3), (4, .int a.2.1)] dX1_isTrue_54 rfl rfl ?_
    refine j_iload (pc := 56) M.1 dX1_isTrue_56 6 rfl ?_
    refine j_iconst (pc := 58) M.1 dX1_isTrue_58 kc_iconst_1 ?_
    refine j_iadd (pc := 59) M.1 dX1_isTrue_59 ?_
    refine j_istore (pc := 60) M.1 [(4, .int (a.2.1 + 1)), (6, .int y2), (5, .int y1), (0, .ref o), (1, .int x1), (2, .int a.1), (3, .int x3)] dX1_isTrue_60 rfl rfl ?_
    refine j_iload (pc := 62) M.1 dX1_isTrue_62 2 rfl ?_
    refine j_if_eq (pc := 64) M.1 73 dX1_isTrue_64 rfl (fun c2 => ?_) (fun c2 => ?_)
    · replace hf := o_pos c2 hf
      refine j_sub [3, 4, 5, 6, 0, 2, 1] (show lv_pick _ _ = [(0, .ref o), (1, .int x1), (2, .int a.1), (3, .int x3), (4, .int (a.2.1 + 1)), (5, .int y1), (6, .int y2)] from rfl) ?_
      exact km_isTrue_73 M x1 x3 a.1 (a.2.1 + 1) y1 y2 K242 hK242 R hR a.2.2 hf
    · replace hf := o_neg c2 hf
      refine j_iload (pc := 67) M.1 dX1_isTrue_67 2 rfl ?_
      refine j_iconst (pc := 69) M.1 dX1_isTrue_69 kc_iconst_1 ?_
      refine j_icmp_ne (pc := 70) M.1 103 dX1_isTrue_70 rfl (fun c3 => ?_) (fun c3 => ?_)
      · replace hf := o_neg c3 hf
        refine j_iload (pc := 103) M.1 dX1_isTrue_103 2 rfl ?_
        refine j_bipush (pc := 105) M.1 dX1_isTrue_105 kc_bipush_10 ?_
        refine j_icmp_ne (pc := 107) M.1 131 dX1_isTrue_107 rfl (fun c4 => ?_) (fun c4 => ?_)
        · replace hf := o_neg c4 hf
          refine j_iload (pc := 131) M.1 dX1_isTrue_131 2 rfl ?_
          refine j_bipush (pc := 133) M.1 dX1_isTrue_133 kc_bipush_11 ?_
          refine j_icmp_eq (pc := 135) M.1 145 dX1_isTrue_135 rfl (fun c5 => ?_) (fun c5 => ?_)
          · replace hf := o_pos c5 hf
            refine j_sub [3, 4, 5, 6, 0, 2, 1] (show lv_pick _ _ = [(0, .ref o), (1, .int x1), (2, .int a.1), (3, .int x3), (4, .int (a.2.1 + 1)), (5, .int y1), (6, .int y2)] from rfl) ?_
            exact km_isTrue_145 M x1 x3 a.1 (a.2.1 + 1) y1 y2 K242 hK242 R hR a.2.2 hf
          · replace hf := o_neg c5 hf
            refine j_iload (pc := 138) M.1 dX1_isTrue_138 2 rfl ?_
            refine j_bipush (pc := 140) M.1 dX1_isTrue_140 kc_bipush_12 ?_
            refine j_icmp_ne (pc := 142) M.1 184 dX1_isTrue_142 rfl (fun c6 => ?_) (fun c6 => ?_)
            · replace hf := o_neg c6 hf
              refine j_iload_n (pc := 184) M.1 dX1_isTrue_184 5 rfl ?_
              refine j_iconst (pc := 185) M.1 dX1_isTrue_185 kc_iconst_1 ?_
              refine j_isub (pc := 186) M.1 dX1_isTrue_186 ?_
              refine j_istore_n (pc := 187) M.1 [(2, .int (a.1 - 1)), (4, .int (a.2.1 + 1)), (6, .int y2), (5, .int y1), (0, .ref o), (1, .int x1), (3, .int x3)] dX1_isTrue_187 rfl rfl ?_
              refine j_iload (pc := 188) M.1 dX1_isTrue_188 3 rfl ?_
              refine j_iconst (pc := 190) M.1 dX1_isTrue_190 kc_iconst_5 ?_
              refine j_icmp_eq (pc := 191) M.1 201 dX1_isTrue_191 rfl (fun c7 => ?_) (fun c7 => ?_)
              · replace hf := o_pos c7 hf
                refine j_sub [4, 5, 0, 6, 1, 3] (show lv_pick _ _ = [(0, .ref o), (1, .int x1), (2, .int (a.1 - 1)), (3, .int x3), (4, .int (a.2.1 + 1)), (5, .int y1)] from rfl) ?_
                exact km_isTrue_201 M x1 x3 (a.1 - 1) (a.2.1 + 1) y1 K242 hK242 R hR a.2.2 hf
              · replace hf := o_neg c7 hf
                refine j_iload (pc := 194) M.1 dX1_isTrue_194 3 rfl ?_
                refine j_bipush (pc := 196) M.1 dX1_isTrue_196 kc_bipush_6 ?_
                refine j_icmp_ne (pc := 198) M.1 212 dX1_isTrue_198 rfl (fun c8 => ?_) (fun c8 => ?_)
                · replace hf := o_neg c8 hf
                  refine j_sub [4, 5, 0, 6, 1, 3] (show lv_pick _ _ = [(0, .ref o), (1, .int x1), (2, .int (a.1 - 1)), (3, .int x3), (4, .int (a.2.1 + 1)), (5, .int y1)] from rfl) ?_
                  exact km_isTrue_212 M x1 x3 (a.1 - 1) (a.2.1 + 1) y1 K242 hK242 R hR a.2.2 hf
                · replace hf := o_pos c8 hf
                  refine j_sub [4, 5, 0, 6, 1, 3] (show lv_pick _ _ = [(0, .ref o), (1, .int x1), (2, .int (a.1 - 1)), (3, .int x3), (4, .int (a.2.1 + 1)), (5, .int y1)] from rfl) ?_
                  exact km_isTrue_201 M x1 x3 (a.1 - 1) (a.2.1 + 1) y1 K242 hK242 R hR a.2.2 hf
            · replace hf := o_pos c6 hf
              refine j_sub [3, 4, 5, 6, 0, 2, 1] (show lv_pick _ _ = [(0, .ref o), (1, .int x1), (2, .int a.1), (3, .int x3), (4, .int (a.2.1 + 1)), (5, .int y1), (6, .int y2)] from rfl) ?_
              exact km_isTrue_145 M x1 x3 a.1 (a.2.1 + 1) y1 y2 K242 hK242 R hR a.2.2 hf
        · replace hf := o_pos c4 hf
          refine j_aload_n (pc := 110) M.1 dX1_isTrue_110 3 rfl ?_
          refine jm_getA (pc := 111) M fa_126 dX1_isTrue_111 ?_
          refine j_iload_n (pc := 114) M.1 dX1_isTrue_114 5 rfl ?_
          refine j_iconst (pc := 115) M.1 dX1_isTrue_115 kc_iconst_1 ?_
          refine j_isub (pc := 116) M.1 dX1_isTrue_116 ?_
          refine j_iconst (pc := 117) M.1 dX1_isTrue_117 kc_iconst_1 ?_
          refine j_aload_n (pc := 118) M.1 dX1_isTrue_118 3 rfl ?_
          refine jm_getA (pc := 119) M fa_126 dX1_isTrue_119 ?_
          refine j_iload_n (pc := 122) M.1 dX1_isTrue_122 5 rfl ?_
          refine j_iconst (pc := 123) M.1 dX1_isTrue_123 kc_iconst_1 ?_
          refine j_isub (pc := 124) M.1 dX1_isTrue_124 ?_
          obtain ⟨b4, hf⟩ := o_need hf
          refine jm_iald (pc := 125) M ax_38 b4 dX1_isTrue_125 ?_
          refine j_isub (pc := 126) M.1 dX1_isTrue_126 ?_
          obtain ⟨b5, hf⟩ := o_need hf
          obtain ⟨σ1, e3, hf⟩ := o_nx hf
          refine jm_iast (pc := 127) M ax_38 b5 dX1_isTrue_127 e3 ?_
          refine j_goto (pc := 128) M.1 239 dX1_isTrue_128 rfl ?_
          refine j_goto (pc := 239) M.1 19 dX1_isTrue_239 rfl ?_
          refine j_sub [3, 4, 5, 6, 0] (show lv_pick _ _ = [(0, .ref o), (1, .int x1), (2, .int a.1), (3, .int x3), (4, .int (a.2.1 + 1))] from rfl) ?_
          have hy := hR _ hf
          exact hy
      · replace hf := o_pos c3 hf
        refine j_sub [3, 4, 5, 6, 0, 2, 1] (show lv_pick _ _ = [(0, .ref o), (1, .int x1), (2, .int a.1), (3, .int x3), (4, .int (a.2.1 + 1)), (5, .int y1), (6, .int y2)] from rfl) ?_
        exact km_isTrue_73 M x1 x3 a.1 (a.2.1 + 1) y1 y2 K242 hK242 R hR a.2.2 hf
noncomputable def m_isTrue (F : Nat) (x1 : Int32) (σ : MS) : Option (Int32 × MS) :=
  nx (180 * (x1 / 10) : Int32) (fun y1 => if okI x1 200 = true then nx (σ.2 33 x1.toNatClampNeg : Int32) (fun y2 => lp (m_isTrue_B19 F (fun a1 => if a1.1 = 0 then (some (1, a1.2.2)) else (if okI 0 180 = true then if (a1.2.2.2 38 (0 : Int32).toNatClampNeg) = 1 then (some (1, a1.2.2)) else (some (0, a1.2.2)) else none)) x1 y1) F (0, y2, σ)) else none)
theorem met_isTrue {l : Launch} {G : gG} {o F : Nat} {x1 : Int32} {σ : MS} {res : Int32 × MS} (hf : m_isTrue F x1 σ = some res) : MetMi l G yX1_isTrue cX1_isTrue 7 (some .boolean) 2 o [.int x1] σ res := by
  refine metMi_of (by decide) rfl rfl (fun γ hγ M => ?_)
  subst hγ
  show J γ (MW G o σ) 0 0 0 [(0, .ref o), (1, .int x1)] []
  unfold m_isTrue at hf
  refine j_iconst (pc := 0) M.1 dX1_isTrue_0 kc_iconst_0 ?_
  refine j_istore_n (pc := 1) M.1 [(2, .int 0), (0, .ref o), (1, .int x1)] dX1_isTrue_1 rfl rfl ?_
  refine j_sipush (pc := 2) M.1 dX1_isTrue_2 kc_sipush_180 ?_
  refine j_iload_n (pc := 5) M.1 dX1_isTrue_5 2 rfl ?_
  refine j_bipush (pc := 6) M.1 dX1_isTrue_6 kc_bipush_10 ?_
  refine j_idiv (pc := 8) M.1 dX1_isTrue_8 (by decide) ?_
  refine j_imul (pc := 9) M.1 dX1_isTrue_9 ?_
  obtain ⟨y1, e1, hf⟩ := o_nx hf
  refine j_top e1 ?_
  refine j_istore_n (pc := 10) M.1 [(3, .int y1), (2, .int 0), (0, .ref o), (1, .int x1)] dX1_isTrue_10 rfl rfl ?_
  refine j_aload_n (pc := 11) M.1 dX1_isTrue_11 2 rfl ?_
  refine jm_getA (pc := 12) M fa_110 dX1_isTrue_12 ?_
  refine j_iload_n (pc := 15) M.1 dX1_isTrue_15 3 rfl ?_
  obtain ⟨b1, hf⟩ := o_need hf
  refine jm_iald (pc := 16) M ax_33 b1 dX1_isTrue_16 ?_
  obtain ⟨y2, e2, hf⟩ := o_nx hf
  refine j_top e2 ?_
  refine j_istore (pc := 17) M.1 [(4, .int y2), (3, .int y1), (2, .int 0), (0, .ref o), (1, .int x1)] dX1_isTrue_17 rfl rfl ?_
  refine j_sub [3, 4, 2, 1, 0] (show lv_pick _ _ = [(0, .ref o), (1, .int x1), (2, .int 0), (3, .int y1), (4, .int y2)] from rfl) ?_
  refine lp_W (km_isTrue_B19 M x1 y1 _ ?_) F (0, y2, σ) hf
  · intro a1 hf
    refine j_iload_n (pc := 242) M.1 dX1_isTrue_242 1 rfl ?_
    refine j_if_eq (pc := 243) M.1 256 dX1_isTrue_243 rfl (fun c1 => ?_) (fun c1 => ?_)
    · replace hf := o_pos c1 hf
      refine j_iconst (pc := 256) M.1 dX1_isTrue_256 kc_iconst_1 ?_
      refine j_goto (pc := 257) M.1 261 dX1_isTrue_257 rfl ?_
      exact jm_zret (pc := 261) M dX1_isTrue_261 rfl hf
    · replace hf := o_neg c1 hf
      refine j_aload_n (pc := 246) M.1 dX1_isTrue_246 0 rfl ?_
      refine jm_getA (pc := 247) M fa_126 dX1_isTrue_247 ?_
      refine j_iconst (pc := 250) M.1 dX1_isTrue_250 kc_iconst_0 ?_
      obtain ⟨b2, hf⟩ := o_need hf
      refine jm_iald (pc := 251) M ax_38 b2 dX1_isTrue_251 ?_
      refine j_iconst (pc := 252) M.1 dX1_isTrue_252 kc_iconst_1 ?_
      refine j_icmp_ne (pc := 253) M.1 260 dX1_isTrue_253 rfl (fun c2 => ?_) (fun c2 => ?_)
      · replace hf := o_neg c2 hf
        refine j_iconst (pc := 260) M.1 dX1_isTrue_260 kc_iconst_0 ?_
        exact jm_zret (pc := 261) M dX1_isTrue_261 rfl hf
      · replace hf := o_pos c2 hf
        refine j_iconst (pc := 256) M.1 dX1_isTrue_256 kc_iconst_1 ?_
        refine j_goto (pc := 257) M.1 261 dX1_isTrue_257 rfl ?_
        exact jm_zret (pc := 261) M dX1_isTrue_261 rfl hf
end
theorem dX1_jumps_0 : decode cX1_jumps 0 = .ok (.aload_n 0, 1) := by decide +kernel
theorem dX1_jumps_1 : decode cX1_jumps 1 = .ok (.getfield 77, 3) := by decide +kernel
theorem dX1_jumps_4 : decode cX1_jumps 4 = .ok (.aload_n 0, 1) := by decide +kernel
theorem dX1_jumps_5 : decode cX1_jumps 5 = .ok (.getfield 378, 3) := by decide +kernel
theorem dX1_jumps_8 : decode cX1_jumps 8 = .ok (.ldc_w 374, 3) := by decide +kernel
theorem dX1_jumps_11 : decode cX1_jumps 11 = .ok (.iload_n 1, 1) := by decide +kernel
theorem dX1_jumps_12 : decode cX1_jumps 12 = .ok (.imul, 1) := by decide +kernel
theorem dX1_jumps_13 : decode cX1_jumps 13 = .ok (.aload_n 0, 1) := by decide +kernel
theorem dX1_jumps_14 : decode cX1_jumps 14 = .ok (.getfield 371, 3) := by decide +kernel
theorem dX1_jumps_17 : decode cX1_jumps 17 = .ok (.iadd, 1) := by decide +kernel
theorem dX1_jumps_18 : decode cX1_jumps 18 = .ok (.iastore, 1) := by decide +kernel
theorem dX1_jumps_19 : decode cX1_jumps 19 = .ok (.aload_n 0, 1) := by decide +kernel
theorem dX1_jumps_20 : decode cX1_jumps 20 = .ok (.aload_n 0, 1) := by decide +kernel
theorem dX1_jumps_21 : decode cX1_jumps 21 = .ok (.getfield 378, 3) := by decide +kernel
theorem dX1_jumps_24 : decode cX1_jumps 24 = .ok (.iconst 1, 1) := by decide +kernel
theorem dX1_jumps_25 : decode cX1_jumps 25 = .ok (.iadd, 1) := by decide +kernel
theorem dX1_jumps_26 : decode cX1_jumps 26 = .ok (.putfield 378, 3) := by decide +kernel
theorem dX1_jumps_29 : decode cX1_jumps 29 = .ok (.aload_n 0, 1) := by decide +kernel
theorem dX1_jumps_30 : decode cX1_jumps 30 = .ok (.iload_n 1, 1) := by decide +kernel
theorem dX1_jumps_31 : decode cX1_jumps 31 = .ok (.iconst 0, 1) := by decide +kernel
theorem dX1_jumps_32 : decode cX1_jumps 32 = .ok (.invokevirtual 384, 3) := by decide +kernel
theorem dX1_jumps_35 : decode cX1_jumps 35 = .ok (.aload_n 0, 1) := by decide +kernel
theorem dX1_jumps_36 : decode cX1_jumps 36 = .ok (.aload_n 0, 1) := by decide +kernel
theorem dX1_jumps_37 : decode cX1_jumps 37 = .ok (.getfield 348, 3) := by decide +kernel
theorem dX1_jumps_40 : decode cX1_jumps 40 = .ok (.iconst 1, 1) := by decide +kernel
theorem dX1_jumps_41 : decode cX1_jumps 41 = .ok (.iadd, 1) := by decide +kernel
theorem dX1_jumps_42 : decode cX1_jumps 42 = .ok (.putfield 348, 3) := by decide +kernel
theorem dX1_jumps_45 : decode cX1_jumps 45 = .ok (.return_, 1) := by decide +kernel
section
variable {res : Int32 × MS}
noncomputable def m_jumps (F : Nat) (x1 : Int32) (σ : MS) : Option (Int32 × MS) :=
  if okI (σ.1 35) 180 = true then nx (sA σ 22 (σ.1 35).toNatClampNeg ((1048576 * x1) + (σ.1 34))) (fun σ1 => nx (sS σ1 35 ((σ1.1 35) + 1)) (fun σ2 => (m_says F x1 0 σ2).bind (fun r1 => nx (sS r1.2 29 ((r1.2.1 29) + 1)) (fun σ3 => some (0, σ3))))) else none
theorem met_jumps {l : Launch} {G : gG} {o F : Nat} {x1 : Int32} {σ : MS} {res : Int32 × MS} (hf : m_jumps F x1 σ = some res) : MetMv l G yX1_jumps cX1_jumps 2 2 o [.int x1] σ res := by
  refine metMv_of (by decide) rfl rfl (fun γ hγ M => ?_)
  subst hγ
  show J γ (MW G o σ) 0 0 0 [(0, .ref o), (1, .int x1)] []
  unfold m_jumps at hf
  refine j_aload_n (pc := 0) M.1 dX1_jumps_0 0 rfl ?_
  refine jm_getA (pc := 1) M fa_77 dX1_jumps_1 ?_
  refine j_aload_n (pc := 4) M.1 dX1_jumps_4 0 rfl ?_
  refine jm_getS (pc := 5) M fm_378 dX1_jumps_5 ?_
  refine j_ldcw (pc := 8) M.1 q1824 dX1_jumps_8 ?_
  refine j_iload_n (pc := 11) M.1 dX1_jumps_11 1 rfl ?_
  refine j_imul (pc := 12) M.1 dX1_jumps_12 ?_
  refine j_aload_n (pc := 13) M.1 dX1_jumps_13 0 rfl ?_
  refine jm_getS (pc := 14) M fm_371 dX1_jumps_14 ?_
  refine j_iadd (pc := 17) M.1 dX1_jumps_17 ?_
  obtain ⟨b1, hf⟩ := o_need hf
  obtain ⟨σ1, e1, hf⟩ := o_nx hf
  refine jm_iast (pc := 18) M ax_22 b1 dX1_jumps_18 e1 ?_
  refine j_aload_n (pc := 19) M.1 dX1_jumps_19 0 rfl ?_
  refine j_aload_n (pc := 20) M.1 dX1_jumps_20 0 rfl ?_
  refine jm_getS (pc := 21) M fm_378 dX1_jumps_21 ?_
  refine j_iconst (pc := 24) M.1 dX1_jumps_24 kc_iconst_1 ?_
  refine j_iadd (pc := 25) M.1 dX1_jumps_25 ?_
  obtain ⟨σ2, e2, hf⟩ := o_nx hf
  refine jm_put (pc := 26) M fm_378 dX1_jumps_26 e2 ?_
  refine j_aload_n (pc := 29) M.1 dX1_jumps_29 0 rfl ?_
  refine j_iload_n (pc := 30) M.1 dX1_jumps_30 1 rfl ?_
  refine j_iconst (pc := 31) M.1 dX1_jumps_31 kc_iconst_0 ?_
  obtain ⟨r1, g1, hf⟩ := o_bind hf
  refine jm_callv (pc := 32) (As := [.int x1, .int 0]) (rest := []) M cm_384 (met_says g1) rfl rfl rfl rfl dX1_jumps_32 ?_
  refine j_aload_n (pc := 35) M.1 dX1_jumps_35 0 rfl ?_
  refine j_aload_n (pc := 36) M.1 dX1_jumps_36 0 rfl ?_
  refine jm_getS (pc := 37) M fm_348 dX1_jumps_37 ?_
  refine j_iconst (pc := 40) M.1 dX1_jumps_40 kc_iconst_1 ?_
  refine j_iadd (pc := 41) M.1 dX1_jumps_41 ?_
  obtain ⟨σ3, e3, hf⟩ := o_nx hf
  refine jm_put (pc := 42) M fm_348 dX1_jumps_42 e3 ?_
  exact jm_vret (pc := 45) M dX1_jumps_45 hf
end
theorem dX1_lands_0 : decode cX1_lands 0 = .ok (.aload_n 0, 1) := by decide +kernel
theorem dX1_lands_1 : decode cX1_lands 1 = .ok (.invokevirtual 381, 3) := by decide +kernel
theorem dX1_lands_4 : decode cX1_lands 4 = .ok (.bipush 11, 2) := by decide +kernel
theorem dX1_lands_6 : decode cX1_lands 6 = .ok (.if_icmp .eq 16, 3) := by decide +kernel
theorem dX1_lands_9 : decode cX1_lands 9 = .ok (.iload_n 1, 1) := by decide +kernel
theorem dX1_lands_10 : decode cX1_lands 10 = .ok (.ifCond .eq 66, 3) := by decide +kernel
theorem dX1_lands_13 : decode cX1_lands 13 = .ok (.aload_n 0, 1) := by decide +kernel
theorem dX1_lands_14 : decode cX1_lands 14 = .ok (.invokevirtual 381, 3) := by decide +kernel
theorem dX1_lands_17 : decode cX1_lands 17 = .ok (.bipush 12, 2) := by decide +kernel
theorem dX1_lands_19 : decode cX1_lands 19 = .ok (.if_icmp .ne 57, 3) := by decide +kernel
theorem dX1_lands_22 : decode cX1_lands 22 = .ok (.aload_n 0, 1) := by decide +kernel
theorem dX1_lands_23 : decode cX1_lands 23 = .ok (.getfield 77, 3) := by decide +kernel
theorem dX1_lands_26 : decode cX1_lands 26 = .ok (.aload_n 0, 1) := by decide +kernel
theorem dX1_lands_27 : decode cX1_lands 27 = .ok (.getfield 378, 3) := by decide +kernel
theorem dX1_lands_30 : decode cX1_lands 30 = .ok (.iconst 1, 1) := by decide +kernel
theorem dX1_lands_31 : decode cX1_lands 31 = .ok (.isub, 1) := by decide +kernel
theorem dX1_lands_32 : decode cX1_lands 32 = .ok (.iaload, 1) := by decide +kernel
theorem dX1_lands_33 : decode cX1_lands 33 = .ok (.ldc_w 374, 3) := by decide +kernel
theorem dX1_lands_36 : decode cX1_lands 36 = .ok (.irem, 1) := by decide +kernel
theorem dX1_lands_37 : decode cX1_lands 37 = .ok (.istore_n 2, 1) := by decide +kernel
theorem dX1_lands_38 : decode cX1_lands 38 = .ok (.aload_n 0, 1) := by decide +kernel
theorem dX1_lands_39 : decode cX1_lands 39 = .ok (.getfield 74, 3) := by decide +kernel
theorem dX1_lands_42 : decode cX1_lands 42 = .ok (.iload_n 2, 1) := by decide +kernel
theorem dX1_lands_43 : decode cX1_lands 43 = .ok (.ldc_w 374, 3) := by decide +kernel
theorem dX1_lands_46 : decode cX1_lands 46 = .ok (.aload_n 0, 1) := by decide +kernel
theorem dX1_lands_47 : decode cX1_lands 47 = .ok (.getfield 74, 3) := by decide +kernel
theorem dX1_lands_50 : decode cX1_lands 50 = .ok (.iload_n 2, 1) := by decide +kernel
theorem dX1_lands_51 : decode cX1_lands 51 = .ok (.iaload, 1) := by decide +kernel
theorem dX1_lands_52 : decode cX1_lands 52 = .ok (.ldc_w 374, 3) := by decide +kernel
theorem dX1_lands_55 : decode cX1_lands 55 = .ok (.idiv, 1) := by decide +kernel
theorem dX1_lands_56 : decode cX1_lands 56 = .ok (.imul, 1) := by decide +kernel
theorem dX1_lands_57 : decode cX1_lands 57 = .ok (.aload_n 0, 1) := by decide +kernel
theorem dX1_lands_58 : decode cX1_lands 58 = .ok (.getfield 371, 3) := by decide +kernel
theorem dX1_lands_61 : decode cX1_lands 61 = .ok (.iadd, 1) := by decide +kernel
theorem dX1_lands_62 : decode cX1_lands 62 = .ok (.iastore, 1) := by decide +kernel
theorem dX1_lands_63 : decode cX1_lands 63 = .ok (.aload_n 0, 1) := by decide +kernel
theorem dX1_lands_64 : decode cX1_lands 64 = .ok (.aload_n 0, 1) := by decide +kernel
theorem dX1_lands_65 : decode cX1_lands 65 = .ok (.getfield 378, 3) := by decide +kernel
theorem dX1_lands_68 : decode cX1_lands 68 = .ok (.iconst 1, 1) := by decide +kernel
theorem dX1_lands_69 : decode cX1_lands 69 = .ok (.isub, 1) := by decide +kernel
theorem dX1_lands_70 : decode cX1_lands 70 = .ok (.putfield 378, 3) := by decide +kernel
theorem dX1_lands_73 : decode cX1_lands 73 = .ok (.goto (-73), 3) := by decide +kernel
theorem dX1_lands_76 : decode cX1_lands 76 = .ok (.return_, 1) := by decide +kernel
section
variable {res : Int32 × MS}
noncomputable def m_lands_22 (F : Nat) (R : MS → Option (Int32 × MS)) (x1 : Int32) (σ : MS) : Option (Int32 × MS) :=
  if okI ((σ.1 35) - 1) 180 = true then nx (jrem (σ.2 22 ((σ.1 35) - 1).toNatClampNeg) 1048576 : Int32) (fun y1 => if okI y1 180 = true then if okI y1 180 = true then nx (sA σ 21 y1.toNatClampNeg ((1048576 * ((σ.2 21 y1.toNatClampNeg) / 1048576)) + (σ.1 34))) (fun σ1 => nx (sS σ1 35 ((σ1.1 35) - 1)) (fun σ2 => R σ2)) else none else none) else none
theorem km_lands_22 (M : MC γ cX1_lands 3 G o 2 none (mQv G o res)) (x1 : Int32) (R : MS → Option (Int32 × MS)) (hR : ∀ a, R a = some res → J γ (MW G o a) 0 0 0 [(0, .ref o), (1, .int x1)] []) (σ : MS) (hf : m_lands_22 F R x1 σ = some res) : J γ (MW G o σ) 0 0 22 [(0, .ref o), (1, .int x1)] [] := by
  unfold m_lands_22 at hf
  refine j_aload_n (pc := 22) M.1 dX1_lands_22 0 rfl ?_
  refine jm_getA (pc := 23) M fa_77 dX1_lands_23 ?_
  refine j_aload_n (pc := 26) M.1 dX1_lands_26 0 rfl ?_
  refine jm_getS (pc := 27) M fm_378 dX1_lands_27 ?_
  refine j_iconst (pc := 30) M.1 dX1_lands_30 kc_iconst_1 ?_
  refine j_isub (pc := 31) M.1 dX1_lands_31 ?_
  obtain ⟨b1, hf⟩ := o_need hf
  refine jm_iald (pc := 32) M ax_22 b1 dX1_lands_32 ?_
  refine j_ldcw (pc := 33) M.1 q1824 dX1_lands_33 ?_
  refine j_irem (pc := 36) M.1 dX1_lands_36 (by decide) ?_
  obtain ⟨y1, e1, hf⟩ := o_nx hf
  refine j_top e1 ?_
  refine j_istore_n (pc := 37) M.1 [(2, .int y1), (0, .ref o), (1, .int x1)] dX1_lands_37 rfl rfl ?_
  refine j_aload_n (pc := 38) M.1 dX1_lands_38 1 rfl ?_
  refine jm_getA (pc := 39) M fa_74 dX1_lands_39 ?_
  refine j_iload_n (pc := 42) M.1 dX1_lands_42 0 rfl ?_
  refine j_ldcw (pc := 43) M.1 q1824 dX1_lands_43 ?_
  refine j_aload_n (pc := 46) M.1 dX1_lands_46 1 rfl ?_
  refine jm_getA (pc := 47) M fa_74 dX1_lands_47 ?_
  refine j_iload_n (pc := 50) M.1 dX1_lands_50 0 rfl ?_
  obtain ⟨b2, hf⟩ := o_need hf
  refine jm_iald (pc := 51) M ax_21 b2 dX1_lands_51 ?_
  refine j_ldcw (pc := 52) M.1 q1824 dX1_lands_52 ?_
  refine j_idiv (pc := 55) M.1 dX1_lands_55 (by decide) ?_
  refine j_imul (pc := 56) M.1 dX1_lands_56 ?_
  refine j_aload_n (pc := 57) M.1 dX1_lands_57 1 rfl ?_
  refine jm_getS (pc := 58) M fm_371 dX1_lands_58 ?_
  refine j_iadd (pc := 61) M.1 dX1_lands_61 ?_
  obtain ⟨b3, hf⟩ := o_need hf
  obtain ⟨σ1, e2, hf⟩ := o_nx hf
  refine jm_iast (pc := 62) M ax_21 b3 dX1_lands_62 e2 ?_
  refine j_aload_n (pc := 63) M.1 dX1_lands_63 1 rfl ?_
  refine j_aload_n (pc := 64) M.1 dX1_lands_64 1 rfl ?_
  refine jm_getS (pc := 65) M fm_378 dX1_lands_65 ?_
  refine j_iconst (pc := 68) M.1 dX1_lands_68 kc_iconst_1 ?_
  refine j_isub (pc := 69) M.1 dX1_lands_69 ?_
  obtain ⟨σ2, e3, hf⟩ := o_nx hf
  refine jm_put (pc := 70) M fm_378 dX1_lands_70 e3 ?_
  refine j_goto (pc := 73) M.1 0 dX1_lands_73 rfl ?_
  refine j_sub [1, 2] (show lv_pick _ _ = [(0, .ref o), (1, .int x1)] from rfl) ?_
  have hy := hR _ hf
  exact hy
noncomputable def m_lands_B0 (F : Nat) (x1 : Int32) (R : MS → Option (Int32 × MS)) (a : MS) : Option (Int32 × MS) :=
  (m_top F a).bind (fun r1 => if r1.1 = 11 then (m_lands_22 F R x1 r1.2) else (if x1 = 0 then (some (0, r1.2)) else ((m_top F r1.2).bind (fun r2 => if r2.1 = 12 then (m_lands_22 F R x1 r2.2) else (some (0, r2.2))))))
theorem km_lands_B0 (M : MC γ cX1_lands 3 G o 2 none (mQv G o res)) (x1 : Int32) : ∀ R : MS → Option (Int32 × MS), (∀ a, R a = some res → J γ (MW G o a) 0 0 0 [(0, .ref o), (1, .int x1)] []) → ∀ a, m_lands_B0 F x1 R a = some res → J γ (MW G o a) 0 0 0 [(0, .ref o), (1, .int x1)] [] := by
  intro R hR a hf
  unfold m_lands_B0 at hf
  refine j_aload_n (pc := 0) M.1 dX1_lands_0 0 rfl ?_
  obtain ⟨r1, g1, hf⟩ := o_bind hf
  refine jm_calli (pc := 1) (As := []) (rest := []) M cm_381 (met_top g1) rfl rfl rfl rfl dX1_lands_1 ?_
  refine j_bipush (pc := 4) M.1 dX1_lands_4 kc_bipush_11 ?_
  refine j_icmp_eq (pc := 6) M.1 22 dX1_lands_6 rfl (fun c1 => ?_) (fun c1 => ?_)
  · replace hf := o_pos c1 hf
    exact km_lands_22 M x1 R hR r1.2 hf
  · replace hf := o_neg c1 hf
    refine j_iload_n (pc := 9) M.1 dX1_lands_9 1 rfl ?_
    refine j_if_eq (pc := 10) M.1 76 dX1_lands_10 rfl (fun c2 => ?_) (fun c2 => ?_)
    · replace hf := o_pos c2 hf
      exact jm_vret (pc := 76) M dX1_lands_76 hf
    · replace hf := o_neg c2 hf
      refine j_aload_n (pc := 13) M.1 dX1_lands_13 0 rfl ?_
      obtain ⟨r2, g2, hf⟩ := o_bind hf
      refine jm_calli (pc := 14) (As := []) (rest := []) M cm_381 (met_top g2) rfl rfl rfl rfl dX1_lands_14 ?_
      refine j_bipush (pc := 17) M.1 dX1_lands_17 kc_bipush_12 ?_
      refine j_icmp_ne (pc := 19) M.1 76 dX1_lands_19 rfl (fun c3 => ?_) (fun c3 => ?_)
      · replace hf := o_neg c3 hf
        exact jm_vret (pc := 76) M dX1_lands_76 hf
      · replace hf := o_pos c3 hf
        exact km_lands_22 M x1 R hR r2.2 hf
noncomputable def m_lands (F : Nat) (x1 : Int32) (σ : MS) : Option (Int32 × MS) :=
  lp (m_lands_B0 F x1) F σ
theorem met_lands {l : Launch} {G : gG} {o F : Nat} {x1 : Int32} {σ : MS} {res : Int32 × MS} (hf : m_lands F x1 σ = some res) : MetMv l G yX1_lands cX1_lands 3 2 o [.int x1] σ res := by
  refine metMv_of (by decide) rfl rfl (fun γ hγ M => ?_)
  subst hγ
  show J γ (MW G o σ) 0 0 0 [(0, .ref o), (1, .int x1)] []
  unfold m_lands at hf
  refine lp_W (km_lands_B0 M x1) F σ hf
end
theorem dX1_meaningOf_0 : decode cX1_meaningOf 0 = .ok (.aload_n 0, 1) := by decide +kernel
theorem dX1_meaningOf_1 : decode cX1_meaningOf 1 = .ok (.getfield 334, 3) := by decide +kernel
theorem dX1_meaningOf_4 : decode cX1_meaningOf 4 = .ok (.iconst 1, 1) := by decide +kernel
theorem dX1_meaningOf_5 : decode cX1_meaningOf 5 = .ok (.isub, 1) := by decide +kernel
theorem dX1_meaningOf_6 : decode cX1_meaningOf 6 = .ok (.istore 4, 2) := by decide +kernel
theorem dX1_meaningOf_8 : decode cX1_meaningOf 8 = .ok (.iload 4, 2) := by decide +kernel
theorem dX1_meaningOf_10 : decode cX1_meaningOf 10 = .ok (.ifCond .lt 60, 3) := by decide +kernel
theorem dX1_meaningOf_13 : decode cX1_meaningOf 13 = .ok (.aload_n 0, 1) := by decide +kernel
theorem dX1_meaningOf_14 : decode cX1_meaningOf 14 = .ok (.getfield 55, 3) := by decide +kernel
theorem dX1_meaningOf_17 : decode cX1_meaningOf 17 = .ok (.iload 4, 2) := by decide +kernel
theorem dX1_meaningOf_19 : decode cX1_meaningOf 19 = .ok (.iaload, 1) := by decide +kernel
theorem dX1_meaningOf_20 : decode cX1_meaningOf 20 = .ok (.iload_n 1, 1) := by decide +kernel
theorem dX1_meaningOf_21 : decode cX1_meaningOf 21 = .ok (.if_icmp .ne 43, 3) := by decide +kernel
theorem dX1_meaningOf_24 : decode cX1_meaningOf 24 = .ok (.aload_n 0, 1) := by decide +kernel
theorem dX1_meaningOf_25 : decode cX1_meaningOf 25 = .ok (.getfield 58, 3) := by decide +kernel
theorem dX1_meaningOf_28 : decode cX1_meaningOf 28 = .ok (.iload 4, 2) := by decide +kernel
theorem dX1_meaningOf_30 : decode cX1_meaningOf 30 = .ok (.iaload, 1) := by decide +kernel
theorem dX1_meaningOf_31 : decode cX1_meaningOf 31 = .ok (.iload_n 2, 1) := by decide +kernel
theorem dX1_meaningOf_32 : decode cX1_meaningOf 32 = .ok (.if_icmp .ne 32, 3) := by decide +kernel
theorem dX1_meaningOf_35 : decode cX1_meaningOf 35 = .ok (.iload_n 3, 1) := by decide +kernel
theorem dX1_meaningOf_36 : decode cX1_meaningOf 36 = .ok (.aload_n 0, 1) := by decide +kernel
theorem dX1_meaningOf_37 : decode cX1_meaningOf 37 = .ok (.getfield 64, 3) := by decide +kernel
theorem dX1_meaningOf_40 : decode cX1_meaningOf 40 = .ok (.iload 4, 2) := by decide +kernel
theorem dX1_meaningOf_42 : decode cX1_meaningOf 42 = .ok (.iaload, 1) := by decide +kernel
theorem dX1_meaningOf_43 : decode cX1_meaningOf 43 = .ok (.aload_n 0, 1) := by decide +kernel
theorem dX1_meaningOf_44 : decode cX1_meaningOf 44 = .ok (.getfield 67, 3) := by decide +kernel
theorem dX1_meaningOf_47 : decode cX1_meaningOf 47 = .ok (.iload 4, 2) := by decide +kernel
theorem dX1_meaningOf_49 : decode cX1_meaningOf 49 = .ok (.iaload, 1) := by decide +kernel
theorem dX1_meaningOf_50 : decode cX1_meaningOf 50 = .ok (.invokestatic 278, 3) := by decide +kernel
theorem dX1_meaningOf_53 : decode cX1_meaningOf 53 = .ok (.ifCond .eq 11, 3) := by decide +kernel
theorem dX1_meaningOf_56 : decode cX1_meaningOf 56 = .ok (.aload_n 0, 1) := by decide +kernel
theorem dX1_meaningOf_57 : decode cX1_meaningOf 57 = .ok (.getfield 61, 3) := by decide +kernel
theorem dX1_meaningOf_60 : decode cX1_meaningOf 60 = .ok (.iload 4, 2) := by decide +kernel
theorem dX1_meaningOf_62 : decode cX1_meaningOf 62 = .ok (.iaload, 1) := by decide +kernel
theorem dX1_meaningOf_63 : decode cX1_meaningOf 63 = .ok (.ireturn, 1) := by decide +kernel
theorem dX1_meaningOf_64 : decode cX1_meaningOf 64 = .ok (.iinc 4 (-1), 3) := by decide +kernel
theorem dX1_meaningOf_67 : decode cX1_meaningOf 67 = .ok (.goto (-59), 3) := by decide +kernel
theorem dX1_meaningOf_70 : decode cX1_meaningOf 70 = .ok (.iconst (-1), 1) := by decide +kernel
theorem dX1_meaningOf_71 : decode cX1_meaningOf 71 = .ok (.ireturn, 1) := by decide +kernel
section
variable {res : Int32 × MS}
noncomputable def m_meaningOf_B8 (F : Nat) (x1 x2 x3 : Int32) (R : Int32 × MS → Option (Int32 × MS)) (a : Int32 × MS) : Option (Int32 × MS) :=
  if a.1 < 0 then (some ((-1), a.2)) else (if okI a.1 200 = true then if (a.2.2 15 a.1.toNatClampNeg) = x1 then (if okI a.1 200 = true then if (a.2.2 16 a.1.toNatClampNeg) = x2 then (if okI a.1 200 = true then if okI a.1 200 = true then (m_in F x3 (a.2.2 18 a.1.toNatClampNeg) (a.2.2 19 a.1.toNatClampNeg)).bind (fun r1 => if r1 = 0 then (R (a.1 + (-1), a.2)) else (if okI a.1 200 = true then some (a.2.2 17 a.1.toNatClampNeg, a.2) else none)) else none else none) else (R (a.1 + (-1), a.2)) else none) else (R (a.1 + (-1), a.2)) else none)
theorem km_meaningOf_B8 (M : MC γ cX1_meaningOf 5 G o 2 (some .int) (mQi G o res)) (x1 x2 x3 : Int32) : ∀ R : Int32 × MS → Option (Int32 × MS), (∀ a, R a = some res → J γ (MW G o a.2) 0 0 8 [(0, .ref o), (1, .int x1), (2, .int x2), (3, .int x3), (4, .int a.1)] []) → ∀ a, m_meaningOf_B8 F x1 x2 x3 R a = some res → J γ (MW G o a.2) 0 0 8 [(0, .ref o), (1, .int x1), (2, .int x2), (3, .int x3), (4, .int a.1)] [] := by
  intro R hR a hf
  unfold m_meaningOf_B8 at hf
  refine j_iload (pc := 8) M.1 dX1_meaningOf_8 4 rfl ?_
  refine j_if_lt (pc := 10) M.1 70 dX1_meaningOf_10 rfl (fun c1 => ?_) (fun c1 => ?_)
  · replace hf := o_pos c1 hf
    refine j_iconst (pc := 70) M.1 dX1_meaningOf_70 kc_iconst_m1 ?_
    exact jm_iret (pc := 71) M dX1_meaningOf_71 hf
  · replace hf := o_neg c1 hf
    refine j_aload_n (pc := 13) M.1 dX1_meaningOf_13 0 rfl ?_
    refine jm_getA (pc := 14) M fa_55 dX1_meaningOf_14 ?_
    refine j_iload (pc := 17) M.1 dX1_meaningOf_17 4 rfl ?_
    obtain ⟨b1, hf⟩ := o_need hf
    refine jm_iald (pc := 19) M ax_15 b1 dX1_meaningOf_19 ?_
    refine j_iload_n (pc := 20) M.1 dX1_meaningOf_20 1 rfl ?_
    refine j_icmp_ne (pc := 21) M.1 64 dX1_meaningOf_21 rfl (fun c2 => ?_) (fun c2 => ?_)
    · replace hf := o_neg c2 hf
      refine j_iinc (pc := 64) M.1 [(4, .int (a.1 + (-1))), (0, .ref o), (1, .int x1), (2, .int x2), (3, .int x3)] dX1_meaningOf_64 4 rfl (congrArg _ kc_iconst_m1) rfl rfl ?_
      refine j_goto (pc := 67) M.1 8 dX1_meaningOf_67 rfl ?_
      refine j_sub [1, 2, 3, 4, 0] (show lv_pick _ _ = [(0, .ref o), (1, .int x1), (2, .int x2), (3, .int x3), (4, .int (a.1 + (-1)))] from rfl) ?_
      have hy := hR _ hf
      exact hy
    · replace hf := o_pos c2 hf
      refine j_aload_n (pc := 24) M.1 dX1_meaningOf_24 0 rfl ?_
      refine jm_getA (pc := 25) M fa_58 dX1_meaningOf_25 ?_
      refine j_iload (pc := 28) M.1 dX1_meaningOf_28 4 rfl ?_
      obtain ⟨b2, hf⟩ := o_need hf
      refine jm_iald (pc := 30) M ax_16 b2 dX1_meaningOf_30 ?_
      refine j_iload_n (pc := 31) M.1 dX1_meaningOf_31 2 rfl ?_
      refine j_icmp_ne (pc := 32) M.1 64 dX1_meaningOf_32 rfl (fun c3 => ?_) (fun c3 => ?_)
      · replace hf := o_neg c3 hf
        refine j_iinc (pc := 64) M.1 [(4, .int (a.1 + (-1))), (0, .ref o), (1, .int x1), (2, .int x2), (3, .int x3)] dX1_meaningOf_64 4 rfl (congrArg _ kc_iconst_m1) rfl rfl ?_
        refine j_goto (pc := 67) M.1 8 dX1_meaningOf_67 rfl ?_
        refine j_sub [1, 2, 3, 4, 0] (show lv_pick _ _ = [(0, .ref o), (1, .int x1), (2, .int x2), (3, .int x3), (4, .int (a.1 + (-1)))] from rfl) ?_
        have hy := hR _ hf
        exact hy
      · replace hf := o_pos c3 hf
        refine j_iload_n (pc := 35) M.1 dX1_meaningOf_35 3 rfl ?_
        refine j_aload_n (pc := 36) M.1 dX1_meaningOf_36 0 rfl ?_
        refine jm_getA (pc := 37) M fa_64 dX1_meaningOf_37 ?_
        refine j_iload (pc := 40) M.1 dX1_meaningOf_40 4 rfl ?_
        obtain ⟨b3, hf⟩ := o_need hf
        refine jm_iald (pc := 42) M ax_18 b3 dX1_meaningOf_42 ?_
        refine j_aload_n (pc := 43) M.1 dX1_meaningOf_43 0 rfl ?_
        refine jm_getA (pc := 44) M fa_67 dX1_meaningOf_44 ?_
        refine j_iload (pc := 47) M.1 dX1_meaningOf_47 4 rfl ?_
        obtain ⟨b4, hf⟩ := o_need hf
        refine jm_iald (pc := 49) M ax_19 b4 dX1_meaningOf_49 ?_
        obtain ⟨r1, g1, hf⟩ := o_bind hf
        refine jm_calls (pc := 50) (As := [.int x3, .int (a.2.2 18 a.1.toNatClampNeg), .int (a.2.2 19 a.1.toNatClampNeg)]) (rest := []) M cs_X1_278 (met_in g1) rfl rfl rfl rfl dX1_meaningOf_50 ?_
        refine j_if_eq (pc := 53) M.1 64 dX1_meaningOf_53 rfl (fun c4 => ?_) (fun c4 => ?_)
        · replace hf := o_pos c4 hf
          refine j_iinc (pc := 64) M.1 [(4, .int (a.1 + (-1))), (0, .ref o), (1, .int x1), (2, .int x2), (3, .int x3)] dX1_meaningOf_64 4 rfl (congrArg _ kc_iconst_m1) rfl rfl ?_
          refine j_goto (pc := 67) M.1 8 dX1_meaningOf_67 rfl ?_
          refine j_sub [1, 2, 3, 4, 0] (show lv_pick _ _ = [(0, .ref o), (1, .int x1), (2, .int x2), (3, .int x3), (4, .int (a.1 + (-1)))] from rfl) ?_
          have hy := hR _ hf
          exact hy
        · replace hf := o_neg c4 hf
          refine j_aload_n (pc := 56) M.1 dX1_meaningOf_56 0 rfl ?_
          refine jm_getA (pc := 57) M fa_61 dX1_meaningOf_57 ?_
          refine j_iload (pc := 60) M.1 dX1_meaningOf_60 4 rfl ?_
          obtain ⟨b5, hf⟩ := o_need hf
          refine jm_iald (pc := 62) M ax_17 b5 dX1_meaningOf_62 ?_
          exact jm_iret (pc := 63) M dX1_meaningOf_63 hf
noncomputable def m_meaningOf (F : Nat) (x1 x2 x3 : Int32) (σ : MS) : Option (Int32 × MS) :=
  lp (m_meaningOf_B8 F x1 x2 x3) F ((σ.1 21) - 1, σ)
theorem met_meaningOf {l : Launch} {G : gG} {o F : Nat} {x1 x2 x3 : Int32} {σ : MS} {res : Int32 × MS} (hf : m_meaningOf F x1 x2 x3 σ = some res) : MetMi l G yX1_meaningOf cX1_meaningOf 5 (some .int) 2 o [.int x1, .int x2, .int x3] σ res := by
  refine metMi_of (by decide) rfl rfl (fun γ hγ M => ?_)
  subst hγ
  show J γ (MW G o σ) 0 0 0 [(0, .ref o), (1, .int x1), (2, .int x2), (3, .int x3)] []
  unfold m_meaningOf at hf
  refine j_aload_n (pc := 0) M.1 dX1_meaningOf_0 0 rfl ?_
  refine jm_getS (pc := 1) M fm_334 dX1_meaningOf_1 ?_
  refine j_iconst (pc := 4) M.1 dX1_meaningOf_4 kc_iconst_1 ?_
  refine j_isub (pc := 5) M.1 dX1_meaningOf_5 ?_
  refine j_istore (pc := 6) M.1 [(4, .int ((σ.1 21) - 1)), (0, .ref o), (1, .int x1), (2, .int x2), (3, .int x3)] dX1_meaningOf_6 rfl rfl ?_
  refine j_sub [1, 2, 3, 4, 0] (show lv_pick _ _ = [(0, .ref o), (1, .int x1), (2, .int x2), (3, .int x3), (4, .int ((σ.1 21) - 1))] from rfl) ?_
  refine lp_W (km_meaningOf_B8 M x1 x2 x3) F ((σ.1 21) - 1, σ) hf
end
theorem dX1_means_0 : decode cX1_means 0 = .ok (.iload_n 1, 1) := by decide +kernel
theorem dX1_means_1 : decode cX1_means 1 = .ok (.iconst 0, 1) := by decide +kernel
theorem dX1_means_2 : decode cX1_means 2 = .ok (.iconst 3, 1) := by decide +kernel
theorem dX1_means_3 : decode cX1_means 3 = .ok (.invokestatic 278, 3) := by decide +kernel
theorem dX1_means_6 : decode cX1_means 6 = .ok (.ifCond .eq 52, 3) := by decide +kernel
theorem dX1_means_9 : decode cX1_means 9 = .ok (.iload_n 2, 1) := by decide +kernel
theorem dX1_means_10 : decode cX1_means 10 = .ok (.iconst 1, 1) := by decide +kernel
theorem dX1_means_11 : decode cX1_means 11 = .ok (.bipush 99, 2) := by decide +kernel
theorem dX1_means_13 : decode cX1_means 13 = .ok (.invokestatic 278, 3) := by decide +kernel
theorem dX1_means_16 : decode cX1_means 16 = .ok (.ifCond .eq 42, 3) := by decide +kernel
theorem dX1_means_19 : decode cX1_means 19 = .ok (.aload_n 0, 1) := by decide +kernel
theorem dX1_means_20 : decode cX1_means 20 = .ok (.iload_n 3, 1) := by decide +kernel
theorem dX1_means_21 : decode cX1_means 21 = .ok (.invokevirtual 331, 3) := by decide +kernel
theorem dX1_means_24 : decode cX1_means 24 = .ok (.ifCond .eq 34, 3) := by decide +kernel
theorem dX1_means_27 : decode cX1_means 27 = .ok (.iload 4, 2) := by decide +kernel
theorem dX1_means_29 : decode cX1_means 29 = .ok (.invokestatic 320, 3) := by decide +kernel
theorem dX1_means_32 : decode cX1_means 32 = .ok (.ifCond .eq 26, 3) := by decide +kernel
theorem dX1_means_35 : decode cX1_means 35 = .ok (.iload 5, 2) := by decide +kernel
theorem dX1_means_37 : decode cX1_means 37 = .ok (.iload 4, 2) := by decide +kernel
theorem dX1_means_39 : decode cX1_means 39 = .ok (.sipush 9999, 3) := by decide +kernel
theorem dX1_means_42 : decode cX1_means 42 = .ok (.invokestatic 278, 3) := by decide +kernel
theorem dX1_means_45 : decode cX1_means 45 = .ok (.ifCond .eq 13, 3) := by decide +kernel
theorem dX1_means_48 : decode cX1_means 48 = .ok (.aload_n 0, 1) := by decide +kernel
theorem dX1_means_49 : decode cX1_means 49 = .ok (.getfield 334, 3) := by decide +kernel
theorem dX1_means_52 : decode cX1_means 52 = .ok (.sipush 200, 3) := by decide +kernel
theorem dX1_means_55 : decode cX1_means 55 = .ok (.if_icmp .ne 5, 3) := by decide +kernel
theorem dX1_means_58 : decode cX1_means 58 = .ok (.iconst 0, 1) := by decide +kernel
theorem dX1_means_59 : decode cX1_means 59 = .ok (.ireturn, 1) := by decide +kernel
theorem dX1_means_60 : decode cX1_means 60 = .ok (.aload_n 0, 1) := by decide +kernel
theorem dX1_means_61 : decode cX1_means 61 = .ok (.getfield 55, 3) := by decide +kernel
theorem dX1_means_64 : decode cX1_means 64 = .ok (.aload_n 0, 1) := by decide +kernel
theorem dX1_means_65 : decode cX1_means 65 = .ok (.getfield 334, 3) := by decide +kernel
theorem dX1_means_68 : decode cX1_means 68 = .ok (.iload_n 1, 1) := by decide +kernel
theorem dX1_means_69 : decode cX1_means 69 = .ok (.iastore, 1) := by decide +kernel
theorem dX1_means_70 : decode cX1_means 70 = .ok (.aload_n 0, 1) := by decide +kernel
theorem dX1_means_71 : decode cX1_means 71 = .ok (.getfield 58, 3) := by decide +kernel
theorem dX1_means_74 : decode cX1_means 74 = .ok (.aload_n 0, 1) := by decide +kernel
theorem dX1_means_75 : decode cX1_means 75 = .ok (.getfield 334, 3) := by decide +kernel
theorem dX1_means_78 : decode cX1_means 78 = .ok (.iload_n 2, 1) := by decide +kernel
theorem dX1_means_79 : decode cX1_means 79 = .ok (.iastore, 1) := by decide +kernel
theorem dX1_means_80 : decode cX1_means 80 = .ok (.aload_n 0, 1) := by decide +kernel
theorem dX1_means_81 : decode cX1_means 81 = .ok (.getfield 61, 3) := by decide +kernel
theorem dX1_means_84 : decode cX1_means 84 = .ok (.aload_n 0, 1) := by decide +kernel
theorem dX1_means_85 : decode cX1_means 85 = .ok (.getfield 334, 3) := by decide +kernel
theorem dX1_means_88 : decode cX1_means 88 = .ok (.iload_n 3, 1) := by decide +kernel
theorem dX1_means_89 : decode cX1_means 89 = .ok (.iastore, 1) := by decide +kernel
theorem dX1_means_90 : decode cX1_means 90 = .ok (.aload_n 0, 1) := by decide +kernel
theorem dX1_means_91 : decode cX1_means 91 = .ok (.getfield 64, 3) := by decide +kernel
theorem dX1_means_94 : decode cX1_means 94 = .ok (.aload_n 0, 1) := by decide +kernel
theorem dX1_means_95 : decode cX1_means 95 = .ok (.getfield 334, 3) := by decide +kernel
theorem dX1_means_98 : decode cX1_means 98 = .ok (.iload 4, 2) := by decide +kernel
theorem dX1_means_100 : decode cX1_means 100 = .ok (.iastore, 1) := by decide +kernel
theorem dX1_means_101 : decode cX1_means 101 = .ok (.aload_n 0, 1) := by decide +kernel
theorem dX1_means_102 : decode cX1_means 102 = .ok (.getfield 67, 3) := by decide +kernel
theorem dX1_means_105 : decode cX1_means 105 = .ok (.aload_n 0, 1) := by decide +kernel
theorem dX1_means_106 : decode cX1_means 106 = .ok (.getfield 334, 3) := by decide +kernel
theorem dX1_means_109 : decode cX1_means 109 = .ok (.iload 5, 2) := by decide +kernel
theorem dX1_means_111 : decode cX1_means 111 = .ok (.iastore, 1) := by decide +kernel
theorem dX1_means_112 : decode cX1_means 112 = .ok (.aload_n 0, 1) := by decide +kernel
theorem dX1_means_113 : decode cX1_means 113 = .ok (.aload_n 0, 1) := by decide +kernel
theorem dX1_means_114 : decode cX1_means 114 = .ok (.getfield 334, 3) := by decide +kernel
theorem dX1_means_117 : decode cX1_means 117 = .ok (.iconst 1, 1) := by decide +kernel
theorem dX1_means_118 : decode cX1_means 118 = .ok (.iadd, 1) := by decide +kernel
theorem dX1_means_119 : decode cX1_means 119 = .ok (.putfield 334, 3) := by decide +kernel
theorem dX1_means_122 : decode cX1_means 122 = .ok (.iconst 1, 1) := by decide +kernel
theorem dX1_means_123 : decode cX1_means 123 = .ok (.ireturn, 1) := by decide +kernel
section
variable {res : Int32 × MS}
noncomputable def m_means (F : Nat) (x1 x2 x3 x4 x5 : Int32) (σ : MS) : Option (Int32 × MS) :=
  (m_in F x1 0 3).bind (fun r1 => if r1 = 0 then (some (0, σ)) else ((m_in F x2 1 99).bind (fun r2 => if r2 = 0 then (some (0, σ)) else ((m_isPlace F x3 σ).bind (fun r3 => if r3.1 = 0 then (some (0, r3.2)) else ((m_isWeek F x4).bind (fun r4 => if r4 = 0 then (some (0, r3.2)) else ((m_in F x5 x4 9999).bind (fun r5 => if r5 = 0 then (some (0, r3.2)) else (if (r3.2.1 21) = 200 then (some (0, r3.2)) else (if okI (r3.2.1 21) 200 = true then nx (sA r3.2 15 (r3.2.1 21).toNatClampNeg x1) (fun σ1 => if okI (σ1.1 21) 200 = true then nx (sA σ1 16 (σ1.1 21).toNatClampNeg x2) (fun σ2 => if okI (σ2.1 21) 200 = true then nx (sA σ2 17 (σ2.1 21).toNatClampNeg x3) (fun σ3 => if okI (σ3.1 21) 200 = true then nx (sA σ3 18 (σ3.1 21).toNatClampNeg x4) (fun σ4 => if okI (σ4.1 21) 200 = true then nx (sA σ4 19 (σ4.1 21).toNatClampNeg x5) (fun σ5 => nx (sS σ5 21 ((σ5.1 21) + 1)) (fun σ6 => some (1, σ6))) else none) else none) else none) else none) else none)))))))))))
theorem met_means {l : Launch} {G : gG} {o F : Nat} {x1 x2 x3 x4 x5 : Int32} {σ : MS} {res : Int32 × MS} (hf : m_means F x1 x2 x3 x4 x5 σ = some res) : MetMi l G yX1_means cX1_means 6 (some .boolean) 2 o [.int x1, .int x2, .int x3, .int x4, .int x5] σ res := by
  refine metMi_of (by decide) rfl rfl (fun γ hγ M => ?_)
  subst hγ
  show J γ (MW G o σ) 0 0 0 [(0, .ref o), (1, .int x1), (2, .int x2), (3, .int x3), (4, .int x4), (5, .int x5)] []
  unfold m_means at hf
  refine j_iload_n (pc := 0) M.1 dX1_means_0 1 rfl ?_
  refine j_iconst (pc := 1) M.1 dX1_means_1 kc_iconst_0 ?_
  refine j_iconst (pc := 2) M.1 dX1_means_2 kc_iconst_3 ?_
  obtain ⟨r1, g1, hf⟩ := o_bind hf
  refine jm_calls (pc := 3) (As := [.int x1, .int 0, .int 3]) (rest := []) M cs_X1_278 (met_in g1) rfl rfl rfl rfl dX1_means_3 ?_
  refine j_if_eq (pc := 6) M.1 58 dX1_means_6 rfl (fun c1 => ?_) (fun c1 => ?_)
  · replace hf := o_pos c1 hf
    refine j_iconst (pc := 58) M.1 dX1_means_58 kc_iconst_0 ?_
    exact jm_zret (pc := 59) M dX1_means_59 rfl hf
  · replace hf := o_neg c1 hf
    refine j_iload_n (pc := 9) M.1 dX1_means_9 2 rfl ?_
    refine j_iconst (pc := 10) M.1 dX1_means_10 kc_iconst_1 ?_
    refine j_bipush (pc := 11) M.1 dX1_means_11 kc_bipush_99 ?_
    obtain ⟨r2, g2, hf⟩ := o_bind hf
    refine jm_calls (pc := 13) (As := [.int x2, .int 1, .int 99]) (rest := []) M cs_X1_278 (met_in g2) rfl rfl rfl rfl dX1_means_13 ?_
    refine j_if_eq (pc := 16) M.1 58 dX1_means_16 rfl (fun c2 => ?_) (fun c2 => ?_)
    · replace hf := o_pos c2 hf
      refine j_iconst (pc := 58) M.1 dX1_means_58 kc_iconst_0 ?_
      exact jm_zret (pc := 59) M dX1_means_59 rfl hf
    · replace hf := o_neg c2 hf
      refine j_aload_n (pc := 19) M.1 dX1_means_19 0 rfl ?_
      refine j_iload_n (pc := 20) M.1 dX1_means_20 3 rfl ?_
      obtain ⟨r3, g3, hf⟩ := o_bind hf
      refine jm_calli (pc := 21) (As := [.int x3]) (rest := []) M cm_331 (met_isPlace g3) rfl rfl rfl rfl dX1_means_21 ?_
      refine j_if_eq (pc := 24) M.1 58 dX1_means_24 rfl (fun c3 => ?_) (fun c3 => ?_)
      · replace hf := o_pos c3 hf
        refine j_iconst (pc := 58) M.1 dX1_means_58 kc_iconst_0 ?_
        exact jm_zret (pc := 59) M dX1_means_59 rfl hf
      · replace hf := o_neg c3 hf
        refine j_iload (pc := 27) M.1 dX1_means_27 4 rfl ?_
        obtain ⟨r4, g4, hf⟩ := o_bind hf
        refine jm_calls (pc := 29) (As := [.int x4]) (rest := []) M cs_X1_320 (met_isWeek g4) rfl rfl rfl rfl dX1_means_29 ?_
        refine j_if_eq (pc := 32) M.1 58 dX1_means_32 rfl (fun c4 => ?_) (fun c4 => ?_)
        · replace hf := o_pos c4 hf
          refine j_iconst (pc := 58) M.1 dX1_means_58 kc_iconst_0 ?_
          exact jm_zret (pc := 59) M dX1_means_59 rfl hf
        · replace hf := o_neg c4 hf
          refine j_iload (pc := 35) M.1 dX1_means_35 5 rfl ?_
          refine j_iload (pc := 37) M.1 dX1_means_37 4 rfl ?_
          refine j_sipush (pc := 39) M.1 dX1_means_39 kc_sipush_9999 ?_
          obtain ⟨r5, g5, hf⟩ := o_bind hf
          refine jm_calls (pc := 42) (As := [.int x5, .int x4, .int 9999]) (rest := []) M cs_X1_278 (met_in g5) rfl rfl rfl rfl dX1_means_42 ?_
          refine j_if_eq (pc := 45) M.1 58 dX1_means_45 rfl (fun c5 => ?_) (fun c5 => ?_)
          · replace hf := o_pos c5 hf
            refine j_iconst (pc := 58) M.1 dX1_means_58 kc_iconst_0 ?_
            exact jm_zret (pc := 59) M dX1_means_59 rfl hf
          · replace hf := o_neg c5 hf
            refine j_aload_n (pc := 48) M.1 dX1_means_48 0 rfl ?_
            refine jm_getS (pc := 49) M fm_334 dX1_means_49 ?_
            refine j_sipush (pc := 52) M.1 dX1_means_52 kc_sipush_200 ?_
            refine j_icmp_ne (pc := 55) M.1 60 dX1_means_55 rfl (fun c6 => ?_) (fun c6 => ?_)
            · replace hf := o_neg c6 hf
              refine j_aload_n (pc := 60) M.1 dX1_means_60 0 rfl ?_
              refine jm_getA (pc := 61) M fa_55 dX1_means_61 ?_
              refine j_aload_n (pc := 64) M.1 dX1_means_64 0 rfl ?_
              refine jm_getS (pc := 65) M fm_334 dX1_means_65 ?_
              refine j_iload_n (pc := 68) M.1 dX1_means_68 1 rfl ?_
              obtain ⟨b1, hf⟩ := o_need hf
              obtain ⟨σ1, e1, hf⟩ := o_nx hf
              refine jm_iast (pc := 69) M ax_15 b1 dX1_means_69 e1 ?_
              refine j_aload_n (pc := 70) M.1 dX1_means_70 0 rfl ?_
              refine jm_getA (pc := 71) M fa_58 dX1_means_71 ?_
              refine j_aload_n (pc := 74) M.1 dX1_means_74 0 rfl ?_
              refine jm_getS (pc := 75) M fm_334 dX1_means_75 ?_
              refine j_iload_n (pc := 78) M.1 dX1_means_78 2 rfl ?_
              obtain ⟨b2, hf⟩ := o_need hf
              obtain ⟨σ2, e2, hf⟩ := o_nx hf
              refine jm_iast (pc := 79) M ax_16 b2 dX1_means_79 e2 ?_
              refine j_aload_n (pc := 80) M.1 dX1_means_80 0 rfl ?_
              refine jm_getA (pc := 81) M fa_61 dX1_means_81 ?_
              refine j_aload_n (pc := 84) M.1 dX1_means_84 0 rfl ?_
              refine jm_getS (pc := 85) M fm_334 dX1_means_85 ?_
              refine j_iload_n (pc := 88) M.1 dX1_means_88 3 rfl ?_
              obtain ⟨b3, hf⟩ := o_need hf
              obtain ⟨σ3, e3, hf⟩ := o_nx hf
              refine jm_iast (pc := 89) M ax_17 b3 dX1_means_89 e3 ?_
              refine j_aload_n (pc := 90) M.1 dX1_means_90 0 rfl ?_
              refine jm_getA (pc := 91) M fa_64 dX1_means_91 ?_
              refine j_aload_n (pc := 94) M.1 dX1_means_94 0 rfl ?_
              refine jm_getS (pc := 95) M fm_334 dX1_means_95 ?_
              refine j_iload (pc := 98) M.1 dX1_means_98 4 rfl ?_
              obtain ⟨b4, hf⟩ := o_need hf
              obtain ⟨σ4, e4, hf⟩ := o_nx hf
              refine jm_iast (pc := 100) M ax_18 b4 dX1_means_100 e4 ?_
              refine j_aload_n (pc := 101) M.1 dX1_means_101 0 rfl ?_
              refine jm_getA (pc := 102) M fa_67 dX1_means_102 ?_
              refine j_aload_n (pc := 105) M.1 dX1_means_105 0 rfl ?_
              refine jm_getS (pc := 106) M fm_334 dX1_means_106 ?_
              refine j_iload (pc := 109) M.1 dX1_means_109 5 rfl ?_
              obtain ⟨b5, hf⟩ := o_need hf
              obtain ⟨σ5, e5, hf⟩ := o_nx hf
              refine jm_iast (pc := 111) M ax_19 b5 dX1_means_111 e5 ?_
              refine j_aload_n (pc := 112) M.1 dX1_means_112 0 rfl ?_
              refine j_aload_n (pc := 113) M.1 dX1_means_113 0 rfl ?_
              refine jm_getS (pc := 114) M fm_334 dX1_means_114 ?_
              refine j_iconst (pc := 117) M.1 dX1_means_117 kc_iconst_1 ?_
              refine j_iadd (pc := 118) M.1 dX1_means_118 ?_
              obtain ⟨σ6, e6, hf⟩ := o_nx hf
              refine jm_put (pc := 119) M fm_334 dX1_means_119 e6 ?_
              refine j_iconst (pc := 122) M.1 dX1_means_122 kc_iconst_1 ?_
              exact jm_zret (pc := 123) M dX1_means_123 rfl hf
            · replace hf := o_pos c6 hf
              refine j_iconst (pc := 58) M.1 dX1_means_58 kc_iconst_0 ?_
              exact jm_zret (pc := 59) M dX1_means_59 rfl hf
end
theorem dX1_now_0 : decode cX1_now 0 = .ok (.iload_n 1, 1) := by decide +kernel
theorem dX1_now_1 : decode cX1_now 1 = .ok (.aload_n 0, 1) := by decide +kernel
theorem dX1_now_2 : decode cX1_now 2 = .ok (.getfield 291, 3) := by decide +kernel
theorem dX1_now_5 : decode cX1_now 5 = .ok (.sipush 9999, 3) := by decide +kernel
theorem dX1_now_8 : decode cX1_now 8 = .ok (.invokestatic 278, 3) := by decide +kernel
theorem dX1_now_11 : decode cX1_now 11 = .ok (.ifCond .ne 5, 3) := by decide +kernel
theorem dX1_now_14 : decode cX1_now 14 = .ok (.iconst 0, 1) := by decide +kernel
theorem dX1_now_15 : decode cX1_now 15 = .ok (.ireturn, 1) := by decide +kernel
theorem dX1_now_16 : decode cX1_now 16 = .ok (.aload_n 0, 1) := by decide +kernel
theorem dX1_now_17 : decode cX1_now 17 = .ok (.iload_n 1, 1) := by decide +kernel
theorem dX1_now_18 : decode cX1_now 18 = .ok (.putfield 291, 3) := by decide +kernel
theorem dX1_now_21 : decode cX1_now 21 = .ok (.iconst 1, 1) := by decide +kernel
theorem dX1_now_22 : decode cX1_now 22 = .ok (.ireturn, 1) := by decide +kernel
section
variable {res : Int32 × MS}
noncomputable def m_now (F : Nat) (x1 : Int32) (σ : MS) : Option (Int32 × MS) :=
  (m_in F x1 (σ.1 2) 9999).bind (fun r1 => if r1 = 0 then (some (0, σ)) else (nx (sS σ 2 x1) (fun σ1 => some (1, σ1))))
theorem met_now {l : Launch} {G : gG} {o F : Nat} {x1 : Int32} {σ : MS} {res : Int32 × MS} (hf : m_now F x1 σ = some res) : MetMi l G yX1_now cX1_now 2 (some .boolean) 2 o [.int x1] σ res := by
  refine metMi_of (by decide) rfl rfl (fun γ hγ M => ?_)
  subst hγ
  show J γ (MW G o σ) 0 0 0 [(0, .ref o), (1, .int x1)] []
  unfold m_now at hf
  refine j_iload_n (pc := 0) M.1 dX1_now_0 1 rfl ?_
  refine j_aload_n (pc := 1) M.1 dX1_now_1 0 rfl ?_
  refine jm_getS (pc := 2) M fm_291 dX1_now_2 ?_
  refine j_sipush (pc := 5) M.1 dX1_now_5 kc_sipush_9999 ?_
  obtain ⟨r1, g1, hf⟩ := o_bind hf
  refine jm_calls (pc := 8) (As := [.int x1, .int (σ.1 2), .int 9999]) (rest := []) M cs_X1_278 (met_in g1) rfl rfl rfl rfl dX1_now_8 ?_
  refine j_if_ne (pc := 11) M.1 16 dX1_now_11 rfl (fun c1 => ?_) (fun c1 => ?_)
  · replace hf := o_neg c1 hf
    refine j_aload_n (pc := 16) M.1 dX1_now_16 0 rfl ?_
    refine j_iload_n (pc := 17) M.1 dX1_now_17 1 rfl ?_
    obtain ⟨σ1, e1, hf⟩ := o_nx hf
    refine jm_put (pc := 18) M fm_291 dX1_now_18 e1 ?_
    refine j_iconst (pc := 21) M.1 dX1_now_21 kc_iconst_1 ?_
    exact jm_zret (pc := 22) M dX1_now_22 rfl hf
  · replace hf := o_pos c1 hf
    refine j_iconst (pc := 14) M.1 dX1_now_14 kc_iconst_0 ?_
    exact jm_zret (pc := 15) M dX1_now_15 rfl hf
end
theorem dX1_opens_0 : decode cX1_opens 0 = .ok (.aload_n 0, 1) := by decide +kernel
theorem dX1_opens_1 : decode cX1_opens 1 = .ok (.getfield 375, 3) := by decide +kernel
theorem dX1_opens_4 : decode cX1_opens 4 = .ok (.bipush 6, 2) := by decide +kernel
theorem dX1_opens_6 : decode cX1_opens 6 = .ok (.if_icmp .ne 13, 3) := by decide +kernel
theorem dX1_opens_9 : decode cX1_opens 9 = .ok (.aload_n 0, 1) := by decide +kernel
theorem dX1_opens_10 : decode cX1_opens 10 = .ok (.iconst 5, 1) := by decide +kernel
theorem dX1_opens_11 : decode cX1_opens 11 = .ok (.aload_n 0, 1) := by decide +kernel
theorem dX1_opens_12 : decode cX1_opens 12 = .ok (.getfield 348, 3) := by decide +kernel
theorem dX1_opens_15 : decode cX1_opens 15 = .ok (.invokevirtual 361, 3) := by decide +kernel
theorem dX1_opens_18 : decode cX1_opens 18 = .ok (.ireturn, 1) := by decide +kernel
theorem dX1_opens_19 : decode cX1_opens 19 = .ok (.aload_n 0, 1) := by decide +kernel
theorem dX1_opens_20 : decode cX1_opens 20 = .ok (.aload_n 0, 1) := by decide +kernel
theorem dX1_opens_21 : decode cX1_opens 21 = .ok (.getfield 375, 3) := by decide +kernel
theorem dX1_opens_24 : decode cX1_opens 24 = .ok (.iconst 1, 1) := by decide +kernel
theorem dX1_opens_25 : decode cX1_opens 25 = .ok (.iadd, 1) := by decide +kernel
theorem dX1_opens_26 : decode cX1_opens 26 = .ok (.putfield 375, 3) := by decide +kernel
theorem dX1_opens_29 : decode cX1_opens 29 = .ok (.aload_n 0, 1) := by decide +kernel
theorem dX1_opens_30 : decode cX1_opens 30 = .ok (.getfield 77, 3) := by decide +kernel
theorem dX1_opens_33 : decode cX1_opens 33 = .ok (.aload_n 0, 1) := by decide +kernel
theorem dX1_opens_34 : decode cX1_opens 34 = .ok (.getfield 378, 3) := by decide +kernel
theorem dX1_opens_37 : decode cX1_opens 37 = .ok (.ldc_w 374, 3) := by decide +kernel
theorem dX1_opens_40 : decode cX1_opens 40 = .ok (.iload_n 1, 1) := by decide +kernel
theorem dX1_opens_41 : decode cX1_opens 41 = .ok (.imul, 1) := by decide +kernel
theorem dX1_opens_42 : decode cX1_opens 42 = .ok (.iastore, 1) := by decide +kernel
theorem dX1_opens_43 : decode cX1_opens 43 = .ok (.aload_n 0, 1) := by decide +kernel
theorem dX1_opens_44 : decode cX1_opens 44 = .ok (.aload_n 0, 1) := by decide +kernel
theorem dX1_opens_45 : decode cX1_opens 45 = .ok (.getfield 378, 3) := by decide +kernel
theorem dX1_opens_48 : decode cX1_opens 48 = .ok (.iconst 1, 1) := by decide +kernel
theorem dX1_opens_49 : decode cX1_opens 49 = .ok (.iadd, 1) := by decide +kernel
theorem dX1_opens_50 : decode cX1_opens 50 = .ok (.putfield 378, 3) := by decide +kernel
theorem dX1_opens_53 : decode cX1_opens 53 = .ok (.aload_n 0, 1) := by decide +kernel
theorem dX1_opens_54 : decode cX1_opens 54 = .ok (.aload_n 0, 1) := by decide +kernel
theorem dX1_opens_55 : decode cX1_opens 55 = .ok (.getfield 348, 3) := by decide +kernel
theorem dX1_opens_58 : decode cX1_opens 58 = .ok (.iconst 1, 1) := by decide +kernel
theorem dX1_opens_59 : decode cX1_opens 59 = .ok (.iadd, 1) := by decide +kernel
theorem dX1_opens_60 : decode cX1_opens 60 = .ok (.putfield 348, 3) := by decide +kernel
theorem dX1_opens_63 : decode cX1_opens 63 = .ok (.iconst 1, 1) := by decide +kernel
theorem dX1_opens_64 : decode cX1_opens 64 = .ok (.ireturn, 1) := by decide +kernel
section
variable {res : Int32 × MS}
noncomputable def m_opens (F : Nat) (x1 : Int32) (σ : MS) : Option (Int32 × MS) :=
  if (σ.1 33) = 6 then ((m_wrong F 5 (σ.1 29) σ).bind (fun r1 => if okB r1.1 = true then some (r1.1, r1.2) else none)) else (nx (sS σ 33 ((σ.1 33) + 1)) (fun σ1 => if okI (σ1.1 35) 180 = true then nx (sA σ1 22 (σ1.1 35).toNatClampNeg (1048576 * x1)) (fun σ2 => nx (sS σ2 35 ((σ2.1 35) + 1)) (fun σ3 => nx (sS σ3 29 ((σ3.1 29) + 1)) (fun σ4 => some (1, σ4)))) else none))
theorem met_opens {l : Launch} {G : gG} {o F : Nat} {x1 : Int32} {σ : MS} {res : Int32 × MS} (hf : m_opens F x1 σ = some res) : MetMi l G yX1_opens cX1_opens 2 (some .boolean) 2 o [.int x1] σ res := by
  refine metMi_of (by decide) rfl rfl (fun γ hγ M => ?_)
  subst hγ
  show J γ (MW G o σ) 0 0 0 [(0, .ref o), (1, .int x1)] []
  unfold m_opens at hf
  refine j_aload_n (pc := 0) M.1 dX1_opens_0 0 rfl ?_
  refine jm_getS (pc := 1) M fm_375 dX1_opens_1 ?_
  refine j_bipush (pc := 4) M.1 dX1_opens_4 kc_bipush_6 ?_
  refine j_icmp_ne (pc := 6) M.1 19 dX1_opens_6 rfl (fun c1 => ?_) (fun c1 => ?_)
  · replace hf := o_neg c1 hf
    refine j_aload_n (pc := 19) M.1 dX1_opens_19 0 rfl ?_
    refine j_aload_n (pc := 20) M.1 dX1_opens_20 0 rfl ?_
    refine jm_getS (pc := 21) M fm_375 dX1_opens_21 ?_
    refine j_iconst (pc := 24) M.1 dX1_opens_24 kc_iconst_1 ?_
    refine j_iadd (pc := 25) M.1 dX1_opens_25 ?_
    obtain ⟨σ1, e1, hf⟩ := o_nx hf
    refine jm_put (pc := 26) M fm_375 dX1_opens_26 e1 ?_
    refine j_aload_n (pc := 29) M.1 dX1_opens_29 0 rfl ?_
    refine jm_getA (pc := 30) M fa_77 dX1_opens_30 ?_
    refine j_aload_n (pc := 33) M.1 dX1_opens_33 0 rfl ?_
    refine jm_getS (pc := 34) M fm_378 dX1_opens_34 ?_
    refine j_ldcw (pc := 37) M.1 q1824 dX1_opens_37 ?_
    refine j_iload_n (pc := 40) M.1 dX1_opens_40 1 rfl ?_
    refine j_imul (pc := 41) M.1 dX1_opens_41 ?_
    obtain ⟨b1, hf⟩ := o_need hf
    obtain ⟨σ2, e2, hf⟩ := o_nx hf
    refine jm_iast (pc := 42) M ax_22 b1 dX1_opens_42 e2 ?_
    refine j_aload_n (pc := 43) M.1 dX1_opens_43 0 rfl ?_
    refine j_aload_n (pc := 44) M.1 dX1_opens_44 0 rfl ?_
    refine jm_getS (pc := 45) M fm_378 dX1_opens_45 ?_
    refine j_iconst (pc := 48) M.1 dX1_opens_48 kc_iconst_1 ?_
    refine j_iadd (pc := 49) M.1 dX1_opens_49 ?_
    obtain ⟨σ3, e3, hf⟩ := o_nx hf
    refine jm_put (pc := 50) M fm_378 dX1_opens_50 e3 ?_
    refine j_aload_n (pc := 53) M.1 dX1_opens_53 0 rfl ?_
    refine j_aload_n (pc := 54) M.1 dX1_opens_54 0 rfl ?_
    refine jm_getS (pc := 55) M fm_348 dX1_opens_55 ?_
    refine j_iconst (pc := 58) M.1 dX1_opens_58 kc_iconst_1 ?_
    refine j_iadd (pc := 59) M.1 dX1_opens_59 ?_
    obtain ⟨σ4, e4, hf⟩ := o_nx hf
    refine jm_put (pc := 60) M fm_348 dX1_opens_60 e4 ?_
    refine j_iconst (pc := 63) M.1 dX1_opens_63 kc_iconst_1 ?_
    exact jm_zret (pc := 64) M dX1_opens_64 rfl hf
  · replace hf := o_pos c1 hf
    refine j_aload_n (pc := 9) M.1 dX1_opens_9 0 rfl ?_
    refine j_iconst (pc := 10) M.1 dX1_opens_10 kc_iconst_5 ?_
    refine j_aload_n (pc := 11) M.1 dX1_opens_11 0 rfl ?_
    refine jm_getS (pc := 12) M fm_348 dX1_opens_12 ?_
    obtain ⟨r1, g1, hf⟩ := o_bind hf
    refine jm_calli (pc := 15) (As := [.int 5, .int (σ.1 29)]) (rest := []) M cm_361 (met_wrong g1) rfl rfl rfl rfl dX1_opens_15 ?_
    obtain ⟨b2, hf⟩ := o_need hf
    exact jm_zret (pc := 18) M dX1_opens_18 b2 hf
end
theorem dX1_placeOf_0 : decode cX1_placeOf 0 = .ok (.aload_n 0, 1) := by decide +kernel
theorem dX1_placeOf_1 : decode cX1_placeOf 1 = .ok (.iload_n 1, 1) := by decide +kernel
theorem dX1_placeOf_2 : decode cX1_placeOf 2 = .ok (.invokevirtual 294, 3) := by decide +kernel
theorem dX1_placeOf_5 : decode cX1_placeOf 5 = .ok (.ifCond .eq 12, 3) := by decide +kernel
theorem dX1_placeOf_8 : decode cX1_placeOf 8 = .ok (.aload_n 0, 1) := by decide +kernel
theorem dX1_placeOf_9 : decode cX1_placeOf 9 = .ok (.getfield 13, 3) := by decide +kernel
theorem dX1_placeOf_12 : decode cX1_placeOf 12 = .ok (.iload_n 1, 1) := by decide +kernel
theorem dX1_placeOf_13 : decode cX1_placeOf 13 = .ok (.iaload, 1) := by decide +kernel
theorem dX1_placeOf_14 : decode cX1_placeOf 14 = .ok (.goto 4, 3) := by decide +kernel
theorem dX1_placeOf_17 : decode cX1_placeOf 17 = .ok (.iconst (-1), 1) := by decide +kernel
theorem dX1_placeOf_18 : decode cX1_placeOf 18 = .ok (.ireturn, 1) := by decide +kernel
section
variable {res : Int32 × MS}
noncomputable def m_placeOf (F : Nat) (x1 : Int32) (σ : MS) : Option (Int32 × MS) :=
  (m_isCell F x1 σ).bind (fun r1 => if r1.1 = 0 then (some ((-1), r1.2)) else (if okI x1 100 = true then some (r1.2.2 1 x1.toNatClampNeg, r1.2) else none))
theorem met_placeOf {l : Launch} {G : gG} {o F : Nat} {x1 : Int32} {σ : MS} {res : Int32 × MS} (hf : m_placeOf F x1 σ = some res) : MetMi l G yX1_placeOf cX1_placeOf 2 (some .int) 2 o [.int x1] σ res := by
  refine metMi_of (by decide) rfl rfl (fun γ hγ M => ?_)
  subst hγ
  show J γ (MW G o σ) 0 0 0 [(0, .ref o), (1, .int x1)] []
  unfold m_placeOf at hf
  refine j_aload_n (pc := 0) M.1 dX1_placeOf_0 0 rfl ?_
  refine j_iload_n (pc := 1) M.1 dX1_placeOf_1 1 rfl ?_
  obtain ⟨r1, g1, hf⟩ := o_bind hf
  refine jm_calli (pc := 2) (As := [.int x1]) (rest := []) M cm_294 (met_isCell g1) rfl rfl rfl rfl dX1_placeOf_2 ?_
  refine j_if_eq (pc := 5) M.1 17 dX1_placeOf_5 rfl (fun c1 => ?_) (fun c1 => ?_)
  · replace hf := o_pos c1 hf
    refine j_iconst (pc := 17) M.1 dX1_placeOf_17 kc_iconst_m1 ?_
    exact jm_iret (pc := 18) M dX1_placeOf_18 hf
  · replace hf := o_neg c1 hf
    refine j_aload_n (pc := 8) M.1 dX1_placeOf_8 0 rfl ?_
    refine jm_getA (pc := 9) M fa_13 dX1_placeOf_9 ?_
    refine j_iload_n (pc := 12) M.1 dX1_placeOf_12 1 rfl ?_
    obtain ⟨b1, hf⟩ := o_need hf
    refine jm_iald (pc := 13) M ax_1 b1 dX1_placeOf_13 ?_
    refine j_goto (pc := 14) M.1 18 dX1_placeOf_14 rfl ?_
    exact jm_iret (pc := 18) M dX1_placeOf_18 hf
end
theorem dX1_saves_0 : decode cX1_saves 0 = .ok (.iload_n 1, 1) := by decide +kernel
theorem dX1_saves_1 : decode cX1_saves 1 = .ok (.iconst 0, 1) := by decide +kernel
theorem dX1_saves_2 : decode cX1_saves 2 = .ok (.iconst 1, 1) := by decide +kernel
theorem dX1_saves_3 : decode cX1_saves 3 = .ok (.aload_n 0, 1) := by decide +kernel
theorem dX1_saves_4 : decode cX1_saves 4 = .ok (.getfield 555, 3) := by decide +kernel
theorem dX1_saves_7 : decode cX1_saves 7 = .ok (.ishl, 1) := by decide +kernel
theorem dX1_saves_8 : decode cX1_saves 8 = .ok (.iconst 1, 1) := by decide +kernel
theorem dX1_saves_9 : decode cX1_saves 9 = .ok (.isub, 1) := by decide +kernel
theorem dX1_saves_10 : decode cX1_saves 10 = .ok (.invokestatic 278, 3) := by decide +kernel
theorem dX1_saves_13 : decode cX1_saves 13 = .ok (.ifCond .eq 11, 3) := by decide +kernel
theorem dX1_saves_16 : decode cX1_saves 16 = .ok (.aload_n 0, 1) := by decide +kernel
theorem dX1_saves_17 : decode cX1_saves 17 = .ok (.iload_n 1, 1) := by decide +kernel
theorem dX1_saves_18 : decode cX1_saves 18 = .ok (.invokevirtual 562, 3) := by decide +kernel
theorem dX1_saves_21 : decode cX1_saves 21 = .ok (.goto 4, 3) := by decide +kernel
theorem dX1_saves_24 : decode cX1_saves 24 = .ok (.iconst (-1), 1) := by decide +kernel
theorem dX1_saves_25 : decode cX1_saves 25 = .ok (.ireturn, 1) := by decide +kernel
section
variable {res : Int32 × MS}
noncomputable def m_saves (F : Nat) (x1 : Int32) (σ : MS) : Option (Int32 × MS) :=
  (m_in F x1 0 ((1 <<< ((σ.1 101) &&& 31)) - 1)).bind (fun r1 => if r1 = 0 then (some ((-1), σ)) else ((m_saved F x1 σ).bind (fun r2 => some (r2.1, r2.2))))
theorem met_saves {l : Launch} {G : gG} {o F : Nat} {x1 : Int32} {σ : MS} {res : Int32 × MS} (hf : m_saves F x1 σ = some res) : MetMi l G yX1_saves cX1_saves 2 (some .int) 2 o [.int x1] σ res := by
  refine metMi_of (by decide) rfl rfl (fun γ hγ M => ?_)
  subst hγ
  show J γ (MW G o σ) 0 0 0 [(0, .ref o), (1, .int x1)] []
  unfold m_saves at hf
  refine j_iload_n (pc := 0) M.1 dX1_saves_0 1 rfl ?_
  refine j_iconst (pc := 1) M.1 dX1_saves_1 kc_iconst_0 ?_
  refine j_iconst (pc := 2) M.1 dX1_saves_2 kc_iconst_1 ?_
  refine j_aload_n (pc := 3) M.1 dX1_saves_3 0 rfl ?_
  refine jm_getS (pc := 4) M fm_555 dX1_saves_4 ?_
  refine j_ishl (pc := 7) M.1 dX1_saves_7 ?_
  refine j_iconst (pc := 8) M.1 dX1_saves_8 kc_iconst_1 ?_
  refine j_isub (pc := 9) M.1 dX1_saves_9 ?_
  obtain ⟨r1, g1, hf⟩ := o_bind hf
  refine jm_calls (pc := 10) (As := [.int x1, .int 0, .int ((1 <<< ((σ.1 101) &&& 31)) - 1)]) (rest := []) M cs_X1_278 (met_in g1) rfl rfl rfl rfl dX1_saves_10 ?_
  refine j_if_eq (pc := 13) M.1 24 dX1_saves_13 rfl (fun c1 => ?_) (fun c1 => ?_)
  · replace hf := o_pos c1 hf
    refine j_iconst (pc := 24) M.1 dX1_saves_24 kc_iconst_m1 ?_
    exact jm_iret (pc := 25) M dX1_saves_25 hf
  · replace hf := o_neg c1 hf
    refine j_aload_n (pc := 16) M.1 dX1_saves_16 0 rfl ?_
    refine j_iload_n (pc := 17) M.1 dX1_saves_17 1 rfl ?_
    obtain ⟨r2, g2, hf⟩ := o_bind hf
    refine jm_calli (pc := 18) (As := [.int x1]) (rest := []) M cm_562 (met_saved g2) rfl rfl rfl rfl dX1_saves_18 ?_
    refine j_goto (pc := 21) M.1 25 dX1_saves_21 rfl ?_
    exact jm_iret (pc := 25) M dX1_saves_25 hf
end
theorem dX1_sign_0 : decode cX1_sign 0 = .ok (.iload_n 1, 1) := by decide +kernel
theorem dX1_sign_1 : decode cX1_sign 1 = .ok (.iconst 0, 1) := by decide +kernel
theorem dX1_sign_2 : decode cX1_sign 2 = .ok (.bipush 29, 2) := by decide +kernel
theorem dX1_sign_4 : decode cX1_sign 4 = .ok (.invokestatic 278, 3) := by decide +kernel
theorem dX1_sign_7 : decode cX1_sign 7 = .ok (.ifCond .eq 43, 3) := by decide +kernel
theorem dX1_sign_10 : decode cX1_sign 10 = .ok (.iload_n 2, 1) := by decide +kernel
theorem dX1_sign_11 : decode cX1_sign 11 = .ok (.iconst 0, 1) := by decide +kernel
theorem dX1_sign_12 : decode cX1_sign 12 = .ok (.bipush 7, 2) := by decide +kernel
theorem dX1_sign_14 : decode cX1_sign 14 = .ok (.invokestatic 278, 3) := by decide +kernel
theorem dX1_sign_17 : decode cX1_sign 17 = .ok (.ifCond .eq 33, 3) := by decide +kernel
theorem dX1_sign_20 : decode cX1_sign 20 = .ok (.aload_n 0, 1) := by decide +kernel
theorem dX1_sign_21 : decode cX1_sign 21 = .ok (.iload_n 3, 1) := by decide +kernel
theorem dX1_sign_22 : decode cX1_sign 22 = .ok (.invokevirtual 331, 3) := by decide +kernel
theorem dX1_sign_25 : decode cX1_sign 25 = .ok (.ifCond .eq 25, 3) := by decide +kernel
theorem dX1_sign_28 : decode cX1_sign 28 = .ok (.iload 4, 2) := by decide +kernel
theorem dX1_sign_30 : decode cX1_sign 30 = .ok (.iconst 0, 1) := by decide +kernel
theorem dX1_sign_31 : decode cX1_sign 31 = .ok (.aload_n 0, 1) := by decide +kernel
theorem dX1_sign_32 : decode cX1_sign 32 = .ok (.getfield 291, 3) := by decide +kernel
theorem dX1_sign_35 : decode cX1_sign 35 = .ok (.invokestatic 278, 3) := by decide +kernel
theorem dX1_sign_38 : decode cX1_sign 38 = .ok (.ifCond .eq 12, 3) := by decide +kernel
theorem dX1_sign_41 : decode cX1_sign 41 = .ok (.aload_n 0, 1) := by decide +kernel
theorem dX1_sign_42 : decode cX1_sign 42 = .ok (.getfield 552, 3) := by decide +kernel
theorem dX1_sign_45 : decode cX1_sign 45 = .ok (.bipush 100, 2) := by decide +kernel
theorem dX1_sign_47 : decode cX1_sign 47 = .ok (.if_icmp .ne 5, 3) := by decide +kernel
theorem dX1_sign_50 : decode cX1_sign 50 = .ok (.iconst 0, 1) := by decide +kernel
theorem dX1_sign_51 : decode cX1_sign 51 = .ok (.ireturn, 1) := by decide +kernel
theorem dX1_sign_52 : decode cX1_sign 52 = .ok (.aload_n 0, 1) := by decide +kernel
theorem dX1_sign_53 : decode cX1_sign 53 = .ok (.getfield 241, 3) := by decide +kernel
theorem dX1_sign_56 : decode cX1_sign 56 = .ok (.aload_n 0, 1) := by decide +kernel
theorem dX1_sign_57 : decode cX1_sign 57 = .ok (.getfield 552, 3) := by decide +kernel
theorem dX1_sign_60 : decode cX1_sign 60 = .ok (.iload_n 1, 1) := by decide +kernel
theorem dX1_sign_61 : decode cX1_sign 61 = .ok (.iastore, 1) := by decide +kernel
theorem dX1_sign_62 : decode cX1_sign 62 = .ok (.aload_n 0, 1) := by decide +kernel
theorem dX1_sign_63 : decode cX1_sign 63 = .ok (.getfield 244, 3) := by decide +kernel
theorem dX1_sign_66 : decode cX1_sign 66 = .ok (.aload_n 0, 1) := by decide +kernel
theorem dX1_sign_67 : decode cX1_sign 67 = .ok (.getfield 552, 3) := by decide +kernel
theorem dX1_sign_70 : decode cX1_sign 70 = .ok (.iload_n 2, 1) := by decide +kernel
theorem dX1_sign_71 : decode cX1_sign 71 = .ok (.iastore, 1) := by decide +kernel
theorem dX1_sign_72 : decode cX1_sign 72 = .ok (.aload_n 0, 1) := by decide +kernel
theorem dX1_sign_73 : decode cX1_sign 73 = .ok (.getfield 247, 3) := by decide +kernel
theorem dX1_sign_76 : decode cX1_sign 76 = .ok (.aload_n 0, 1) := by decide +kernel
theorem dX1_sign_77 : decode cX1_sign 77 = .ok (.getfield 552, 3) := by decide +kernel
theorem dX1_sign_80 : decode cX1_sign 80 = .ok (.iload_n 3, 1) := by decide +kernel
theorem dX1_sign_81 : decode cX1_sign 81 = .ok (.iastore, 1) := by decide +kernel
theorem dX1_sign_82 : decode cX1_sign 82 = .ok (.aload_n 0, 1) := by decide +kernel
theorem dX1_sign_83 : decode cX1_sign 83 = .ok (.getfield 250, 3) := by decide +kernel
theorem dX1_sign_86 : decode cX1_sign 86 = .ok (.aload_n 0, 1) := by decide +kernel
theorem dX1_sign_87 : decode cX1_sign 87 = .ok (.getfield 552, 3) := by decide +kernel
theorem dX1_sign_90 : decode cX1_sign 90 = .ok (.iload 4, 2) := by decide +kernel
theorem dX1_sign_92 : decode cX1_sign 92 = .ok (.iastore, 1) := by decide +kernel
theorem dX1_sign_93 : decode cX1_sign 93 = .ok (.aload_n 0, 1) := by decide +kernel
theorem dX1_sign_94 : decode cX1_sign 94 = .ok (.aload_n 0, 1) := by decide +kernel
theorem dX1_sign_95 : decode cX1_sign 95 = .ok (.getfield 552, 3) := by decide +kernel
theorem dX1_sign_98 : decode cX1_sign 98 = .ok (.iconst 1, 1) := by decide +kernel
theorem dX1_sign_99 : decode cX1_sign 99 = .ok (.iadd, 1) := by decide +kernel
theorem dX1_sign_100 : decode cX1_sign 100 = .ok (.putfield 552, 3) := by decide +kernel
theorem dX1_sign_103 : decode cX1_sign 103 = .ok (.iconst 1, 1) := by decide +kernel
theorem dX1_sign_104 : decode cX1_sign 104 = .ok (.ireturn, 1) := by decide +kernel
section
variable {res : Int32 × MS}
noncomputable def m_sign (F : Nat) (x1 x2 x3 x4 : Int32) (σ : MS) : Option (Int32 × MS) :=
  (m_in F x1 0 29).bind (fun r1 => if r1 = 0 then (some (0, σ)) else ((m_in F x2 0 7).bind (fun r2 => if r2 = 0 then (some (0, σ)) else ((m_isPlace F x3 σ).bind (fun r3 => if r3.1 = 0 then (some (0, r3.2)) else ((m_in F x4 0 (r3.2.1 2)).bind (fun r4 => if r4 = 0 then (some (0, r3.2)) else (if (r3.2.1 100) = 100 then (some (0, r3.2)) else (if okI (r3.2.1 100) 100 = true then nx (sA r3.2 75 (r3.2.1 100).toNatClampNeg x1) (fun σ1 => if okI (σ1.1 100) 100 = true then nx (sA σ1 76 (σ1.1 100).toNatClampNeg x2) (fun σ2 => if okI (σ2.1 100) 100 = true then nx (sA σ2 77 (σ2.1 100).toNatClampNeg x3) (fun σ3 => if okI (σ3.1 100) 100 = true then nx (sA σ3 78 (σ3.1 100).toNatClampNeg x4) (fun σ4 => nx (sS σ4 100 ((σ4.1 100) + 1)) (fun σ5 => some (1, σ5))) else none) else none) else none) else none)))))))))
theorem met_sign {l : Launch} {G : gG} {o F : Nat} {x1 x2 x3 x4 : Int32} {σ : MS} {res : Int32 × MS} (hf : m_sign F x1 x2 x3 x4 σ = some res) : MetMi l G yX1_sign cX1_sign 5 (some .boolean) 2 o [.int x1, .int x2, .int x3, .int x4] σ res := by
  refine metMi_of (by decide) rfl rfl (fun γ hγ M => ?_)
  subst hγ
  show J γ (MW G o σ) 0 0 0 [(0, .ref o), (1, .int x1), (2, .int x2), (3, .int x3), (4, .int x4)] []
  unfold m_sign at hf
  refine j_iload_n (pc := 0) M.1 dX1_sign_0 1 rfl ?_
  refine j_iconst (pc := 1) M.1 dX1_sign_1 kc_iconst_0 ?_
  refine j_bipush (pc := 2) M.1 dX1_sign_2 kc_bipush_29 ?_
  obtain ⟨r1, g1, hf⟩ := o_bind hf
  refine jm_calls (pc := 4) (As := [.int x1, .int 0, .int 29]) (rest := []) M cs_X1_278 (met_in g1) rfl rfl rfl rfl dX1_sign_4 ?_
  refine j_if_eq (pc := 7) M.1 50 dX1_sign_7 rfl (fun c1 => ?_) (fun c1 => ?_)
  · replace hf := o_pos c1 hf
    refine j_iconst (pc := 50) M.1 dX1_sign_50 kc_iconst_0 ?_
    exact jm_zret (pc := 51) M dX1_sign_51 rfl hf
  · replace hf := o_neg c1 hf
    refine j_iload_n (pc := 10) M.1 dX1_sign_10 2 rfl ?_
    refine j_iconst (pc := 11) M.1 dX1_sign_11 kc_iconst_0 ?_
    refine j_bipush (pc := 12) M.1 dX1_sign_12 kc_bipush_7 ?_
    obtain ⟨r2, g2, hf⟩ := o_bind hf
    refine jm_calls (pc := 14) (As := [.int x2, .int 0, .int 7]) (rest := []) M cs_X1_278 (met_in g2) rfl rfl rfl rfl dX1_sign_14 ?_
    refine j_if_eq (pc := 17) M.1 50 dX1_sign_17 rfl (fun c2 => ?_) (fun c2 => ?_)
    · replace hf := o_pos c2 hf
      refine j_iconst (pc := 50) M.1 dX1_sign_50 kc_iconst_0 ?_
      exact jm_zret (pc := 51) M dX1_sign_51 rfl hf
    · replace hf := o_neg c2 hf
      refine j_aload_n (pc := 20) M.1 dX1_sign_20 0 rfl ?_
      refine j_iload_n (pc := 21) M.1 dX1_sign_21 3 rfl ?_
      obtain ⟨r3, g3, hf⟩ := o_bind hf
      refine jm_calli (pc := 22) (As := [.int x3]) (rest := []) M cm_331 (met_isPlace g3) rfl rfl rfl rfl dX1_sign_22 ?_
      refine j_if_eq (pc := 25) M.1 50 dX1_sign_25 rfl (fun c3 => ?_) (fun c3 => ?_)
      · replace hf := o_pos c3 hf
        refine j_iconst (pc := 50) M.1 dX1_sign_50 kc_iconst_0 ?_
        exact jm_zret (pc := 51) M dX1_sign_51 rfl hf
      · replace hf := o_neg c3 hf
        refine j_iload (pc := 28) M.1 dX1_sign_28 4 rfl ?_
        refine j_iconst (pc := 30) M.1 dX1_sign_30 kc_iconst_0 ?_
        refine j_aload_n (pc := 31) M.1 dX1_sign_31 0 rfl ?_
        refine jm_getS (pc := 32) M fm_291 dX1_sign_32 ?_
        obtain ⟨r4, g4, hf⟩ := o_bind hf
        refine jm_calls (pc := 35) (As := [.int x4, .int 0, .int (r3.2.1 2)]) (rest := []) M cs_X1_278 (met_in g4) rfl rfl rfl rfl dX1_sign_35 ?_
        refine j_if_eq (pc := 38) M.1 50 dX1_sign_38 rfl (fun c4 => ?_) (fun c4 => ?_)
        · replace hf := o_pos c4 hf
          refine j_iconst (pc := 50) M.1 dX1_sign_50 kc_iconst_0 ?_
          exact jm_zret (pc := 51) M dX1_sign_51 rfl hf
        · replace hf := o_neg c4 hf
          refine j_aload_n (pc := 41) M.1 dX1_sign_41 0 rfl ?_
          refine jm_getS (pc := 42) M fm_552 dX1_sign_42 ?_
          refine j_bipush (pc := 45) M.1 dX1_sign_45 kc_bipush_100 ?_
          refine j_icmp_ne (pc := 47) M.1 52 dX1_sign_47 rfl (fun c5 => ?_) (fun c5 => ?_)
          · replace hf := o_neg c5 hf
            refine j_aload_n (pc := 52) M.1 dX1_sign_52 0 rfl ?_
            refine jm_getA (pc := 53) M fa_241 dX1_sign_53 ?_
            refine j_aload_n (pc := 56) M.1 dX1_sign_56 0 rfl ?_
            refine jm_getS (pc := 57) M fm_552 dX1_sign_57 ?_
            refine j_iload_n (pc := 60) M.1 dX1_sign_60 1 rfl ?_
            obtain ⟨b1, hf⟩ := o_need hf
            obtain ⟨σ1, e1, hf⟩ := o_nx hf
            refine jm_iast (pc := 61) M ax_75 b1 dX1_sign_61 e1 ?_
            refine j_aload_n (pc := 62) M.1 dX1_sign_62 0 rfl ?_
            refine jm_getA (pc := 63) M fa_244 dX1_sign_63 ?_
            refine j_aload_n (pc := 66) M.1 dX1_sign_66 0 rfl ?_
            refine jm_getS (pc := 67) M fm_552 dX1_sign_67 ?_
            refine j_iload_n (pc := 70) M.1 dX1_sign_70 2 rfl ?_
            obtain ⟨b2, hf⟩ := o_need hf
            obtain ⟨σ2, e2, hf⟩ := o_nx hf
            refine jm_iast (pc := 71) M ax_76 b2 dX1_sign_71 e2 ?_
            refine j_aload_n (pc := 72) M.1 dX1_sign_72 0 rfl ?_
            refine jm_getA (pc := 73) M fa_247 dX1_sign_73 ?_
            refine j_aload_n (pc := 76) M.1 dX1_sign_76 0 rfl ?_
            refine jm_getS (pc := 77) M fm_552 dX1_sign_77 ?_
            refine j_iload_n (pc := 80) M.1 dX1_sign_80 3 rfl ?_
            obtain ⟨b3, hf⟩ := o_need hf
            obtain ⟨σ3, e3, hf⟩ := o_nx hf
            refine jm_iast (pc := 81) M ax_77 b3 dX1_sign_81 e3 ?_
            refine j_aload_n (pc := 82) M.1 dX1_sign_82 0 rfl ?_
            refine jm_getA (pc := 83) M fa_250 dX1_sign_83 ?_
            refine j_aload_n (pc := 86) M.1 dX1_sign_86 0 rfl ?_
            refine jm_getS (pc := 87) M fm_552 dX1_sign_87 ?_
            refine j_iload (pc := 90) M.1 dX1_sign_90 4 rfl ?_
            obtain ⟨b4, hf⟩ := o_need hf
            obtain ⟨σ4, e4, hf⟩ := o_nx hf
            refine jm_iast (pc := 92) M ax_78 b4 dX1_sign_92 e4 ?_
            refine j_aload_n (pc := 93) M.1 dX1_sign_93 0 rfl ?_
            refine j_aload_n (pc := 94) M.1 dX1_sign_94 0 rfl ?_
            refine jm_getS (pc := 95) M fm_552 dX1_sign_95 ?_
            refine j_iconst (pc := 98) M.1 dX1_sign_98 kc_iconst_1 ?_
            refine j_iadd (pc := 99) M.1 dX1_sign_99 ?_
            obtain ⟨σ5, e5, hf⟩ := o_nx hf
            refine jm_put (pc := 100) M fm_552 dX1_sign_100 e5 ?_
            refine j_iconst (pc := 103) M.1 dX1_sign_103 kc_iconst_1 ?_
            exact jm_zret (pc := 104) M dX1_sign_104 rfl hf
          · replace hf := o_pos c5 hf
            refine j_iconst (pc := 50) M.1 dX1_sign_50 kc_iconst_0 ?_
            exact jm_zret (pc := 51) M dX1_sign_51 rfl hf
end
