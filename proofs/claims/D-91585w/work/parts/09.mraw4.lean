set_option maxRecDepth 100000
variable {γ : jG} {G : gG} {o F : Nat}
theorem dX1_numberBy_0 : decode cX1_numberBy 0 = .ok (.aload_n 0, 1) := by decide +kernel
theorem dX1_numberBy_1 : decode cX1_numberBy 1 = .ok (.aload_n 0, 1) := by decide +kernel
theorem dX1_numberBy_2 : decode cX1_numberBy 2 = .ok (.getfield 129, 3) := by decide +kernel
theorem dX1_numberBy_5 : decode cX1_numberBy 5 = .ok (.iconst 0, 1) := by decide +kernel
theorem dX1_numberBy_6 : decode cX1_numberBy 6 = .ok (.iaload, 1) := by decide +kernel
theorem dX1_numberBy_7 : decode cX1_numberBy 7 = .ok (.invokevirtual 453, 3) := by decide +kernel
theorem dX1_numberBy_10 : decode cX1_numberBy 10 = .ok (.aload_n 0, 1) := by decide +kernel
theorem dX1_numberBy_11 : decode cX1_numberBy 11 = .ok (.getfield 441, 3) := by decide +kernel
theorem dX1_numberBy_14 : decode cX1_numberBy 14 = .ok (.iconst 1, 1) := by decide +kernel
theorem dX1_numberBy_15 : decode cX1_numberBy 15 = .ok (.isub, 1) := by decide +kernel
theorem dX1_numberBy_16 : decode cX1_numberBy 16 = .ok (.istore_n 3, 1) := by decide +kernel
theorem dX1_numberBy_17 : decode cX1_numberBy 17 = .ok (.iload_n 3, 1) := by decide +kernel
theorem dX1_numberBy_18 : decode cX1_numberBy 18 = .ok (.ifCond .lt 91, 3) := by decide +kernel
theorem dX1_numberBy_21 : decode cX1_numberBy 21 = .ok (.aload_n 0, 1) := by decide +kernel
theorem dX1_numberBy_22 : decode cX1_numberBy 22 = .ok (.getfield 104, 3) := by decide +kernel
theorem dX1_numberBy_25 : decode cX1_numberBy 25 = .ok (.iload_n 3, 1) := by decide +kernel
theorem dX1_numberBy_26 : decode cX1_numberBy 26 = .ok (.iaload, 1) := by decide +kernel
theorem dX1_numberBy_27 : decode cX1_numberBy 27 = .ok (.iconst 1, 1) := by decide +kernel
theorem dX1_numberBy_28 : decode cX1_numberBy 28 = .ok (.isub, 1) := by decide +kernel
theorem dX1_numberBy_29 : decode cX1_numberBy 29 = .ok (.istore 4, 2) := by decide +kernel
theorem dX1_numberBy_31 : decode cX1_numberBy 31 = .ok (.iload 4, 2) := by decide +kernel
theorem dX1_numberBy_33 : decode cX1_numberBy 33 = .ok (.ifCond .lt 70, 3) := by decide +kernel
theorem dX1_numberBy_36 : decode cX1_numberBy 36 = .ok (.aload_n 0, 1) := by decide +kernel
theorem dX1_numberBy_37 : decode cX1_numberBy 37 = .ok (.iload_n 3, 1) := by decide +kernel
theorem dX1_numberBy_38 : decode cX1_numberBy 38 = .ok (.aload_n 0, 1) := by decide +kernel
theorem dX1_numberBy_39 : decode cX1_numberBy 39 = .ok (.getfield 129, 3) := by decide +kernel
theorem dX1_numberBy_42 : decode cX1_numberBy 42 = .ok (.iconst 0, 1) := by decide +kernel
theorem dX1_numberBy_43 : decode cX1_numberBy 43 = .ok (.iaload, 1) := by decide +kernel
theorem dX1_numberBy_44 : decode cX1_numberBy 44 = .ok (.invokevirtual 447, 3) := by decide +kernel
theorem dX1_numberBy_47 : decode cX1_numberBy 47 = .ok (.ifCond .eq 56, 3) := by decide +kernel
theorem dX1_numberBy_50 : decode cX1_numberBy 50 = .ok (.bipush 10, 2) := by decide +kernel
theorem dX1_numberBy_52 : decode cX1_numberBy 52 = .ok (.iload_n 3, 1) := by decide +kernel
theorem dX1_numberBy_53 : decode cX1_numberBy 53 = .ok (.imul, 1) := by decide +kernel
theorem dX1_numberBy_54 : decode cX1_numberBy 54 = .ok (.iload 4, 2) := by decide +kernel
theorem dX1_numberBy_56 : decode cX1_numberBy 56 = .ok (.iadd, 1) := by decide +kernel
theorem dX1_numberBy_57 : decode cX1_numberBy 57 = .ok (.istore 5, 2) := by decide +kernel
theorem dX1_numberBy_59 : decode cX1_numberBy 59 = .ok (.aload_n 0, 1) := by decide +kernel
theorem dX1_numberBy_60 : decode cX1_numberBy 60 = .ok (.getfield 107, 3) := by decide +kernel
theorem dX1_numberBy_63 : decode cX1_numberBy 63 = .ok (.iload 5, 2) := by decide +kernel
theorem dX1_numberBy_65 : decode cX1_numberBy 65 = .ok (.iaload, 1) := by decide +kernel
theorem dX1_numberBy_66 : decode cX1_numberBy 66 = .ok (.iload_n 1, 1) := by decide +kernel
theorem dX1_numberBy_67 : decode cX1_numberBy 67 = .ok (.if_icmp .ne 30, 3) := by decide +kernel
theorem dX1_numberBy_70 : decode cX1_numberBy 70 = .ok (.aload_n 0, 1) := by decide +kernel
theorem dX1_numberBy_71 : decode cX1_numberBy 71 = .ok (.getfield 122, 3) := by decide +kernel
theorem dX1_numberBy_74 : decode cX1_numberBy 74 = .ok (.iload 5, 2) := by decide +kernel
theorem dX1_numberBy_76 : decode cX1_numberBy 76 = .ok (.baload, 1) := by decide +kernel
theorem dX1_numberBy_77 : decode cX1_numberBy 77 = .ok (.ifCond .ne 20, 3) := by decide +kernel
theorem dX1_numberBy_80 : decode cX1_numberBy 80 = .ok (.aload_n 0, 1) := by decide +kernel
theorem dX1_numberBy_81 : decode cX1_numberBy 81 = .ok (.iload 5, 2) := by decide +kernel
theorem dX1_numberBy_83 : decode cX1_numberBy 83 = .ok (.invokevirtual 456, 3) := by decide +kernel
theorem dX1_numberBy_86 : decode cX1_numberBy 86 = .ok (.ifCond .eq 11, 3) := by decide +kernel
theorem dX1_numberBy_89 : decode cX1_numberBy 89 = .ok (.aload_n 0, 1) := by decide +kernel
theorem dX1_numberBy_90 : decode cX1_numberBy 90 = .ok (.getfield 116, 3) := by decide +kernel
theorem dX1_numberBy_93 : decode cX1_numberBy 93 = .ok (.iload 5, 2) := by decide +kernel
theorem dX1_numberBy_95 : decode cX1_numberBy 95 = .ok (.iaload, 1) := by decide +kernel
theorem dX1_numberBy_96 : decode cX1_numberBy 96 = .ok (.ireturn, 1) := by decide +kernel
theorem dX1_numberBy_97 : decode cX1_numberBy 97 = .ok (.iinc 4 (-1), 3) := by decide +kernel
theorem dX1_numberBy_100 : decode cX1_numberBy 100 = .ok (.goto (-69), 3) := by decide +kernel
theorem dX1_numberBy_103 : decode cX1_numberBy 103 = .ok (.iinc 3 (-1), 3) := by decide +kernel
theorem dX1_numberBy_106 : decode cX1_numberBy 106 = .ok (.goto (-89), 3) := by decide +kernel
theorem dX1_numberBy_109 : decode cX1_numberBy 109 = .ok (.iload_n 2, 1) := by decide +kernel
theorem dX1_numberBy_110 : decode cX1_numberBy 110 = .ok (.ireturn, 1) := by decide +kernel
section
variable {res : Int32 × MS}
noncomputable def m_numberBy_B31 (F : Nat) (K103 : Int32 × MS → Option (Int32 × MS)) (x1 x2 x3 : Int32) (R : Int32 × MS → Option (Int32 × MS)) (a : Int32 × MS) : Option (Int32 × MS) :=
  if a.1 < 0 then (K103 (a.1, a.2)) else (if okI 0 5 = true then (m_isForce F x3 (a.2.2 39 (0 : Int32).toNatClampNeg) a.2).bind (fun r1 => if r1.1 = 0 then (K103 (a.1, r1.2)) else (nx ((10 * x3) + a.1 : Int32) (fun y1 => if okI y1 200 = true then if (r1.2.2 32 y1.toNatClampNeg) = x1 then (if okI y1 200 = true then if (r1.2.2 37 y1.toNatClampNeg) = 0 then ((m_isTrue F y1 r1.2).bind (fun r2 => if r2.1 = 0 then (R (a.1 + (-1), r2.2)) else (if okI y1 200 = true then some (r2.2.2 35 y1.toNatClampNeg, r2.2) else none))) else (R (a.1 + (-1), r1.2)) else none) else (R (a.1 + (-1), r1.2)) else none))) else none)
theorem km_numberBy_B31 (M : MC γ cX1_numberBy 6 G o 4 (some .int) (mQi G o res)) (x1 x2 x3 : Int32) (K103 : Int32 × MS → Option (Int32 × MS)) (hK103 : ∀ a, K103 a = some res → J γ (MW G o a.2) 0 0 103 [(0, .ref o), (1, .int x1), (2, .int x2), (3, .int x3)] []) : ∀ R : Int32 × MS → Option (Int32 × MS), (∀ a, R a = some res → J γ (MW G o a.2) 0 0 31 [(0, .ref o), (1, .int x1), (2, .int x2), (3, .int x3), (4, .int a.1)] []) → ∀ a, m_numberBy_B31 F K103 x1 x2 x3 R a = some res → J γ (MW G o a.2) 0 0 31 [(0, .ref o), (1, .int x1), (2, .int x2), (3, .int x3), (4, .int a.1)] [] := by
  intro R hR a hf
  unfold m_numberBy_B31 at hf
  refine j_iload (pc := 31) M.1 dX1_numberBy_31 4 rfl ?_
  refine j_if_lt (pc := 33) M.1 103 dX1_numberBy_33 rfl (fun c1 => ?_) (fun c1 => ?_)
  · replace hf := o_pos c1 hf
    refine j_sub [0, 1, 2, 3] (show lv_pick _ _ = [(0, .ref o), (1, .int x1), (2, .int x2), (3, .int x3)] from rfl) ?_
    have hy := hK103 _ hf
    exact hy
  · replace hf := o_neg c1 hf
    refine j_aload_n (pc := 36) M.1 dX1_numberBy_36 0 rfl ?_
    refine j_iload_n (pc := 37) M.1 dX1_numberBy_37 3 rfl ?_
    refine j_aload_n (pc := 38) M.1 dX1_numberBy_38 0 rfl ?_
    refine jm_getA (pc := 39) M fa_129 dX1_numberBy_39 ?_
    refine j_iconst (pc := 42) M.1 dX1_numberBy_42 kc_iconst_0 ?_
    obtain ⟨b1, hf⟩ := o_need hf
    refine jm_iald (pc := 43) M ax_39 b1 dX1_numberBy_43 ?_
    obtain ⟨r1, g1, hf⟩ := o_bind hf
    refine jm_calli (pc := 44) (As := [.int x3, .int (a.2.2 39 (0 : Int32).toNatClampNeg)]) (rest := []) M cm_447 (met_isForce g1) rfl rfl rfl rfl dX1_numberBy_44 ?_
    refine j_if_eq (pc := 47) M.1 103 dX1_numberBy_47 rfl (fun c2 => ?_) (fun c2 => ?_)
    · replace hf := o_pos c2 hf
      refine j_sub [0, 1, 2, 3] (show lv_pick _ _ = [(0, .ref o), (1, .int x1), (2, .int x2), (3, .int x3)] from rfl) ?_
      have hy := hK103 _ hf
      exact hy
    · replace hf := o_neg c2 hf
      refine j_bipush (pc := 50) M.1 dX1_numberBy_50 kc_bipush_10 ?_
      refine j_iload_n (pc := 52) M.1 dX1_numberBy_52 3 rfl ?_
      refine j_imul (pc := 53) M.1 dX1_numberBy_53 ?_
      refine j_iload (pc := 54) M.1 dX1_numberBy_54 4 rfl ?_
      refine j_iadd (pc := 56) M.1 dX1_numberBy_56 ?_
      obtain ⟨y1, e1, hf⟩ := o_nx hf
      refine j_top e1 ?_
      refine j_istore (pc := 57) M.1 [(5, .int y1), (0, .ref o), (1, .int x1), (2, .int x2), (3, .int x3), (4, .int a.1)] dX1_numberBy_57 rfl rfl ?_
      refine j_aload_n (pc := 59) M.1 dX1_numberBy_59 1 rfl ?_
      refine jm_getA (pc := 60) M fa_107 dX1_numberBy_60 ?_
      refine j_iload (pc := 63) M.1 dX1_numberBy_63 0 rfl ?_
      obtain ⟨b2, hf⟩ := o_need hf
      refine jm_iald (pc := 65) M ax_32 b2 dX1_numberBy_65 ?_
      refine j_iload_n (pc := 66) M.1 dX1_numberBy_66 2 rfl ?_
      refine j_icmp_ne (pc := 67) M.1 97 dX1_numberBy_67 rfl (fun c3 => ?_) (fun c3 => ?_)
      · replace hf := o_neg c3 hf
        refine j_iinc (pc := 97) M.1 [(4, .int (a.1 + (-1))), (5, .int y1), (0, .ref o), (1, .int x1), (2, .int x2), (3, .int x3)] dX1_numberBy_97 5 rfl (congrArg _ kc_iconst_m1) rfl rfl ?_
        refine j_goto (pc := 100) M.1 31 dX1_numberBy_100 rfl ?_
        refine j_sub [2, 3, 4, 5, 0] (show lv_pick _ _ = [(0, .ref o), (1, .int x1), (2, .int x2), (3, .int x3), (4, .int (a.1 + (-1)))] from rfl) ?_
        have hy := hR _ hf
        exact hy
      · replace hf := o_pos c3 hf
        refine j_aload_n (pc := 70) M.1 dX1_numberBy_70 1 rfl ?_
        refine jm_getA (pc := 71) M fa_122 dX1_numberBy_71 ?_
        refine j_iload (pc := 74) M.1 dX1_numberBy_74 0 rfl ?_
        obtain ⟨b3, hf⟩ := o_need hf
        refine jm_zald (pc := 76) M ax_37 b3 dX1_numberBy_76 ?_
        refine j_if_ne (pc := 77) M.1 97 dX1_numberBy_77 rfl (fun c4 => ?_) (fun c4 => ?_)
        · replace hf := o_neg c4 hf
          refine j_iinc (pc := 97) M.1 [(4, .int (a.1 + (-1))), (5, .int y1), (0, .ref o), (1, .int x1), (2, .int x2), (3, .int x3)] dX1_numberBy_97 5 rfl (congrArg _ kc_iconst_m1) rfl rfl ?_
          refine j_goto (pc := 100) M.1 31 dX1_numberBy_100 rfl ?_
          refine j_sub [2, 3, 4, 5, 0] (show lv_pick _ _ = [(0, .ref o), (1, .int x1), (2, .int x2), (3, .int x3), (4, .int (a.1 + (-1)))] from rfl) ?_
          have hy := hR _ hf
          exact hy
        · replace hf := o_pos c4 hf
          refine j_aload_n (pc := 80) M.1 dX1_numberBy_80 1 rfl ?_
          refine j_iload (pc := 81) M.1 dX1_numberBy_81 0 rfl ?_
          obtain ⟨r2, g2, hf⟩ := o_bind hf
          refine jm_calli (pc := 83) (As := [.int y1]) (rest := []) M cm_456 (met_isTrue g2) rfl rfl rfl rfl dX1_numberBy_83 ?_
          refine j_if_eq (pc := 86) M.1 97 dX1_numberBy_86 rfl (fun c5 => ?_) (fun c5 => ?_)
          · replace hf := o_pos c5 hf
            refine j_iinc (pc := 97) M.1 [(4, .int (a.1 + (-1))), (5, .int y1), (0, .ref o), (1, .int x1), (2, .int x2), (3, .int x3)] dX1_numberBy_97 5 rfl (congrArg _ kc_iconst_m1) rfl rfl ?_
            refine j_goto (pc := 100) M.1 31 dX1_numberBy_100 rfl ?_
            refine j_sub [2, 3, 4, 5, 0] (show lv_pick _ _ = [(0, .ref o), (1, .int x1), (2, .int x2), (3, .int x3), (4, .int (a.1 + (-1)))] from rfl) ?_
            have hy := hR _ hf
            exact hy
          · replace hf := o_neg c5 hf
            refine j_aload_n (pc := 89) M.1 dX1_numberBy_89 1 rfl ?_
            refine jm_getA (pc := 90) M fa_116 dX1_numberBy_90 ?_
            refine j_iload (pc := 93) M.1 dX1_numberBy_93 0 rfl ?_
            obtain ⟨b4, hf⟩ := o_need hf
            refine jm_iald (pc := 95) M ax_35 b4 dX1_numberBy_95 ?_
            exact jm_iret (pc := 96) M dX1_numberBy_96 hf
noncomputable def m_numberBy_B17 (F : Nat) (x1 x2 : Int32) (R : Int32 × MS → Option (Int32 × MS)) (a : Int32 × MS) : Option (Int32 × MS) :=
  if a.1 < 0 then (some (x2, a.2)) else (if okI a.1 20 = true then nx ((a.2.2 31 a.1.toNatClampNeg) - 1 : Int32) (fun y1 => lp (m_numberBy_B31 F (fun a1 => R (a.1 + (-1), a1.2)) x1 x2 a.1) F (y1, a.2)) else none)
theorem km_numberBy_B17 (M : MC γ cX1_numberBy 6 G o 4 (some .int) (mQi G o res)) (x1 x2 : Int32) : ∀ R : Int32 × MS → Option (Int32 × MS), (∀ a, R a = some res → J γ (MW G o a.2) 0 0 17 [(0, .ref o), (1, .int x1), (2, .int x2), (3, .int a.1)] []) → ∀ a, m_numberBy_B17 F x1 x2 R a = some res → J γ (MW G o a.2) 0 0 17 [(0, .ref o), (1, .int x1), (2, .int x2), (3, .int a.1)] [] := by
  intro R hR a hf
  unfold m_numberBy_B17 at hf
  refine j_iload_n (pc := 17) M.1 dX1_numberBy_17 3 rfl ?_
  refine j_if_lt (pc := 18) M.1 109 dX1_numberBy_18 rfl (fun c1 => ?_) (fun c1 => ?_)
  · replace hf := o_pos c1 hf
    refine j_iload_n (pc := 109) M.1 dX1_numberBy_109 2 rfl ?_
    exact jm_iret (pc := 110) M dX1_numberBy_110 hf
  · replace hf := o_neg c1 hf
    refine j_aload_n (pc := 21) M.1 dX1_numberBy_21 0 rfl ?_
    refine jm_getA (pc := 22) M fa_104 dX1_numberBy_22 ?_
    refine j_iload_n (pc := 25) M.1 dX1_numberBy_25 3 rfl ?_
    obtain ⟨b1, hf⟩ := o_need hf
    refine jm_iald (pc := 26) M ax_31 b1 dX1_numberBy_26 ?_
    refine j_iconst (pc := 27) M.1 dX1_numberBy_27 kc_iconst_1 ?_
    refine j_isub (pc := 28) M.1 dX1_numberBy_28 ?_
    obtain ⟨y1, e1, hf⟩ := o_nx hf
    refine j_top e1 ?_
    refine j_istore (pc := 29) M.1 [(4, .int y1), (0, .ref o), (1, .int x1), (2, .int x2), (3, .int a.1)] dX1_numberBy_29 rfl rfl ?_
    refine j_sub [1, 2, 3, 4, 0] (show lv_pick _ _ = [(0, .ref o), (1, .int x1), (2, .int x2), (3, .int a.1), (4, .int y1)] from rfl) ?_
    refine lp_W (km_numberBy_B31 M x1 x2 a.1 _ ?_) F (y1, a.2) hf
    · intro a1 hf
      refine j_iinc (pc := 103) M.1 [(3, .int (a.1 + (-1))), (0, .ref o), (1, .int x1), (2, .int x2)] dX1_numberBy_103 3 rfl (congrArg _ kc_iconst_m1) rfl rfl ?_
      refine j_goto (pc := 106) M.1 17 dX1_numberBy_106 rfl ?_
      refine j_sub [1, 2, 3, 0] (show lv_pick _ _ = [(0, .ref o), (1, .int x1), (2, .int x2), (3, .int (a.1 + (-1)))] from rfl) ?_
      have hy := hR _ hf
      exact hy
noncomputable def m_numberBy (F : Nat) (x1 x2 : Int32) (σ : MS) : Option (Int32 × MS) :=
  if okI 0 5 = true then (m_strikes F (σ.2 39 (0 : Int32).toNatClampNeg) σ).bind (fun r1 => nx ((r1.2.1 44) - 1 : Int32) (fun y1 => lp (m_numberBy_B17 F x1 x2) F (y1, r1.2))) else none
theorem met_numberBy {l : Launch} {G : gG} {o F : Nat} {x1 x2 : Int32} {σ : MS} {res : Int32 × MS} (hf : m_numberBy F x1 x2 σ = some res) : MetMi l G yX1_numberBy cX1_numberBy 6 (some .int) 4 o [.int x1, .int x2] σ res := by
  refine metMi_of (by decide) rfl rfl (fun γ hγ M => ?_)
  subst hγ
  show J γ (MW G o σ) 0 0 0 [(0, .ref o), (1, .int x1), (2, .int x2)] []
  unfold m_numberBy at hf
  refine j_aload_n (pc := 0) M.1 dX1_numberBy_0 0 rfl ?_
  refine j_aload_n (pc := 1) M.1 dX1_numberBy_1 0 rfl ?_
  refine jm_getA (pc := 2) M fa_129 dX1_numberBy_2 ?_
  refine j_iconst (pc := 5) M.1 dX1_numberBy_5 kc_iconst_0 ?_
  obtain ⟨b1, hf⟩ := o_need hf
  refine jm_iald (pc := 6) M ax_39 b1 dX1_numberBy_6 ?_
  obtain ⟨r1, g1, hf⟩ := o_bind hf
  refine jm_callv (pc := 7) (As := [.int (σ.2 39 (0 : Int32).toNatClampNeg)]) (rest := []) M cm_453 (met_strikes g1) rfl rfl rfl rfl dX1_numberBy_7 ?_
  refine j_aload_n (pc := 10) M.1 dX1_numberBy_10 0 rfl ?_
  refine jm_getS (pc := 11) M fm_441 dX1_numberBy_11 ?_
  refine j_iconst (pc := 14) M.1 dX1_numberBy_14 kc_iconst_1 ?_
  refine j_isub (pc := 15) M.1 dX1_numberBy_15 ?_
  obtain ⟨y1, e1, hf⟩ := o_nx hf
  refine j_top e1 ?_
  refine j_istore_n (pc := 16) M.1 [(3, .int y1), (0, .ref o), (1, .int x1), (2, .int x2)] dX1_numberBy_16 rfl rfl ?_
  refine j_sub [1, 2, 3, 0] (show lv_pick _ _ = [(0, .ref o), (1, .int x1), (2, .int x2), (3, .int y1)] from rfl) ?_
  refine lp_W (km_numberBy_B17 M x1 x2) F (y1, r1.2) hf
end
theorem dX1_numberings_0 : decode cX1_numberings 0 = .ok (.aload_n 0, 1) := by decide +kernel
theorem dX1_numberings_1 : decode cX1_numberings 1 = .ok (.aload_n 0, 1) := by decide +kernel
theorem dX1_numberings_2 : decode cX1_numberings 2 = .ok (.getfield 129, 3) := by decide +kernel
theorem dX1_numberings_5 : decode cX1_numberings 5 = .ok (.iconst 0, 1) := by decide +kernel
theorem dX1_numberings_6 : decode cX1_numberings 6 = .ok (.iaload, 1) := by decide +kernel
theorem dX1_numberings_7 : decode cX1_numberings 7 = .ok (.invokevirtual 453, 3) := by decide +kernel
theorem dX1_numberings_10 : decode cX1_numberings 10 = .ok (.iconst 0, 1) := by decide +kernel
theorem dX1_numberings_11 : decode cX1_numberings 11 = .ok (.istore_n 1, 1) := by decide +kernel
theorem dX1_numberings_12 : decode cX1_numberings 12 = .ok (.iconst 0, 1) := by decide +kernel
theorem dX1_numberings_13 : decode cX1_numberings 13 = .ok (.istore_n 2, 1) := by decide +kernel
theorem dX1_numberings_14 : decode cX1_numberings 14 = .ok (.iload_n 2, 1) := by decide +kernel
theorem dX1_numberings_15 : decode cX1_numberings 15 = .ok (.aload_n 0, 1) := by decide +kernel
theorem dX1_numberings_16 : decode cX1_numberings 16 = .ok (.getfield 441, 3) := by decide +kernel
theorem dX1_numberings_19 : decode cX1_numberings 19 = .ok (.if_icmp .ge 92, 3) := by decide +kernel
theorem dX1_numberings_22 : decode cX1_numberings 22 = .ok (.iconst 0, 1) := by decide +kernel
theorem dX1_numberings_23 : decode cX1_numberings 23 = .ok (.istore_n 3, 1) := by decide +kernel
theorem dX1_numberings_24 : decode cX1_numberings 24 = .ok (.iload_n 3, 1) := by decide +kernel
theorem dX1_numberings_25 : decode cX1_numberings 25 = .ok (.aload_n 0, 1) := by decide +kernel
theorem dX1_numberings_26 : decode cX1_numberings 26 = .ok (.getfield 104, 3) := by decide +kernel
theorem dX1_numberings_29 : decode cX1_numberings 29 = .ok (.iload_n 2, 1) := by decide +kernel
theorem dX1_numberings_30 : decode cX1_numberings 30 = .ok (.iaload, 1) := by decide +kernel
theorem dX1_numberings_31 : decode cX1_numberings 31 = .ok (.if_icmp .ge 74, 3) := by decide +kernel
theorem dX1_numberings_34 : decode cX1_numberings 34 = .ok (.aload_n 0, 1) := by decide +kernel
theorem dX1_numberings_35 : decode cX1_numberings 35 = .ok (.iload_n 2, 1) := by decide +kernel
theorem dX1_numberings_36 : decode cX1_numberings 36 = .ok (.aload_n 0, 1) := by decide +kernel
theorem dX1_numberings_37 : decode cX1_numberings 37 = .ok (.getfield 129, 3) := by decide +kernel
theorem dX1_numberings_40 : decode cX1_numberings 40 = .ok (.iconst 0, 1) := by decide +kernel
theorem dX1_numberings_41 : decode cX1_numberings 41 = .ok (.iaload, 1) := by decide +kernel
theorem dX1_numberings_42 : decode cX1_numberings 42 = .ok (.invokevirtual 447, 3) := by decide +kernel
theorem dX1_numberings_45 : decode cX1_numberings 45 = .ok (.ifCond .eq 60, 3) := by decide +kernel
theorem dX1_numberings_48 : decode cX1_numberings 48 = .ok (.bipush 10, 2) := by decide +kernel
theorem dX1_numberings_50 : decode cX1_numberings 50 = .ok (.iload_n 2, 1) := by decide +kernel
theorem dX1_numberings_51 : decode cX1_numberings 51 = .ok (.imul, 1) := by decide +kernel
theorem dX1_numberings_52 : decode cX1_numberings 52 = .ok (.iload_n 3, 1) := by decide +kernel
theorem dX1_numberings_53 : decode cX1_numberings 53 = .ok (.iadd, 1) := by decide +kernel
theorem dX1_numberings_54 : decode cX1_numberings 54 = .ok (.istore 4, 2) := by decide +kernel
theorem dX1_numberings_56 : decode cX1_numberings 56 = .ok (.aload_n 0, 1) := by decide +kernel
theorem dX1_numberings_57 : decode cX1_numberings 57 = .ok (.getfield 107, 3) := by decide +kernel
theorem dX1_numberings_60 : decode cX1_numberings 60 = .ok (.iload 4, 2) := by decide +kernel
theorem dX1_numberings_62 : decode cX1_numberings 62 = .ok (.iaload, 1) := by decide +kernel
theorem dX1_numberings_63 : decode cX1_numberings 63 = .ok (.bipush 110, 2) := by decide +kernel
theorem dX1_numberings_65 : decode cX1_numberings 65 = .ok (.if_icmp .ne 34, 3) := by decide +kernel
theorem dX1_numberings_68 : decode cX1_numberings 68 = .ok (.aload_n 0, 1) := by decide +kernel
theorem dX1_numberings_69 : decode cX1_numberings 69 = .ok (.getfield 122, 3) := by decide +kernel
theorem dX1_numberings_72 : decode cX1_numberings 72 = .ok (.iload 4, 2) := by decide +kernel
theorem dX1_numberings_74 : decode cX1_numberings 74 = .ok (.baload, 1) := by decide +kernel
theorem dX1_numberings_75 : decode cX1_numberings 75 = .ok (.ifCond .ne 24, 3) := by decide +kernel
theorem dX1_numberings_78 : decode cX1_numberings 78 = .ok (.aload_n 0, 1) := by decide +kernel
theorem dX1_numberings_79 : decode cX1_numberings 79 = .ok (.iload 4, 2) := by decide +kernel
theorem dX1_numberings_81 : decode cX1_numberings 81 = .ok (.invokevirtual 456, 3) := by decide +kernel
theorem dX1_numberings_84 : decode cX1_numberings 84 = .ok (.ifCond .eq 15, 3) := by decide +kernel
theorem dX1_numberings_87 : decode cX1_numberings 87 = .ok (.iload_n 1, 1) := by decide +kernel
theorem dX1_numberings_88 : decode cX1_numberings 88 = .ok (.iconst 1, 1) := by decide +kernel
theorem dX1_numberings_89 : decode cX1_numberings 89 = .ok (.aload_n 0, 1) := by decide +kernel
theorem dX1_numberings_90 : decode cX1_numberings 90 = .ok (.getfield 116, 3) := by decide +kernel
theorem dX1_numberings_93 : decode cX1_numberings 93 = .ok (.iload 4, 2) := by decide +kernel
theorem dX1_numberings_95 : decode cX1_numberings 95 = .ok (.iaload, 1) := by decide +kernel
theorem dX1_numberings_96 : decode cX1_numberings 96 = .ok (.ishl, 1) := by decide +kernel
theorem dX1_numberings_97 : decode cX1_numberings 97 = .ok (.ior, 1) := by decide +kernel
theorem dX1_numberings_98 : decode cX1_numberings 98 = .ok (.istore_n 1, 1) := by decide +kernel
theorem dX1_numberings_99 : decode cX1_numberings 99 = .ok (.iinc 3 1, 3) := by decide +kernel
theorem dX1_numberings_102 : decode cX1_numberings 102 = .ok (.goto (-78), 3) := by decide +kernel
theorem dX1_numberings_105 : decode cX1_numberings 105 = .ok (.iinc 2 1, 3) := by decide +kernel
theorem dX1_numberings_108 : decode cX1_numberings 108 = .ok (.goto (-94), 3) := by decide +kernel
theorem dX1_numberings_111 : decode cX1_numberings 111 = .ok (.iload_n 1, 1) := by decide +kernel
theorem dX1_numberings_112 : decode cX1_numberings 112 = .ok (.ifCond .ne 8, 3) := by decide +kernel
theorem dX1_numberings_115 : decode cX1_numberings 115 = .ok (.bipush 15, 2) := by decide +kernel
theorem dX1_numberings_117 : decode cX1_numberings 117 = .ok (.goto 4, 3) := by decide +kernel
theorem dX1_numberings_120 : decode cX1_numberings 120 = .ok (.iload_n 1, 1) := by decide +kernel
theorem dX1_numberings_121 : decode cX1_numberings 121 = .ok (.ireturn, 1) := by decide +kernel
section
variable {res : Int32 × MS}
noncomputable def m_numberings_B24 (F : Nat) (K105 : Int32 × Int32 × MS → Option (Int32 × MS)) (x2 : Int32) (R : Int32 × Int32 × MS → Option (Int32 × MS)) (a : Int32 × Int32 × MS) : Option (Int32 × MS) :=
  if okI x2 20 = true then if (a.2.2.2 31 x2.toNatClampNeg) ≤ a.2.1 then (K105 (a.1, a.2.1, a.2.2)) else (if okI 0 5 = true then (m_isForce F x2 (a.2.2.2 39 (0 : Int32).toNatClampNeg) a.2.2).bind (fun r1 => if r1.1 = 0 then (K105 (a.1, a.2.1, r1.2)) else (nx ((10 * x2) + a.2.1 : Int32) (fun y1 => if okI y1 200 = true then if (r1.2.2 32 y1.toNatClampNeg) = 110 then (if okI y1 200 = true then if (r1.2.2 37 y1.toNatClampNeg) = 0 then ((m_isTrue F y1 r1.2).bind (fun r2 => if r2.1 = 0 then (R (a.1, a.2.1 + 1, r2.2)) else (if okI y1 200 = true then nx (a.1 ||| (1 <<< ((r2.2.2 35 y1.toNatClampNeg) &&& 31)) : Int32) (fun y2 => R (y2, a.2.1 + 1, r2.2)) else none))) else (R (a.1, a.2.1 + 1, r1.2)) else none) else (R (a.1, a.2.1 + 1, r1.2)) else none))) else none) else none
theorem km_numberings_B24 (M : MC γ cX1_numberings 5 G o 4 (some .int) (mQi G o res)) (x2 : Int32) (K105 : Int32 × Int32 × MS → Option (Int32 × MS)) (hK105 : ∀ a, K105 a = some res → J γ (MW G o a.2.2) 0 0 105 [(0, .ref o), (1, .int a.1), (2, .int x2)] []) : ∀ R : Int32 × Int32 × MS → Option (Int32 × MS), (∀ a, R a = some res → J γ (MW G o a.2.2) 0 0 24 [(0, .ref o), (1, .int a.1), (2, .int x2), (3, .int a.2.1)] []) → ∀ a, m_numberings_B24 F K105 x2 R a = some res → J γ (MW G o a.2.2) 0 0 24 [(0, .ref o), (1, .int a.1), (2, .int x2), (3, .int a.2.1)] [] := by
  intro R hR a hf
  unfold m_numberings_B24 at hf
  refine j_iload_n (pc := 24) M.1 dX1_numberings_24 3 rfl ?_
  refine j_aload_n (pc := 25) M.1 dX1_numberings_25 0 rfl ?_
  refine jm_getA (pc := 26) M fa_104 dX1_numberings_26 ?_
  refine j_iload_n (pc := 29) M.1 dX1_numberings_29 2 rfl ?_
  obtain ⟨b1, hf⟩ := o_need hf
  refine jm_iald (pc := 30) M ax_31 b1 dX1_numberings_30 ?_
  refine j_icmp_ge (pc := 31) M.1 105 dX1_numberings_31 rfl (fun c1 => ?_) (fun c1 => ?_)
  · replace hf := o_pos c1 hf
    refine j_sub [0, 1, 2] (show lv_pick _ _ = [(0, .ref o), (1, .int a.1), (2, .int x2)] from rfl) ?_
    have hy := hK105 _ hf
    exact hy
  · replace hf := o_neg c1 hf
    refine j_aload_n (pc := 34) M.1 dX1_numberings_34 0 rfl ?_
    refine j_iload_n (pc := 35) M.1 dX1_numberings_35 2 rfl ?_
    refine j_aload_n (pc := 36) M.1 dX1_numberings_36 0 rfl ?_
    refine jm_getA (pc := 37) M fa_129 dX1_numberings_37 ?_
    refine j_iconst (pc := 40) M.1 dX1_numberings_40 kc_iconst_0 ?_
    obtain ⟨b2, hf⟩ := o_need hf
    refine jm_iald (pc := 41) M ax_39 b2 dX1_numberings_41 ?_
    obtain ⟨r1, g1, hf⟩ := o_bind hf
    refine jm_calli (pc := 42) (As := [.int x2, .int (a.2.2.2 39 (0 : Int32).toNatClampNeg)]) (rest := []) M cm_447 (met_isForce g1) rfl rfl rfl rfl dX1_numberings_42 ?_
    refine j_if_eq (pc := 45) M.1 105 dX1_numberings_45 rfl (fun c2 => ?_) (fun c2 => ?_)
    · replace hf := o_pos c2 hf
      refine j_sub [0, 1, 2] (show lv_pick _ _ = [(0, .ref o), (1, .int a.1), (2, .int x2)] from rfl) ?_
      have hy := hK105 _ hf
      exact hy
    · replace hf := o_neg c2 hf
      refine j_bipush (pc := 48) M.1 dX1_numberings_48 kc_bipush_10 ?_
      refine j_iload_n (pc := 50) M.1 dX1_numberings_50 2 rfl ?_
      refine j_imul (pc := 51) M.1 dX1_numberings_51 ?_
      refine j_iload_n (pc := 52) M.1 dX1_numberings_52 3 rfl ?_
      refine j_iadd (pc := 53) M.1 dX1_numberings_53 ?_
      obtain ⟨y1, e1, hf⟩ := o_nx hf
      refine j_top e1 ?_
      refine j_istore (pc := 54) M.1 [(4, .int y1), (0, .ref o), (1, .int a.1), (2, .int x2), (3, .int a.2.1)] dX1_numberings_54 rfl rfl ?_
      refine j_aload_n (pc := 56) M.1 dX1_numberings_56 1 rfl ?_
      refine jm_getA (pc := 57) M fa_107 dX1_numberings_57 ?_
      refine j_iload (pc := 60) M.1 dX1_numberings_60 0 rfl ?_
      obtain ⟨b3, hf⟩ := o_need hf
      refine jm_iald (pc := 62) M ax_32 b3 dX1_numberings_62 ?_
      refine j_bipush (pc := 63) M.1 dX1_numberings_63 kc_bipush_110 ?_
      refine j_icmp_ne (pc := 65) M.1 99 dX1_numberings_65 rfl (fun c3 => ?_) (fun c3 => ?_)
      · replace hf := o_neg c3 hf
        refine j_iinc (pc := 99) M.1 [(3, .int (a.2.1 + 1)), (4, .int y1), (0, .ref o), (1, .int a.1), (2, .int x2)] dX1_numberings_99 4 rfl (congrArg _ kc_iconst_1) rfl rfl ?_
        refine j_goto (pc := 102) M.1 24 dX1_numberings_102 rfl ?_
        refine j_sub [2, 3, 4, 0] (show lv_pick _ _ = [(0, .ref o), (1, .int a.1), (2, .int x2), (3, .int (a.2.1 + 1))] from rfl) ?_
        have hy := hR _ hf
        exact hy
      · replace hf := o_pos c3 hf
        refine j_aload_n (pc := 68) M.1 dX1_numberings_68 1 rfl ?_
        refine jm_getA (pc := 69) M fa_122 dX1_numberings_69 ?_
        refine j_iload (pc := 72) M.1 dX1_numberings_72 0 rfl ?_
        obtain ⟨b4, hf⟩ := o_need hf
        refine jm_zald (pc := 74) M ax_37 b4 dX1_numberings_74 ?_
        refine j_if_ne (pc := 75) M.1 99 dX1_numberings_75 rfl (fun c4 => ?_) (fun c4 => ?_)
        · replace hf := o_neg c4 hf
          refine j_iinc (pc := 99) M.1 [(3, .int (a.2.1 + 1)), (4, .int y1), (0, .ref o), (1, .int a.1), (2, .int x2)] dX1_numberings_99 4 rfl (congrArg _ kc_iconst_1) rfl rfl ?_
          refine j_goto (pc := 102) M.1 24 dX1_numberings_102 rfl ?_
          refine j_sub [2, 3, 4, 0] (show lv_pick _ _ = [(0, .ref o), (1, .int a.1), (2, .int x2), (3, .int (a.2.1 + 1))] from rfl) ?_
          have hy := hR _ hf
          exact hy
        · replace hf := o_pos c4 hf
          refine j_aload_n (pc := 78) M.1 dX1_numberings_78 1 rfl ?_
          refine j_iload (pc := 79) M.1 dX1_numberings_79 0 rfl ?_
          obtain ⟨r2, g2, hf⟩ := o_bind hf
          refine jm_calli (pc := 81) (As := [.int y1]) (rest := []) M cm_456 (met_isTrue g2) rfl rfl rfl rfl dX1_numberings_81 ?_
          refine j_if_eq (pc := 84) M.1 99 dX1_numberings_84 rfl (fun c5 => ?_) (fun c5 => ?_)
          · replace hf := o_pos c5 hf
            refine j_iinc (pc := 99) M.1 [(3, .int (a.2.1 + 1)), (4, .int y1), (0, .ref o), (1, .int a.1), (2, .int x2)] dX1_numberings_99 4 rfl (congrArg _ kc_iconst_1) rfl rfl ?_
            refine j_goto (pc := 102) M.1 24 dX1_numberings_102 rfl ?_
            refine j_sub [2, 3, 4, 0] (show lv_pick _ _ = [(0, .ref o), (1, .int a.1), (2, .int x2), (3, .int (a.2.1 + 1))] from rfl) ?_
            have hy := hR _ hf
            exact hy
          · replace hf := o_neg c5 hf
            refine j_iload_n (pc := 87) M.1 dX1_numberings_87 2 rfl ?_
            refine j_iconst (pc := 88) M.1 dX1_numberings_88 kc_iconst_1 ?_
            refine j_aload_n (pc := 89) M.1 dX1_numberings_89 1 rfl ?_
            refine jm_getA (pc := 90) M fa_116 dX1_numberings_90 ?_
            refine j_iload (pc := 93) M.1 dX1_numberings_93 0 rfl ?_
            obtain ⟨b5, hf⟩ := o_need hf
            refine jm_iald (pc := 95) M ax_35 b5 dX1_numberings_95 ?_
            refine j_ishl (pc := 96) M.1 dX1_numberings_96 ?_
            refine j_ior (pc := 97) M.1 dX1_numberings_97 ?_
            obtain ⟨y2, e2, hf⟩ := o_nx hf
            refine j_top e2 ?_
            refine j_istore_n (pc := 98) M.1 [(1, .int y2), (4, .int y1), (0, .ref o), (2, .int x2), (3, .int a.2.1)] dX1_numberings_98 rfl rfl ?_
            refine j_iinc (pc := 99) M.1 [(3, .int (a.2.1 + 1)), (1, .int y2), (4, .int y1), (0, .ref o), (2, .int x2)] dX1_numberings_99 4 rfl (congrArg _ kc_iconst_1) rfl rfl ?_
            refine j_goto (pc := 102) M.1 24 dX1_numberings_102 rfl ?_
            refine j_sub [3, 1, 4, 0] (show lv_pick _ _ = [(0, .ref o), (1, .int y2), (2, .int x2), (3, .int (a.2.1 + 1))] from rfl) ?_
            have hy := hR _ hf
            exact hy
noncomputable def m_numberings_B14 (F : Nat) (K111 : Int32 × Int32 × MS → Option (Int32 × MS)) (R : Int32 × Int32 × MS → Option (Int32 × MS)) (a : Int32 × Int32 × MS) : Option (Int32 × MS) :=
  if (a.2.2.1 44) ≤ a.2.1 then (K111 (a.1, a.2.1, a.2.2)) else (lp (m_numberings_B24 F (fun a1 => R (a1.1, a.2.1 + 1, a1.2.2)) a.2.1) F (a.1, 0, a.2.2))
theorem km_numberings_B14 (M : MC γ cX1_numberings 5 G o 4 (some .int) (mQi G o res)) (K111 : Int32 × Int32 × MS → Option (Int32 × MS)) (hK111 : ∀ a, K111 a = some res → J γ (MW G o a.2.2) 0 0 111 [(1, .int a.1)] []) : ∀ R : Int32 × Int32 × MS → Option (Int32 × MS), (∀ a, R a = some res → J γ (MW G o a.2.2) 0 0 14 [(0, .ref o), (1, .int a.1), (2, .int a.2.1)] []) → ∀ a, m_numberings_B14 F K111 R a = some res → J γ (MW G o a.2.2) 0 0 14 [(0, .ref o), (1, .int a.1), (2, .int a.2.1)] [] := by
  intro R hR a hf
  unfold m_numberings_B14 at hf
  refine j_iload_n (pc := 14) M.1 dX1_numberings_14 2 rfl ?_
  refine j_aload_n (pc := 15) M.1 dX1_numberings_15 0 rfl ?_
  refine jm_getS (pc := 16) M fm_441 dX1_numberings_16 ?_
  refine j_icmp_ge (pc := 19) M.1 111 dX1_numberings_19 rfl (fun c1 => ?_) (fun c1 => ?_)
  · replace hf := o_pos c1 hf
    refine j_sub [1] (show lv_pick _ _ = [(1, .int a.1)] from rfl) ?_
    have hy := hK111 _ hf
    exact hy
  · replace hf := o_neg c1 hf
    refine j_iconst (pc := 22) M.1 dX1_numberings_22 kc_iconst_0 ?_
    refine j_istore_n (pc := 23) M.1 [(3, .int 0), (0, .ref o), (1, .int a.1), (2, .int a.2.1)] dX1_numberings_23 rfl rfl ?_
    refine j_sub [1, 2, 3, 0] (show lv_pick _ _ = [(0, .ref o), (1, .int a.1), (2, .int a.2.1), (3, .int 0)] from rfl) ?_
    refine lp_W (km_numberings_B24 M a.2.1 _ ?_) F (a.1, 0, a.2.2) hf
    · intro a1 hf
      refine j_iinc (pc := 105) M.1 [(2, .int (a.2.1 + 1)), (0, .ref o), (1, .int a1.1)] dX1_numberings_105 2 rfl (congrArg _ kc_iconst_1) rfl rfl ?_
      refine j_goto (pc := 108) M.1 14 dX1_numberings_108 rfl ?_
      refine j_sub [1, 2, 0] (show lv_pick _ _ = [(0, .ref o), (1, .int a1.1), (2, .int (a.2.1 + 1))] from rfl) ?_
      have hy := hR _ hf
      exact hy
noncomputable def m_numberings (F : Nat) (σ : MS) : Option (Int32 × MS) :=
  if okI 0 5 = true then (m_strikes F (σ.2 39 (0 : Int32).toNatClampNeg) σ).bind (fun r1 => lp (m_numberings_B14 F (fun a1 => if a1.1 = 0 then (some (15, a1.2.2)) else (some (a1.1, a1.2.2)))) F (0, 0, r1.2)) else none
theorem met_numberings {l : Launch} {G : gG} {o F : Nat} {σ : MS} {res : Int32 × MS} (hf : m_numberings F σ = some res) : MetMi l G yX1_numberings cX1_numberings 5 (some .int) 4 o [] σ res := by
  refine metMi_of (by decide) rfl rfl (fun γ hγ M => ?_)
  subst hγ
  show J γ (MW G o σ) 0 0 0 [(0, .ref o)] []
  unfold m_numberings at hf
  refine j_aload_n (pc := 0) M.1 dX1_numberings_0 0 rfl ?_
  refine j_aload_n (pc := 1) M.1 dX1_numberings_1 0 rfl ?_
  refine jm_getA (pc := 2) M fa_129 dX1_numberings_2 ?_
  refine j_iconst (pc := 5) M.1 dX1_numberings_5 kc_iconst_0 ?_
  obtain ⟨b1, hf⟩ := o_need hf
  refine jm_iald (pc := 6) M ax_39 b1 dX1_numberings_6 ?_
  obtain ⟨r1, g1, hf⟩ := o_bind hf
  refine jm_callv (pc := 7) (As := [.int (σ.2 39 (0 : Int32).toNatClampNeg)]) (rest := []) M cm_453 (met_strikes g1) rfl rfl rfl rfl dX1_numberings_7 ?_
  refine j_iconst (pc := 10) M.1 dX1_numberings_10 kc_iconst_0 ?_
  refine j_istore_n (pc := 11) M.1 [(1, .int 0), (0, .ref o)] dX1_numberings_11 rfl rfl ?_
  refine j_iconst (pc := 12) M.1 dX1_numberings_12 kc_iconst_0 ?_
  refine j_istore_n (pc := 13) M.1 [(2, .int 0), (1, .int 0), (0, .ref o)] dX1_numberings_13 rfl rfl ?_
  refine j_sub [2, 1, 0] (show lv_pick _ _ = [(0, .ref o), (1, .int 0), (2, .int 0)] from rfl) ?_
  refine lp_W (km_numberings_B14 M _ ?_) F (0, 0, r1.2) hf
  · intro a1 hf
    refine j_iload_n (pc := 111) M.1 dX1_numberings_111 0 rfl ?_
    refine j_if_ne (pc := 112) M.1 120 dX1_numberings_112 rfl (fun c1 => ?_) (fun c1 => ?_)
    · replace hf := o_neg c1 hf
      refine j_iload_n (pc := 120) M.1 dX1_numberings_120 0 rfl ?_
      exact jm_iret (pc := 121) M dX1_numberings_121 hf
    · replace hf := o_pos c1 hf
      refine j_bipush (pc := 115) M.1 dX1_numberings_115 kc_bipush_15 ?_
      refine j_goto (pc := 117) M.1 121 dX1_numberings_117 rfl ?_
      exact jm_iret (pc := 121) M dX1_numberings_121 hf
end
theorem dX1_readsFactor_0 : decode cX1_readsFactor 0 = .ok (.aload_n 0, 1) := by decide +kernel
theorem dX1_readsFactor_1 : decode cX1_readsFactor 1 = .ok (.invokevirtual 354, 3) := by decide +kernel
theorem dX1_readsFactor_4 : decode cX1_readsFactor 4 = .ok (.bipush 91, 2) := by decide +kernel
theorem dX1_readsFactor_6 : decode cX1_readsFactor 6 = .ok (.if_icmp .ne 14, 3) := by decide +kernel
theorem dX1_readsFactor_9 : decode cX1_readsFactor 9 = .ok (.aload_n 0, 1) := by decide +kernel
theorem dX1_readsFactor_10 : decode cX1_readsFactor 10 = .ok (.bipush 14, 2) := by decide +kernel
theorem dX1_readsFactor_12 : decode cX1_readsFactor 12 = .ok (.invokevirtual 387, 3) := by decide +kernel
theorem dX1_readsFactor_15 : decode cX1_readsFactor 15 = .ok (.ifCond .ne (-15), 3) := by decide +kernel
theorem dX1_readsFactor_18 : decode cX1_readsFactor 18 = .ok (.iconst 0, 1) := by decide +kernel
theorem dX1_readsFactor_19 : decode cX1_readsFactor 19 = .ok (.ireturn, 1) := by decide +kernel
theorem dX1_readsFactor_20 : decode cX1_readsFactor 20 = .ok (.aload_n 0, 1) := by decide +kernel
theorem dX1_readsFactor_21 : decode cX1_readsFactor 21 = .ok (.invokevirtual 367, 3) := by decide +kernel
theorem dX1_readsFactor_24 : decode cX1_readsFactor 24 = .ok (.ifCond .eq 26, 3) := by decide +kernel
theorem dX1_readsFactor_27 : decode cX1_readsFactor 27 = .ok (.aload_n 0, 1) := by decide +kernel
theorem dX1_readsFactor_28 : decode cX1_readsFactor 28 = .ok (.ldc_w 390, 3) := by decide +kernel
theorem dX1_readsFactor_31 : decode cX1_readsFactor 31 = .ok (.invokevirtual 391, 3) := by decide +kernel
theorem dX1_readsFactor_34 : decode cX1_readsFactor 34 = .ok (.ifCond .ne 5, 3) := by decide +kernel
theorem dX1_readsFactor_37 : decode cX1_readsFactor 37 = .ok (.iconst 0, 1) := by decide +kernel
theorem dX1_readsFactor_38 : decode cX1_readsFactor 38 = .ok (.ireturn, 1) := by decide +kernel
theorem dX1_readsFactor_39 : decode cX1_readsFactor 39 = .ok (.aload_n 0, 1) := by decide +kernel
theorem dX1_readsFactor_40 : decode cX1_readsFactor 40 = .ok (.iconst 0, 1) := by decide +kernel
theorem dX1_readsFactor_41 : decode cX1_readsFactor 41 = .ok (.aload_n 0, 1) := by decide +kernel
theorem dX1_readsFactor_42 : decode cX1_readsFactor 42 = .ok (.getfield 364, 3) := by decide +kernel
theorem dX1_readsFactor_45 : decode cX1_readsFactor 45 = .ok (.invokevirtual 384, 3) := by decide +kernel
theorem dX1_readsFactor_48 : decode cX1_readsFactor 48 = .ok (.iconst 1, 1) := by decide +kernel
theorem dX1_readsFactor_49 : decode cX1_readsFactor 49 = .ok (.ireturn, 1) := by decide +kernel
theorem dX1_readsFactor_50 : decode cX1_readsFactor 50 = .ok (.aload_n 0, 1) := by decide +kernel
theorem dX1_readsFactor_51 : decode cX1_readsFactor 51 = .ok (.invokevirtual 354, 3) := by decide +kernel
theorem dX1_readsFactor_54 : decode cX1_readsFactor 54 = .ok (.invokestatic 394, 3) := by decide +kernel
theorem dX1_readsFactor_57 : decode cX1_readsFactor 57 = .ok (.istore_n 1, 1) := by decide +kernel
theorem dX1_readsFactor_58 : decode cX1_readsFactor 58 = .ok (.iload_n 1, 1) := by decide +kernel
theorem dX1_readsFactor_59 : decode cX1_readsFactor 59 = .ok (.iconst (-1), 1) := by decide +kernel
theorem dX1_readsFactor_60 : decode cX1_readsFactor 60 = .ok (.if_icmp .ne 13, 3) := by decide +kernel
theorem dX1_readsFactor_63 : decode cX1_readsFactor 63 = .ok (.aload_n 0, 1) := by decide +kernel
theorem dX1_readsFactor_64 : decode cX1_readsFactor 64 = .ok (.iconst 1, 1) := by decide +kernel
theorem dX1_readsFactor_65 : decode cX1_readsFactor 65 = .ok (.aload_n 0, 1) := by decide +kernel
theorem dX1_readsFactor_66 : decode cX1_readsFactor 66 = .ok (.getfield 348, 3) := by decide +kernel
theorem dX1_readsFactor_69 : decode cX1_readsFactor 69 = .ok (.invokevirtual 361, 3) := by decide +kernel
theorem dX1_readsFactor_72 : decode cX1_readsFactor 72 = .ok (.ireturn, 1) := by decide +kernel
theorem dX1_readsFactor_73 : decode cX1_readsFactor 73 = .ok (.aload_n 0, 1) := by decide +kernel
theorem dX1_readsFactor_74 : decode cX1_readsFactor 74 = .ok (.iconst 1, 1) := by decide +kernel
theorem dX1_readsFactor_75 : decode cX1_readsFactor 75 = .ok (.iload_n 1, 1) := by decide +kernel
theorem dX1_readsFactor_76 : decode cX1_readsFactor 76 = .ok (.invokevirtual 384, 3) := by decide +kernel
theorem dX1_readsFactor_79 : decode cX1_readsFactor 79 = .ok (.aload_n 0, 1) := by decide +kernel
theorem dX1_readsFactor_80 : decode cX1_readsFactor 80 = .ok (.aload_n 0, 1) := by decide +kernel
theorem dX1_readsFactor_81 : decode cX1_readsFactor 81 = .ok (.getfield 348, 3) := by decide +kernel
theorem dX1_readsFactor_84 : decode cX1_readsFactor 84 = .ok (.iconst 1, 1) := by decide +kernel
theorem dX1_readsFactor_85 : decode cX1_readsFactor 85 = .ok (.iadd, 1) := by decide +kernel
theorem dX1_readsFactor_86 : decode cX1_readsFactor 86 = .ok (.putfield 348, 3) := by decide +kernel
theorem dX1_readsFactor_89 : decode cX1_readsFactor 89 = .ok (.iconst 1, 1) := by decide +kernel
theorem dX1_readsFactor_90 : decode cX1_readsFactor 90 = .ok (.ireturn, 1) := by decide +kernel
section
variable {res : Int32 × MS}
noncomputable def m_readsFactor_B0 (F : Nat) (K20 : MS → Option (Int32 × MS)) (R : MS → Option (Int32 × MS)) (a : MS) : Option (Int32 × MS) :=
  (m_byteHere F a).bind (fun r1 => if r1.1 = 91 then ((m_opens F 14 r1.2).bind (fun r2 => if r2.1 = 0 then (some (0, r2.2)) else (R r2.2))) else (K20 r1.2))
theorem km_readsFactor_B0 (M : MC γ cX1_readsFactor 2 G o 4 (some .boolean) (mQi G o res)) (K20 : MS → Option (Int32 × MS)) (hK20 : ∀ a, K20 a = some res → J γ (MW G o a) 0 0 20 [(0, .ref o)] []) : ∀ R : MS → Option (Int32 × MS), (∀ a, R a = some res → J γ (MW G o a) 0 0 0 [(0, .ref o)] []) → ∀ a, m_readsFactor_B0 F K20 R a = some res → J γ (MW G o a) 0 0 0 [(0, .ref o)] [] := by
  intro R hR a hf
  unfold m_readsFactor_B0 at hf
  refine j_aload_n (pc := 0) M.1 dX1_readsFactor_0 0 rfl ?_
  obtain ⟨r1, g1, hf⟩ := o_bind hf
  refine jm_calli (pc := 1) (As := []) (rest := []) M cm_354 (met_byteHere g1) rfl rfl rfl rfl dX1_readsFactor_1 ?_
  refine j_bipush (pc := 4) M.1 dX1_readsFactor_4 kc_bipush_91 ?_
  refine j_icmp_ne (pc := 6) M.1 20 dX1_readsFactor_6 rfl (fun c1 => ?_) (fun c1 => ?_)
  · replace hf := o_neg c1 hf
    have hy := hK20 _ hf
    exact hy
  · replace hf := o_pos c1 hf
    refine j_aload_n (pc := 9) M.1 dX1_readsFactor_9 0 rfl ?_
    refine j_bipush (pc := 10) M.1 dX1_readsFactor_10 kc_bipush_14 ?_
    obtain ⟨r2, g2, hf⟩ := o_bind hf
    refine jm_calli (pc := 12) (As := [.int 14]) (rest := []) M cm_387 (met_opens g2) rfl rfl rfl rfl dX1_readsFactor_12 ?_
    refine j_if_ne (pc := 15) M.1 0 dX1_readsFactor_15 rfl (fun c2 => ?_) (fun c2 => ?_)
    · replace hf := o_neg c2 hf
      have hy := hR _ hf
      exact hy
    · replace hf := o_pos c2 hf
      refine j_iconst (pc := 18) M.1 dX1_readsFactor_18 kc_iconst_0 ?_
      exact jm_zret (pc := 19) M dX1_readsFactor_19 rfl hf
noncomputable def m_readsFactor (F : Nat) (σ : MS) : Option (Int32 × MS) :=
  lp (m_readsFactor_B0 F (fun a1 => (m_isDigit F a1).bind (fun r1 => if r1.1 = 0 then ((m_byteHere F r1.2).bind (fun r2 => (m_factOf F r2.1).bind (fun r3 => if r3 = ((-1)) then ((m_wrong F 1 (r2.2.1 29) r2.2).bind (fun r5 => if okB r5.1 = true then some (r5.1, r5.2) else none)) else ((m_says F 1 r3 r2.2).bind (fun r4 => nx (sS r4.2 29 ((r4.2.1 29) + 1)) (fun σ1 => some (1, σ1))))))) else ((m_readsNumber F 99999 r1.2).bind (fun r6 => if r6.1 = 0 then (some (0, r6.2)) else ((m_says F 0 (r6.2.1 32) r6.2).bind (fun r7 => some (1, r7.2)))))))) F σ
theorem met_readsFactor {l : Launch} {G : gG} {o F : Nat} {σ : MS} {res : Int32 × MS} (hf : m_readsFactor F σ = some res) : MetMi l G yX1_readsFactor cX1_readsFactor 2 (some .boolean) 4 o [] σ res := by
  refine metMi_of (by decide) rfl rfl (fun γ hγ M => ?_)
  subst hγ
  show J γ (MW G o σ) 0 0 0 [(0, .ref o)] []
  unfold m_readsFactor at hf
  refine lp_W (km_readsFactor_B0 M _ ?_) F σ hf
  · intro a1 hf
    refine j_aload_n (pc := 20) M.1 dX1_readsFactor_20 0 rfl ?_
    obtain ⟨r1, g1, hf⟩ := o_bind hf
    refine jm_calli (pc := 21) (As := []) (rest := []) M cm_367 (met_isDigit g1) rfl rfl rfl rfl dX1_readsFactor_21 ?_
    refine j_if_eq (pc := 24) M.1 50 dX1_readsFactor_24 rfl (fun c1 => ?_) (fun c1 => ?_)
    · replace hf := o_pos c1 hf
      refine j_aload_n (pc := 50) M.1 dX1_readsFactor_50 0 rfl ?_
      obtain ⟨r2, g2, hf⟩ := o_bind hf
      refine jm_calli (pc := 51) (As := []) (rest := []) M cm_354 (met_byteHere g2) rfl rfl rfl rfl dX1_readsFactor_51 ?_
      obtain ⟨r3, g3, hf⟩ := o_bind hf
      refine jm_calls (pc := 54) (As := [.int r2.1]) (rest := []) M cs_X1_394 (met_factOf g3) rfl rfl rfl rfl dX1_readsFactor_54 ?_
      refine j_istore_n (pc := 57) M.1 [(1, .int r3), (0, .ref o)] dX1_readsFactor_57 rfl rfl ?_
      refine j_iload_n (pc := 58) M.1 dX1_readsFactor_58 0 rfl ?_
      refine j_iconst (pc := 59) M.1 dX1_readsFactor_59 kc_iconst_m1 ?_
      refine j_icmp_ne (pc := 60) M.1 73 dX1_readsFactor_60 rfl (fun c2 => ?_) (fun c2 => ?_)
      · replace hf := o_neg c2 hf
        refine j_aload_n (pc := 73) M.1 dX1_readsFactor_73 1 rfl ?_
        refine j_iconst (pc := 74) M.1 dX1_readsFactor_74 kc_iconst_1 ?_
        refine j_iload_n (pc := 75) M.1 dX1_readsFactor_75 0 rfl ?_
        obtain ⟨r4, g4, hf⟩ := o_bind hf
        refine jm_callv (pc := 76) (As := [.int 1, .int r3]) (rest := []) M cm_384 (met_says g4) rfl rfl rfl rfl dX1_readsFactor_76 ?_
        refine j_aload_n (pc := 79) M.1 dX1_readsFactor_79 1 rfl ?_
        refine j_aload_n (pc := 80) M.1 dX1_readsFactor_80 1 rfl ?_
        refine jm_getS (pc := 81) M fm_348 dX1_readsFactor_81 ?_
        refine j_iconst (pc := 84) M.1 dX1_readsFactor_84 kc_iconst_1 ?_
        refine j_iadd (pc := 85) M.1 dX1_readsFactor_85 ?_
        obtain ⟨σ1, e1, hf⟩ := o_nx hf
        refine jm_put (pc := 86) M fm_348 dX1_readsFactor_86 e1 ?_
        refine j_iconst (pc := 89) M.1 dX1_readsFactor_89 kc_iconst_1 ?_
        exact jm_zret (pc := 90) M dX1_readsFactor_90 rfl hf
      · replace hf := o_pos c2 hf
        refine j_aload_n (pc := 63) M.1 dX1_readsFactor_63 1 rfl ?_
        refine j_iconst (pc := 64) M.1 dX1_readsFactor_64 kc_iconst_1 ?_
        refine j_aload_n (pc := 65) M.1 dX1_readsFactor_65 1 rfl ?_
        refine jm_getS (pc := 66) M fm_348 dX1_readsFactor_66 ?_
        obtain ⟨r5, g5, hf⟩ := o_bind hf
        refine jm_calli (pc := 69) (As := [.int 1, .int (r2.2.1 29)]) (rest := []) M cm_361 (met_wrong g5) rfl rfl rfl rfl dX1_readsFactor_69 ?_
        obtain ⟨b1, hf⟩ := o_need hf
        exact jm_zret (pc := 72) M dX1_readsFactor_72 b1 hf
    · replace hf := o_neg c1 hf
      refine j_aload_n (pc := 27) M.1 dX1_readsFactor_27 0 rfl ?_
      refine j_ldcw (pc := 28) M.1 q1837 dX1_readsFactor_28 ?_
      obtain ⟨r6, g6, hf⟩ := o_bind hf
      refine jm_calli (pc := 31) (As := [.int 99999]) (rest := []) M cm_391 (met_readsNumber g6) rfl rfl rfl rfl dX1_readsFactor_31 ?_
      refine j_if_ne (pc := 34) M.1 39 dX1_readsFactor_34 rfl (fun c3 => ?_) (fun c3 => ?_)
      · replace hf := o_neg c3 hf
        refine j_aload_n (pc := 39) M.1 dX1_readsFactor_39 0 rfl ?_
        refine j_iconst (pc := 40) M.1 dX1_readsFactor_40 kc_iconst_0 ?_
        refine j_aload_n (pc := 41) M.1 dX1_readsFactor_41 0 rfl ?_
        refine jm_getS (pc := 42) M fm_364 dX1_readsFactor_42 ?_
        obtain ⟨r7, g7, hf⟩ := o_bind hf
        refine jm_callv (pc := 45) (As := [.int 0, .int (r6.2.1 32)]) (rest := []) M cm_384 (met_says g7) rfl rfl rfl rfl dX1_readsFactor_45 ?_
        refine j_iconst (pc := 48) M.1 dX1_readsFactor_48 kc_iconst_1 ?_
        exact jm_zret (pc := 49) M dX1_readsFactor_49 rfl hf
      · replace hf := o_pos c3 hf
        refine j_iconst (pc := 37) M.1 dX1_readsFactor_37 kc_iconst_0 ?_
        exact jm_zret (pc := 38) M dX1_readsFactor_38 rfl hf
end
theorem dX1_barred_0 : decode cX1_barred 0 = .ok (.aload_n 0, 1) := by decide +kernel
theorem dX1_barred_1 : decode cX1_barred 1 = .ok (.iload_n 1, 1) := by decide +kernel
theorem dX1_barred_2 : decode cX1_barred 2 = .ok (.invokevirtual 308, 3) := by decide +kernel
theorem dX1_barred_5 : decode cX1_barred 5 = .ok (.ifCond .eq 13, 3) := by decide +kernel
theorem dX1_barred_8 : decode cX1_barred 8 = .ok (.aload_n 0, 1) := by decide +kernel
theorem dX1_barred_9 : decode cX1_barred 9 = .ok (.getfield 28, 3) := by decide +kernel
theorem dX1_barred_12 : decode cX1_barred 12 = .ok (.iload_n 1, 1) := by decide +kernel
theorem dX1_barred_13 : decode cX1_barred 13 = .ok (.iaload, 1) := by decide +kernel
theorem dX1_barred_14 : decode cX1_barred 14 = .ok (.iconst 2, 1) := by decide +kernel
theorem dX1_barred_15 : decode cX1_barred 15 = .ok (.if_icmp .ne 5, 3) := by decide +kernel
theorem dX1_barred_18 : decode cX1_barred 18 = .ok (.iconst (-1), 1) := by decide +kernel
theorem dX1_barred_19 : decode cX1_barred 19 = .ok (.ireturn, 1) := by decide +kernel
theorem dX1_barred_20 : decode cX1_barred 20 = .ok (.aload_n 0, 1) := by decide +kernel
theorem dX1_barred_21 : decode cX1_barred 21 = .ok (.aload_n 0, 1) := by decide +kernel
theorem dX1_barred_22 : decode cX1_barred 22 = .ok (.getfield 43, 3) := by decide +kernel
theorem dX1_barred_25 : decode cX1_barred 25 = .ok (.iload_n 1, 1) := by decide +kernel
theorem dX1_barred_26 : decode cX1_barred 26 = .ok (.iaload, 1) := by decide +kernel
theorem dX1_barred_27 : decode cX1_barred 27 = .ok (.aload_n 0, 1) := by decide +kernel
theorem dX1_barred_28 : decode cX1_barred 28 = .ok (.getfield 25, 3) := by decide +kernel
theorem dX1_barred_31 : decode cX1_barred 31 = .ok (.iload_n 1, 1) := by decide +kernel
theorem dX1_barred_32 : decode cX1_barred 32 = .ok (.iaload, 1) := by decide +kernel
theorem dX1_barred_33 : decode cX1_barred 33 = .ok (.aload_n 0, 1) := by decide +kernel
theorem dX1_barred_34 : decode cX1_barred 34 = .ok (.getfield 28, 3) := by decide +kernel
theorem dX1_barred_37 : decode cX1_barred 37 = .ok (.iload_n 1, 1) := by decide +kernel
theorem dX1_barred_38 : decode cX1_barred 38 = .ok (.iaload, 1) := by decide +kernel
theorem dX1_barred_39 : decode cX1_barred 39 = .ok (.iconst 0, 1) := by decide +kernel
theorem dX1_barred_40 : decode cX1_barred 40 = .ok (.iconst (-1), 1) := by decide +kernel
theorem dX1_barred_41 : decode cX1_barred 41 = .ok (.invokevirtual 459, 3) := by decide +kernel
theorem dX1_barred_44 : decode cX1_barred 44 = .ok (.aload_n 0, 1) := by decide +kernel
theorem dX1_barred_45 : decode cX1_barred 45 = .ok (.getfield 40, 3) := by decide +kernel
theorem dX1_barred_48 : decode cX1_barred 48 = .ok (.iload_n 1, 1) := by decide +kernel
theorem dX1_barred_49 : decode cX1_barred 49 = .ok (.iaload, 1) := by decide +kernel
theorem dX1_barred_50 : decode cX1_barred 50 = .ok (.aload_n 0, 1) := by decide +kernel
theorem dX1_barred_51 : decode cX1_barred 51 = .ok (.bipush 102, 2) := by decide +kernel
theorem dX1_barred_53 : decode cX1_barred 53 = .ok (.bipush 7, 2) := by decide +kernel
theorem dX1_barred_55 : decode cX1_barred 55 = .ok (.invokevirtual 463, 3) := by decide +kernel
theorem dX1_barred_58 : decode cX1_barred 58 = .ok (.if_icmp .le 7, 3) := by decide +kernel
theorem dX1_barred_61 : decode cX1_barred 61 = .ok (.iconst 1, 1) := by decide +kernel
theorem dX1_barred_62 : decode cX1_barred 62 = .ok (.goto 4, 3) := by decide +kernel
theorem dX1_barred_65 : decode cX1_barred 65 = .ok (.iconst 0, 1) := by decide +kernel
theorem dX1_barred_66 : decode cX1_barred 66 = .ok (.ireturn, 1) := by decide +kernel
section
variable {res : Int32 × MS}
noncomputable def m_barred (F : Nat) (x1 : Int32) (σ : MS) : Option (Int32 × MS) :=
  (m_isDig F x1 σ).bind (fun r1 => if r1.1 = 0 then (some ((-1), r1.2)) else (if okI x1 100 = true then if (r1.2.2 6 x1.toNatClampNeg) = 2 then (some ((-1), r1.2)) else (if okI x1 100 = true then if okI x1 100 = true then if okI x1 100 = true then (m_setsFacts F (r1.2.2 11 x1.toNatClampNeg) (r1.2.2 5 x1.toNatClampNeg) (r1.2.2 6 x1.toNatClampNeg) 0 ((-1)) r1.2).bind (fun r2 => if okI x1 100 = true then (m_numberBy F 102 7 r2.2).bind (fun r3 => if (r2.2.2 10 x1.toNatClampNeg) ≤ r3.1 then (some (0, r3.2)) else (some (1, r3.2))) else none) else none else none else none) else none))
theorem met_barred {l : Launch} {G : gG} {o F : Nat} {x1 : Int32} {σ : MS} {res : Int32 × MS} (hf : m_barred F x1 σ = some res) : MetMi l G yX1_barred cX1_barred 2 (some .int) 5 o [.int x1] σ res := by
  refine metMi_of (by decide) rfl rfl (fun γ hγ M => ?_)
  subst hγ
  show J γ (MW G o σ) 0 0 0 [(0, .ref o), (1, .int x1)] []
  unfold m_barred at hf
  refine j_aload_n (pc := 0) M.1 dX1_barred_0 0 rfl ?_
  refine j_iload_n (pc := 1) M.1 dX1_barred_1 1 rfl ?_
  obtain ⟨r1, g1, hf⟩ := o_bind hf
  refine jm_calli (pc := 2) (As := [.int x1]) (rest := []) M cm_308 (met_isDig g1) rfl rfl rfl rfl dX1_barred_2 ?_
  refine j_if_eq (pc := 5) M.1 18 dX1_barred_5 rfl (fun c1 => ?_) (fun c1 => ?_)
  · replace hf := o_pos c1 hf
    refine j_iconst (pc := 18) M.1 dX1_barred_18 kc_iconst_m1 ?_
    exact jm_iret (pc := 19) M dX1_barred_19 hf
  · replace hf := o_neg c1 hf
    refine j_aload_n (pc := 8) M.1 dX1_barred_8 0 rfl ?_
    refine jm_getA (pc := 9) M fa_28 dX1_barred_9 ?_
    refine j_iload_n (pc := 12) M.1 dX1_barred_12 1 rfl ?_
    obtain ⟨b1, hf⟩ := o_need hf
    refine jm_iald (pc := 13) M ax_6 b1 dX1_barred_13 ?_
    refine j_iconst (pc := 14) M.1 dX1_barred_14 kc_iconst_2 ?_
    refine j_icmp_ne (pc := 15) M.1 20 dX1_barred_15 rfl (fun c2 => ?_) (fun c2 => ?_)
    · replace hf := o_neg c2 hf
      refine j_aload_n (pc := 20) M.1 dX1_barred_20 0 rfl ?_
      refine j_aload_n (pc := 21) M.1 dX1_barred_21 0 rfl ?_
      refine jm_getA (pc := 22) M fa_43 dX1_barred_22 ?_
      refine j_iload_n (pc := 25) M.1 dX1_barred_25 1 rfl ?_
      obtain ⟨b2, hf⟩ := o_need hf
      refine jm_iald (pc := 26) M ax_11 b2 dX1_barred_26 ?_
      refine j_aload_n (pc := 27) M.1 dX1_barred_27 0 rfl ?_
      refine jm_getA (pc := 28) M fa_25 dX1_barred_28 ?_
      refine j_iload_n (pc := 31) M.1 dX1_barred_31 1 rfl ?_
      obtain ⟨b3, hf⟩ := o_need hf
      refine jm_iald (pc := 32) M ax_5 b3 dX1_barred_32 ?_
      refine j_aload_n (pc := 33) M.1 dX1_barred_33 0 rfl ?_
      refine jm_getA (pc := 34) M fa_28 dX1_barred_34 ?_
      refine j_iload_n (pc := 37) M.1 dX1_barred_37 1 rfl ?_
      obtain ⟨b4, hf⟩ := o_need hf
      refine jm_iald (pc := 38) M ax_6 b4 dX1_barred_38 ?_
      refine j_iconst (pc := 39) M.1 dX1_barred_39 kc_iconst_0 ?_
      refine j_iconst (pc := 40) M.1 dX1_barred_40 kc_iconst_m1 ?_
      obtain ⟨r2, g2, hf⟩ := o_bind hf
      refine jm_callv (pc := 41) (As := [.int (r1.2.2 11 x1.toNatClampNeg), .int (r1.2.2 5 x1.toNatClampNeg), .int (r1.2.2 6 x1.toNatClampNeg), .int 0, .int ((-1))]) (rest := []) M cm_459 (met_setsFacts g2) rfl rfl rfl rfl dX1_barred_41 ?_
      refine j_aload_n (pc := 44) M.1 dX1_barred_44 0 rfl ?_
      refine jm_getA (pc := 45) M fa_40 dX1_barred_45 ?_
      refine j_iload_n (pc := 48) M.1 dX1_barred_48 1 rfl ?_
      obtain ⟨b5, hf⟩ := o_need hf
      refine jm_iald (pc := 49) M ax_10 b5 dX1_barred_49 ?_
      refine j_aload_n (pc := 50) M.1 dX1_barred_50 0 rfl ?_
      refine j_bipush (pc := 51) M.1 dX1_barred_51 kc_bipush_102 ?_
      refine j_bipush (pc := 53) M.1 dX1_barred_53 kc_bipush_7 ?_
      obtain ⟨r3, g3, hf⟩ := o_bind hf
      refine jm_calli (pc := 55) (As := [.int 102, .int 7]) (rest := [.int (r2.2.2 10 x1.toNatClampNeg)]) M cm_463 (met_numberBy g3) rfl rfl rfl rfl dX1_barred_55 ?_
      refine j_icmp_le (pc := 58) M.1 65 dX1_barred_58 rfl (fun c3 => ?_) (fun c3 => ?_)
      · replace hf := o_pos c3 hf
        refine j_iconst (pc := 65) M.1 dX1_barred_65 kc_iconst_0 ?_
        exact jm_iret (pc := 66) M dX1_barred_66 hf
      · replace hf := o_neg c3 hf
        refine j_iconst (pc := 61) M.1 dX1_barred_61 kc_iconst_1 ?_
        refine j_goto (pc := 62) M.1 66 dX1_barred_62 rfl ?_
        exact jm_iret (pc := 66) M dX1_barred_66 hf
    · replace hf := o_pos c2 hf
      refine j_iconst (pc := 18) M.1 dX1_barred_18 kc_iconst_m1 ?_
      exact jm_iret (pc := 19) M dX1_barred_19 hf
end
theorem dX1_check_0 : decode cX1_check 0 = .ok (.iload_n 1, 1) := by decide +kernel
theorem dX1_check_1 : decode cX1_check 1 = .ok (.ifCond .lt 14, 3) := by decide +kernel
theorem dX1_check_4 : decode cX1_check 4 = .ok (.iload_n 1, 1) := by decide +kernel
theorem dX1_check_5 : decode cX1_check 5 = .ok (.aload_n 0, 1) := by decide +kernel
theorem dX1_check_6 : decode cX1_check 6 = .ok (.getfield 341, 3) := by decide +kernel
theorem dX1_check_9 : decode cX1_check 9 = .ok (.bipush 12, 2) := by decide +kernel
theorem dX1_check_11 : decode cX1_check 11 = .ok (.idiv, 1) := by decide +kernel
theorem dX1_check_12 : decode cX1_check 12 = .ok (.if_icmp .le 6, 3) := by decide +kernel
theorem dX1_check_15 : decode cX1_check 15 = .ok (.bipush (-2), 2) := by decide +kernel
theorem dX1_check_17 : decode cX1_check 17 = .ok (.ireturn, 1) := by decide +kernel
theorem dX1_check_18 : decode cX1_check 18 = .ok (.aload_n 0, 1) := by decide +kernel
theorem dX1_check_19 : decode cX1_check 19 = .ok (.iconst 0, 1) := by decide +kernel
theorem dX1_check_20 : decode cX1_check 20 = .ok (.putfield 341, 3) := by decide +kernel
theorem dX1_check_23 : decode cX1_check 23 = .ok (.iconst 0, 1) := by decide +kernel
theorem dX1_check_24 : decode cX1_check 24 = .ok (.istore_n 2, 1) := by decide +kernel
theorem dX1_check_25 : decode cX1_check 25 = .ok (.iconst 0, 1) := by decide +kernel
theorem dX1_check_26 : decode cX1_check 26 = .ok (.istore_n 3, 1) := by decide +kernel
theorem dX1_check_27 : decode cX1_check 27 = .ok (.iload_n 3, 1) := by decide +kernel
theorem dX1_check_28 : decode cX1_check 28 = .ok (.aload_n 0, 1) := by decide +kernel
theorem dX1_check_29 : decode cX1_check 29 = .ok (.getfield 272, 3) := by decide +kernel
theorem dX1_check_32 : decode cX1_check 32 = .ok (.aload_n 0, 1) := by decide +kernel
theorem dX1_check_33 : decode cX1_check 33 = .ok (.getfield 275, 3) := by decide +kernel
theorem dX1_check_36 : decode cX1_check 36 = .ok (.imul, 1) := by decide +kernel
theorem dX1_check_37 : decode cX1_check 37 = .ok (.if_icmp .ge 104, 3) := by decide +kernel
theorem dX1_check_40 : decode cX1_check 40 = .ok (.iconst 0, 1) := by decide +kernel
theorem dX1_check_41 : decode cX1_check 41 = .ok (.istore 4, 2) := by decide +kernel
theorem dX1_check_43 : decode cX1_check 43 = .ok (.iload 4, 2) := by decide +kernel
theorem dX1_check_45 : decode cX1_check 45 = .ok (.bipush 8, 2) := by decide +kernel
theorem dX1_check_47 : decode cX1_check 47 = .ok (.if_icmp .ge 88, 3) := by decide +kernel
theorem dX1_check_50 : decode cX1_check 50 = .ok (.aload_n 0, 1) := by decide +kernel
theorem dX1_check_51 : decode cX1_check 51 = .ok (.iload_n 3, 1) := by decide +kernel
theorem dX1_check_52 : decode cX1_check 52 = .ok (.iload 4, 2) := by decide +kernel
theorem dX1_check_54 : decode cX1_check 54 = .ok (.aload_n 0, 1) := by decide +kernel
theorem dX1_check_55 : decode cX1_check 55 = .ok (.getfield 291, 3) := by decide +kernel
theorem dX1_check_58 : decode cX1_check 58 = .ok (.aload_n 0, 1) := by decide +kernel
theorem dX1_check_59 : decode cX1_check 59 = .ok (.getfield 291, 3) := by decide +kernel
theorem dX1_check_62 : decode cX1_check 62 = .ok (.invokevirtual 327, 3) := by decide +kernel
theorem dX1_check_65 : decode cX1_check 65 = .ok (.istore 5, 2) := by decide +kernel
theorem dX1_check_67 : decode cX1_check 67 = .ok (.iload 5, 2) := by decide +kernel
theorem dX1_check_69 : decode cX1_check 69 = .ok (.ifCond .ne 6, 3) := by decide +kernel
theorem dX1_check_72 : decode cX1_check 72 = .ok (.goto 57, 3) := by decide +kernel
theorem dX1_check_75 : decode cX1_check 75 = .ok (.iload_n 2, 1) := by decide +kernel
theorem dX1_check_76 : decode cX1_check 76 = .ok (.iconst 3, 1) := by decide +kernel
theorem dX1_check_77 : decode cX1_check 77 = .ok (.iload_n 1, 1) := by decide +kernel
theorem dX1_check_78 : decode cX1_check 78 = .ok (.imul, 1) := by decide +kernel
theorem dX1_check_79 : decode cX1_check 79 = .ok (.if_icmp .eq 12, 3) := by decide +kernel
theorem dX1_check_82 : decode cX1_check 82 = .ok (.aload_n 0, 1) := by decide +kernel
theorem dX1_check_83 : decode cX1_check 83 = .ok (.iload_n 2, 1) := by decide +kernel
theorem dX1_check_84 : decode cX1_check 84 = .ok (.invokevirtual 565, 3) := by decide +kernel
theorem dX1_check_87 : decode cX1_check 87 = .ok (.iload_n 3, 1) := by decide +kernel
theorem dX1_check_88 : decode cX1_check 88 = .ok (.if_icmp .eq 5, 3) := by decide +kernel
theorem dX1_check_91 : decode cX1_check 91 = .ok (.iload_n 2, 1) := by decide +kernel
theorem dX1_check_92 : decode cX1_check 92 = .ok (.ireturn, 1) := by decide +kernel
theorem dX1_check_93 : decode cX1_check 93 = .ok (.aload_n 0, 1) := by decide +kernel
theorem dX1_check_94 : decode cX1_check 94 = .ok (.iload_n 2, 1) := by decide +kernel
theorem dX1_check_95 : decode cX1_check 95 = .ok (.iconst 1, 1) := by decide +kernel
theorem dX1_check_96 : decode cX1_check 96 = .ok (.iadd, 1) := by decide +kernel
theorem dX1_check_97 : decode cX1_check 97 = .ok (.invokevirtual 565, 3) := by decide +kernel
theorem dX1_check_100 : decode cX1_check 100 = .ok (.iload 4, 2) := by decide +kernel
theorem dX1_check_102 : decode cX1_check 102 = .ok (.if_icmp .eq 7, 3) := by decide +kernel
theorem dX1_check_105 : decode cX1_check 105 = .ok (.iload_n 2, 1) := by decide +kernel
theorem dX1_check_106 : decode cX1_check 106 = .ok (.iconst 1, 1) := by decide +kernel
theorem dX1_check_107 : decode cX1_check 107 = .ok (.iadd, 1) := by decide +kernel
theorem dX1_check_108 : decode cX1_check 108 = .ok (.ireturn, 1) := by decide +kernel
theorem dX1_check_109 : decode cX1_check 109 = .ok (.aload_n 0, 1) := by decide +kernel
theorem dX1_check_110 : decode cX1_check 110 = .ok (.iload_n 2, 1) := by decide +kernel
theorem dX1_check_111 : decode cX1_check 111 = .ok (.iconst 2, 1) := by decide +kernel
theorem dX1_check_112 : decode cX1_check 112 = .ok (.iadd, 1) := by decide +kernel
theorem dX1_check_113 : decode cX1_check 113 = .ok (.invokevirtual 565, 3) := by decide +kernel
theorem dX1_check_116 : decode cX1_check 116 = .ok (.iload 5, 2) := by decide +kernel
theorem dX1_check_118 : decode cX1_check 118 = .ok (.if_icmp .eq 7, 3) := by decide +kernel
theorem dX1_check_121 : decode cX1_check 121 = .ok (.iload_n 2, 1) := by decide +kernel
theorem dX1_check_122 : decode cX1_check 122 = .ok (.iconst 2, 1) := by decide +kernel
theorem dX1_check_123 : decode cX1_check 123 = .ok (.iadd, 1) := by decide +kernel
theorem dX1_check_124 : decode cX1_check 124 = .ok (.ireturn, 1) := by decide +kernel
theorem dX1_check_125 : decode cX1_check 125 = .ok (.iload_n 2, 1) := by decide +kernel
theorem dX1_check_126 : decode cX1_check 126 = .ok (.iconst 3, 1) := by decide +kernel
theorem dX1_check_127 : decode cX1_check 127 = .ok (.iadd, 1) := by decide +kernel
theorem dX1_check_128 : decode cX1_check 128 = .ok (.istore_n 2, 1) := by decide +kernel
theorem dX1_check_129 : decode cX1_check 129 = .ok (.iinc 4 1, 3) := by decide +kernel
theorem dX1_check_132 : decode cX1_check 132 = .ok (.goto (-89), 3) := by decide +kernel
theorem dX1_check_135 : decode cX1_check 135 = .ok (.iinc 3 1, 3) := by decide +kernel
theorem dX1_check_138 : decode cX1_check 138 = .ok (.goto (-111), 3) := by decide +kernel
theorem dX1_check_141 : decode cX1_check 141 = .ok (.iload_n 2, 1) := by decide +kernel
theorem dX1_check_142 : decode cX1_check 142 = .ok (.iconst 3, 1) := by decide +kernel
theorem dX1_check_143 : decode cX1_check 143 = .ok (.iload_n 1, 1) := by decide +kernel
theorem dX1_check_144 : decode cX1_check 144 = .ok (.imul, 1) := by decide +kernel
theorem dX1_check_145 : decode cX1_check 145 = .ok (.if_icmp .ge 7, 3) := by decide +kernel
theorem dX1_check_148 : decode cX1_check 148 = .ok (.iload_n 2, 1) := by decide +kernel
theorem dX1_check_149 : decode cX1_check 149 = .ok (.goto 4, 3) := by decide +kernel
theorem dX1_check_152 : decode cX1_check 152 = .ok (.iconst (-1), 1) := by decide +kernel
theorem dX1_check_153 : decode cX1_check 153 = .ok (.ireturn, 1) := by decide +kernel
section
variable {res : Int32 × MS}
noncomputable def m_check_B43 (F : Nat) (K135 : Int32 × Int32 × MS → Option (Int32 × MS)) (x1 x3 : Int32) (R : Int32 × Int32 × MS → Option (Int32 × MS)) (a : Int32 × Int32 × MS) : Option (Int32 × MS) :=
  if 8 ≤ a.2.1 then (K135 (a.1, a.2.1, a.2.2)) else ((m_groundOf F x3 a.2.1 (a.2.2.1 2) (a.2.2.1 2) a.2.2).bind (fun r1 => if r1.1 = 0 then (R (a.1, a.2.1 + 1, r1.2)) else (if a.1 = (3 * x1) then (some (a.1, r1.2)) else ((m_tapeNumber F a.1 r1.2).bind (fun r2 => if r2.1 = x3 then ((m_tapeNumber F (a.1 + 1) r2.2).bind (fun r3 => if r3.1 = a.2.1 then ((m_tapeNumber F (a.1 + 2) r3.2).bind (fun r4 => if r4.1 = r1.1 then (R (a.1 + 3, a.2.1 + 1, r4.2)) else (some (a.1 + 2, r4.2)))) else (some (a.1 + 1, r3.2)))) else (some (a.1, r2.2)))))))
theorem km_check_B43 (M : MC γ cX1_check 6 G o 5 (some .int) (mQi G o res)) (x1 x3 : Int32) (K135 : Int32 × Int32 × MS → Option (Int32 × MS)) (hK135 : ∀ a, K135 a = some res → J γ (MW G o a.2.2) 0 0 135 [(0, .ref o), (1, .int x1), (2, .int a.1), (3, .int x3)] []) : ∀ R : Int32 × Int32 × MS → Option (Int32 × MS), (∀ a, R a = some res → J γ (MW G o a.2.2) 0 0 43 [(0, .ref o), (1, .int x1), (2, .int a.1), (3, .int x3), (4, .int a.2.1)] []) → ∀ a, m_check_B43 F K135 x1 x3 R a = some res → J γ (MW G o a.2.2) 0 0 43 [(0, .ref o), (1, .int x1), (2, .int a.1), (3, .int x3), (4, .int a.2.1)] [] := by
  intro R hR a hf
  unfold m_check_B43 at hf
  refine j_iload (pc := 43) M.1 dX1_check_43 4 rfl ?_
  refine j_bipush (pc := 45) M.1 dX1_check_45 kc_bipush_8 ?_
  refine j_icmp_ge (pc := 47) M.1 135 dX1_check_47 rfl (fun c1 => ?_) (fun c1 => ?_)
  · replace hf := o_pos c1 hf
    refine j_sub [0, 1, 2, 3] (show lv_pick _ _ = [(0, .ref o), (1, .int x1), (2, .int a.1), (3, .int x3)] from rfl) ?_
    have hy := hK135 _ hf
    exact hy
  · replace hf := o_neg c1 hf
    refine j_aload_n (pc := 50) M.1 dX1_check_50 0 rfl ?_
    refine j_iload_n (pc := 51) M.1 dX1_check_51 3 rfl ?_
    refine j_iload (pc := 52) M.1 dX1_check_52 4 rfl ?_
    refine j_aload_n (pc := 54) M.1 dX1_check_54 0 rfl ?_
    refine jm_getS (pc := 55) M fm_291 dX1_check_55 ?_
    refine j_aload_n (pc := 58) M.1 dX1_check_58 0 rfl ?_
    refine jm_getS (pc := 59) M fm_291 dX1_check_59 ?_
    obtain ⟨r1, g1, hf⟩ := o_bind hf
    refine jm_calli (pc := 62) (As := [.int x3, .int a.2.1, .int (a.2.2.1 2), .int (a.2.2.1 2)]) (rest := []) M cm_327 (met_groundOf g1) rfl rfl rfl rfl dX1_check_62 ?_
    refine j_istore (pc := 65) M.1 [(5, .int r1.1), (0, .ref o), (1, .int x1), (2, .int a.1), (3, .int x3), (4, .int a.2.1)] dX1_check_65 rfl rfl ?_
    refine j_iload (pc := 67) M.1 dX1_check_67 0 rfl ?_
    refine j_if_ne (pc := 69) M.1 75 dX1_check_69 rfl (fun c2 => ?_) (fun c2 => ?_)
    · replace hf := o_neg c2 hf
      refine j_iload_n (pc := 75) M.1 dX1_check_75 3 rfl ?_
      refine j_iconst (pc := 76) M.1 dX1_check_76 kc_iconst_3 ?_
      refine j_iload_n (pc := 77) M.1 dX1_check_77 2 rfl ?_
      refine j_imul (pc := 78) M.1 dX1_check_78 ?_
      refine j_icmp_eq (pc := 79) M.1 91 dX1_check_79 rfl (fun c3 => ?_) (fun c3 => ?_)
      · replace hf := o_pos c3 hf
        refine j_iload_n (pc := 91) M.1 dX1_check_91 3 rfl ?_
        exact jm_iret (pc := 92) M dX1_check_92 hf
      · replace hf := o_neg c3 hf
        refine j_aload_n (pc := 82) M.1 dX1_check_82 1 rfl ?_
        refine j_iload_n (pc := 83) M.1 dX1_check_83 3 rfl ?_
        obtain ⟨r2, g2, hf⟩ := o_bind hf
        refine jm_calli (pc := 84) (As := [.int a.1]) (rest := []) M cm_565 (met_tapeNumber g2) rfl rfl rfl rfl dX1_check_84 ?_
        refine j_iload_n (pc := 87) M.1 dX1_check_87 4 rfl ?_
        refine j_icmp_eq (pc := 88) M.1 93 dX1_check_88 rfl (fun c4 => ?_) (fun c4 => ?_)
        · replace hf := o_pos c4 hf
          refine j_aload_n (pc := 93) M.1 dX1_check_93 1 rfl ?_
          refine j_iload_n (pc := 94) M.1 dX1_check_94 3 rfl ?_
          refine j_iconst (pc := 95) M.1 dX1_check_95 kc_iconst_1 ?_
          refine j_iadd (pc := 96) M.1 dX1_check_96 ?_
          obtain ⟨r3, g3, hf⟩ := o_bind hf
          refine jm_calli (pc := 97) (As := [.int (a.1 + 1)]) (rest := []) M cm_565 (met_tapeNumber g3) rfl rfl rfl rfl dX1_check_97 ?_
          refine j_iload (pc := 100) M.1 dX1_check_100 5 rfl ?_
          refine j_icmp_eq (pc := 102) M.1 109 dX1_check_102 rfl (fun c5 => ?_) (fun c5 => ?_)
          · replace hf := o_pos c5 hf
            refine j_aload_n (pc := 109) M.1 dX1_check_109 1 rfl ?_
            refine j_iload_n (pc := 110) M.1 dX1_check_110 3 rfl ?_
            refine j_iconst (pc := 111) M.1 dX1_check_111 kc_iconst_2 ?_
            refine j_iadd (pc := 112) M.1 dX1_check_112 ?_
            obtain ⟨r4, g4, hf⟩ := o_bind hf
            refine jm_calli (pc := 113) (As := [.int (a.1 + 2)]) (rest := []) M cm_565 (met_tapeNumber g4) rfl rfl rfl rfl dX1_check_113 ?_
            refine j_iload (pc := 116) M.1 dX1_check_116 0 rfl ?_
            refine j_icmp_eq (pc := 118) M.1 125 dX1_check_118 rfl (fun c6 => ?_) (fun c6 => ?_)
            · replace hf := o_pos c6 hf
              refine j_iload_n (pc := 125) M.1 dX1_check_125 3 rfl ?_
              refine j_iconst (pc := 126) M.1 dX1_check_126 kc_iconst_3 ?_
              refine j_iadd (pc := 127) M.1 dX1_check_127 ?_
              refine j_istore_n (pc := 128) M.1 [(2, .int (a.1 + 3)), (5, .int r1.1), (0, .ref o), (1, .int x1), (3, .int x3), (4, .int a.2.1)] dX1_check_128 rfl rfl ?_
              refine j_iinc (pc := 129) M.1 [(4, .int (a.2.1 + 1)), (2, .int (a.1 + 3)), (5, .int r1.1), (0, .ref o), (1, .int x1), (3, .int x3)] dX1_check_129 5 rfl (congrArg _ kc_iconst_1) rfl rfl ?_
              refine j_goto (pc := 132) M.1 43 dX1_check_132 rfl ?_
              refine j_sub [3, 4, 1, 5, 0] (show lv_pick _ _ = [(0, .ref o), (1, .int x1), (2, .int (a.1 + 3)), (3, .int x3), (4, .int (a.2.1 + 1))] from rfl) ?_
              have hy := hR _ hf
              exact hy
            · replace hf := o_neg c6 hf
              refine j_iload_n (pc := 121) M.1 dX1_check_121 3 rfl ?_
              refine j_iconst (pc := 122) M.1 dX1_check_122 kc_iconst_2 ?_
              refine j_iadd (pc := 123) M.1 dX1_check_123 ?_
              exact jm_iret (pc := 124) M dX1_check_124 hf
          · replace hf := o_neg c5 hf
            refine j_iload_n (pc := 105) M.1 dX1_check_105 3 rfl ?_
            refine j_iconst (pc := 106) M.1 dX1_check_106 kc_iconst_1 ?_
            refine j_iadd (pc := 107) M.1 dX1_check_107 ?_
            exact jm_iret (pc := 108) M dX1_check_108 hf
        · replace hf := o_neg c4 hf
          refine j_iload_n (pc := 91) M.1 dX1_check_91 3 rfl ?_
          exact jm_iret (pc := 92) M dX1_check_92 hf
    · replace hf := o_pos c2 hf
      refine j_goto (pc := 72) M.1 129 dX1_check_72 rfl ?_
      refine j_iinc (pc := 129) M.1 [(4, .int (a.2.1 + 1)), (5, .int r1.1), (0, .ref o), (1, .int x1), (2, .int a.1), (3, .int x3)] dX1_check_129 5 rfl (congrArg _ kc_iconst_1) rfl rfl ?_
      refine j_goto (pc := 132) M.1 43 dX1_check_132 rfl ?_
      refine j_sub [2, 3, 4, 5, 0] (show lv_pick _ _ = [(0, .ref o), (1, .int x1), (2, .int a.1), (3, .int x3), (4, .int (a.2.1 + 1))] from rfl) ?_
      have hy := hR _ hf
      exact hy
noncomputable def m_check_B27 (F : Nat) (K141 : Int32 × Int32 × MS → Option (Int32 × MS)) (x1 : Int32) (R : Int32 × Int32 × MS → Option (Int32 × MS)) (a : Int32 × Int32 × MS) : Option (Int32 × MS) :=
  if ((a.2.2.1 0) * (a.2.2.1 1)) ≤ a.2.1 then (K141 (a.1, a.2.1, a.2.2)) else (lp (m_check_B43 F (fun a1 => R (a1.1, a.2.1 + 1, a1.2.2)) x1 a.2.1) F (a.1, 0, a.2.2))
theorem km_check_B27 (M : MC γ cX1_check 6 G o 5 (some .int) (mQi G o res)) (x1 : Int32) (K141 : Int32 × Int32 × MS → Option (Int32 × MS)) (hK141 : ∀ a, K141 a = some res → J γ (MW G o a.2.2) 0 0 141 [(1, .int x1), (2, .int a.1)] []) : ∀ R : Int32 × Int32 × MS → Option (Int32 × MS), (∀ a, R a = some res → J γ (MW G o a.2.2) 0 0 27 [(0, .ref o), (1, .int x1), (2, .int a.1), (3, .int a.2.1)] []) → ∀ a, m_check_B27 F K141 x1 R a = some res → J γ (MW G o a.2.2) 0 0 27 [(0, .ref o), (1, .int x1), (2, .int a.1), (3, .int a.2.1)] [] := by
  intro R hR a hf
  unfold m_check_B27 at hf
  refine j_iload_n (pc := 27) M.1 dX1_check_27 3 rfl ?_
  refine j_aload_n (pc := 28) M.1 dX1_check_28 0 rfl ?_
  refine jm_getS (pc := 29) M fm_272 dX1_check_29 ?_
  refine j_aload_n (pc := 32) M.1 dX1_check_32 0 rfl ?_
  refine jm_getS (pc := 33) M fm_275 dX1_check_33 ?_
  refine j_imul (pc := 36) M.1 dX1_check_36 ?_
  refine j_icmp_ge (pc := 37) M.1 141 dX1_check_37 rfl (fun c1 => ?_) (fun c1 => ?_)
  · replace hf := o_pos c1 hf
    refine j_sub [1, 2] (show lv_pick _ _ = [(1, .int x1), (2, .int a.1)] from rfl) ?_
    have hy := hK141 _ hf
    exact hy
  · replace hf := o_neg c1 hf
    refine j_iconst (pc := 40) M.1 dX1_check_40 kc_iconst_0 ?_
    refine j_istore (pc := 41) M.1 [(4, .int 0), (0, .ref o), (1, .int x1), (2, .int a.1), (3, .int a.2.1)] dX1_check_41 rfl rfl ?_
    refine j_sub [1, 2, 3, 4, 0] (show lv_pick _ _ = [(0, .ref o), (1, .int x1), (2, .int a.1), (3, .int a.2.1), (4, .int 0)] from rfl) ?_
    refine lp_W (km_check_B43 M x1 a.2.1 _ ?_) F (a.1, 0, a.2.2) hf
    · intro a1 hf
      refine j_iinc (pc := 135) M.1 [(3, .int (a.2.1 + 1)), (0, .ref o), (1, .int x1), (2, .int a1.1)] dX1_check_135 3 rfl (congrArg _ kc_iconst_1) rfl rfl ?_
      refine j_goto (pc := 138) M.1 27 dX1_check_138 rfl ?_
      refine j_sub [1, 2, 3, 0] (show lv_pick _ _ = [(0, .ref o), (1, .int x1), (2, .int a1.1), (3, .int (a.2.1 + 1))] from rfl) ?_
      have hy := hR _ hf
      exact hy
noncomputable def m_check (F : Nat) (x1 : Int32) (σ : MS) : Option (Int32 × MS) :=
  if x1 < 0 then (some ((-2), σ)) else (if x1 ≤ ((σ.1 28) / 12) then (nx (sS σ 28 0) (fun σ1 => lp (m_check_B27 F (fun a1 => if (3 * x1) ≤ a1.1 then (some ((-1), a1.2.2)) else (some (a1.1, a1.2.2))) x1) F (0, 0, σ1))) else (some ((-2), σ)))
theorem met_check {l : Launch} {G : gG} {o F : Nat} {x1 : Int32} {σ : MS} {res : Int32 × MS} (hf : m_check F x1 σ = some res) : MetMi l G yX1_check cX1_check 6 (some .int) 5 o [.int x1] σ res := by
  refine metMi_of (by decide) rfl rfl (fun γ hγ M => ?_)
  subst hγ
  show J γ (MW G o σ) 0 0 0 [(0, .ref o), (1, .int x1)] []
  unfold m_check at hf
  refine j_iload_n (pc := 0) M.1 dX1_check_0 1 rfl ?_
  refine j_if_lt (pc := 1) M.1 15 dX1_check_1 rfl (fun c1 => ?_) (fun c1 => ?_)
  · replace hf := o_pos c1 hf
    refine j_bipush (pc := 15) M.1 dX1_check_15 kc_bipush_m2 ?_
    exact jm_iret (pc := 17) M dX1_check_17 hf
  · replace hf := o_neg c1 hf
    refine j_iload_n (pc := 4) M.1 dX1_check_4 1 rfl ?_
    refine j_aload_n (pc := 5) M.1 dX1_check_5 0 rfl ?_
    refine jm_getS (pc := 6) M fm_341 dX1_check_6 ?_
    refine j_bipush (pc := 9) M.1 dX1_check_9 kc_bipush_12 ?_
    refine j_idiv (pc := 11) M.1 dX1_check_11 (by decide) ?_
    refine j_icmp_le (pc := 12) M.1 18 dX1_check_12 rfl (fun c2 => ?_) (fun c2 => ?_)
    · replace hf := o_pos c2 hf
      refine j_aload_n (pc := 18) M.1 dX1_check_18 0 rfl ?_
      refine j_iconst (pc := 19) M.1 dX1_check_19 kc_iconst_0 ?_
      obtain ⟨σ1, e1, hf⟩ := o_nx hf
      refine jm_put (pc := 20) M fm_341 dX1_check_20 e1 ?_
      refine j_iconst (pc := 23) M.1 dX1_check_23 kc_iconst_0 ?_
      refine j_istore_n (pc := 24) M.1 [(2, .int 0), (0, .ref o), (1, .int x1)] dX1_check_24 rfl rfl ?_
      refine j_iconst (pc := 25) M.1 dX1_check_25 kc_iconst_0 ?_
      refine j_istore_n (pc := 26) M.1 [(3, .int 0), (2, .int 0), (0, .ref o), (1, .int x1)] dX1_check_26 rfl rfl ?_
      refine j_sub [2, 3, 1, 0] (show lv_pick _ _ = [(0, .ref o), (1, .int x1), (2, .int 0), (3, .int 0)] from rfl) ?_
      refine lp_W (km_check_B27 M x1 _ ?_) F (0, 0, σ1) hf
      · intro a1 hf
        refine j_iload_n (pc := 141) M.1 dX1_check_141 1 rfl ?_
        refine j_iconst (pc := 142) M.1 dX1_check_142 kc_iconst_3 ?_
        refine j_iload_n (pc := 143) M.1 dX1_check_143 0 rfl ?_
        refine j_imul (pc := 144) M.1 dX1_check_144 ?_
        refine j_icmp_ge (pc := 145) M.1 152 dX1_check_145 rfl (fun c3 => ?_) (fun c3 => ?_)
        · replace hf := o_pos c3 hf
          refine j_iconst (pc := 152) M.1 dX1_check_152 kc_iconst_m1 ?_
          exact jm_iret (pc := 153) M dX1_check_153 hf
        · replace hf := o_neg c3 hf
          refine j_iload_n (pc := 148) M.1 dX1_check_148 1 rfl ?_
          refine j_goto (pc := 149) M.1 153 dX1_check_149 rfl ?_
          exact jm_iret (pc := 153) M dX1_check_153 hf
    · replace hf := o_neg c2 hf
      refine j_bipush (pc := 15) M.1 dX1_check_15 kc_bipush_m2 ?_
      exact jm_iret (pc := 17) M dX1_check_17 hf
end
theorem dX1_couldBe_0 : decode cX1_couldBe 0 = .ok (.aload_n 0, 1) := by decide +kernel
theorem dX1_couldBe_1 : decode cX1_couldBe 1 = .ok (.getfield 154, 3) := by decide +kernel
theorem dX1_couldBe_4 : decode cX1_couldBe 4 = .ok (.iload_n 1, 1) := by decide +kernel
theorem dX1_couldBe_5 : decode cX1_couldBe 5 = .ok (.iaload, 1) := by decide +kernel
theorem dX1_couldBe_6 : decode cX1_couldBe 6 = .ok (.aload_n 0, 1) := by decide +kernel
theorem dX1_couldBe_7 : decode cX1_couldBe 7 = .ok (.getfield 166, 3) := by decide +kernel
theorem dX1_couldBe_10 : decode cX1_couldBe 10 = .ok (.iload_n 2, 1) := by decide +kernel
theorem dX1_couldBe_11 : decode cX1_couldBe 11 = .ok (.iaload, 1) := by decide +kernel
theorem dX1_couldBe_12 : decode cX1_couldBe 12 = .ok (.if_icmp .eq 5, 3) := by decide +kernel
theorem dX1_couldBe_15 : decode cX1_couldBe 15 = .ok (.iconst 0, 1) := by decide +kernel
theorem dX1_couldBe_16 : decode cX1_couldBe 16 = .ok (.ireturn, 1) := by decide +kernel
theorem dX1_couldBe_17 : decode cX1_couldBe 17 = .ok (.aload_n 0, 1) := by decide +kernel
theorem dX1_couldBe_18 : decode cX1_couldBe 18 = .ok (.aload_n 0, 1) := by decide +kernel
theorem dX1_couldBe_19 : decode cX1_couldBe 19 = .ok (.getfield 139, 3) := by decide +kernel
theorem dX1_couldBe_22 : decode cX1_couldBe 22 = .ok (.iload_n 1, 1) := by decide +kernel
theorem dX1_couldBe_23 : decode cX1_couldBe 23 = .ok (.iaload, 1) := by decide +kernel
theorem dX1_couldBe_24 : decode cX1_couldBe 24 = .ok (.aload_n 0, 1) := by decide +kernel
theorem dX1_couldBe_25 : decode cX1_couldBe 25 = .ok (.getfield 136, 3) := by decide +kernel
theorem dX1_couldBe_28 : decode cX1_couldBe 28 = .ok (.iload_n 1, 1) := by decide +kernel
theorem dX1_couldBe_29 : decode cX1_couldBe 29 = .ok (.iaload, 1) := by decide +kernel
theorem dX1_couldBe_30 : decode cX1_couldBe 30 = .ok (.aload_n 0, 1) := by decide +kernel
theorem dX1_couldBe_31 : decode cX1_couldBe 31 = .ok (.getfield 154, 3) := by decide +kernel
theorem dX1_couldBe_34 : decode cX1_couldBe 34 = .ok (.iload_n 1, 1) := by decide +kernel
theorem dX1_couldBe_35 : decode cX1_couldBe 35 = .ok (.iaload, 1) := by decide +kernel
theorem dX1_couldBe_36 : decode cX1_couldBe 36 = .ok (.aload_n 0, 1) := by decide +kernel
theorem dX1_couldBe_37 : decode cX1_couldBe 37 = .ok (.getfield 157, 3) := by decide +kernel
theorem dX1_couldBe_40 : decode cX1_couldBe 40 = .ok (.iload_n 1, 1) := by decide +kernel
theorem dX1_couldBe_41 : decode cX1_couldBe 41 = .ok (.iaload, 1) := by decide +kernel
theorem dX1_couldBe_42 : decode cX1_couldBe 42 = .ok (.iconst (-1), 1) := by decide +kernel
theorem dX1_couldBe_43 : decode cX1_couldBe 43 = .ok (.invokevirtual 459, 3) := by decide +kernel
theorem dX1_couldBe_46 : decode cX1_couldBe 46 = .ok (.aload_n 0, 1) := by decide +kernel
theorem dX1_couldBe_47 : decode cX1_couldBe 47 = .ok (.iload_n 1, 1) := by decide +kernel
theorem dX1_couldBe_48 : decode cX1_couldBe 48 = .ok (.iload_n 2, 1) := by decide +kernel
theorem dX1_couldBe_49 : decode cX1_couldBe 49 = .ok (.invokevirtual 497, 3) := by decide +kernel
theorem dX1_couldBe_52 : decode cX1_couldBe 52 = .ok (.aload_n 0, 1) := by decide +kernel
theorem dX1_couldBe_53 : decode cX1_couldBe 53 = .ok (.bipush 97, 2) := by decide +kernel
theorem dX1_couldBe_55 : decode cX1_couldBe 55 = .ok (.bipush 8, 2) := by decide +kernel
theorem dX1_couldBe_57 : decode cX1_couldBe 57 = .ok (.invokevirtual 463, 3) := by decide +kernel
theorem dX1_couldBe_60 : decode cX1_couldBe 60 = .ok (.if_icmp .lt 7, 3) := by decide +kernel
theorem dX1_couldBe_63 : decode cX1_couldBe 63 = .ok (.iconst 1, 1) := by decide +kernel
theorem dX1_couldBe_64 : decode cX1_couldBe 64 = .ok (.goto 4, 3) := by decide +kernel
theorem dX1_couldBe_67 : decode cX1_couldBe 67 = .ok (.iconst 0, 1) := by decide +kernel
theorem dX1_couldBe_68 : decode cX1_couldBe 68 = .ok (.ireturn, 1) := by decide +kernel
section
variable {res : Int32 × MS}
noncomputable def m_couldBe (F : Nat) (x1 x2 : Int32) (σ : MS) : Option (Int32 × MS) :=
  if okI x1 150 = true then if okI x2 60 = true then if (σ.2 46 x1.toNatClampNeg) = (σ.2 50 x2.toNatClampNeg) then (if okI x1 150 = true then if okI x1 150 = true then if okI x1 150 = true then if okI x1 150 = true then (m_setsFacts F (σ.2 41 x1.toNatClampNeg) (σ.2 40 x1.toNatClampNeg) (σ.2 46 x1.toNatClampNeg) (σ.2 47 x1.toNatClampNeg) ((-1)) σ).bind (fun r1 => (m_agreeing F x1 x2 r1.2).bind (fun r2 => (m_numberBy F 97 8 r2.2).bind (fun r3 => if r2.1 < r3.1 then (some (0, r3.2)) else (some (1, r3.2))))) else none else none else none else none) else (some (0, σ)) else none else none
theorem met_couldBe {l : Launch} {G : gG} {o F : Nat} {x1 x2 : Int32} {σ : MS} {res : Int32 × MS} (hf : m_couldBe F x1 x2 σ = some res) : MetMi l G yX1_couldBe cX1_couldBe 3 (some .boolean) 5 o [.int x1, .int x2] σ res := by
  refine metMi_of (by decide) rfl rfl (fun γ hγ M => ?_)
  subst hγ
  show J γ (MW G o σ) 0 0 0 [(0, .ref o), (1, .int x1), (2, .int x2)] []
  unfold m_couldBe at hf
  refine j_aload_n (pc := 0) M.1 dX1_couldBe_0 0 rfl ?_
  refine jm_getA (pc := 1) M fa_154 dX1_couldBe_1 ?_
  refine j_iload_n (pc := 4) M.1 dX1_couldBe_4 1 rfl ?_
  obtain ⟨b1, hf⟩ := o_need hf
  refine jm_iald (pc := 5) M ax_46 b1 dX1_couldBe_5 ?_
  refine j_aload_n (pc := 6) M.1 dX1_couldBe_6 0 rfl ?_
  refine jm_getA (pc := 7) M fa_166 dX1_couldBe_7 ?_
  refine j_iload_n (pc := 10) M.1 dX1_couldBe_10 2 rfl ?_
  obtain ⟨b2, hf⟩ := o_need hf
  refine jm_iald (pc := 11) M ax_50 b2 dX1_couldBe_11 ?_
  refine j_icmp_eq (pc := 12) M.1 17 dX1_couldBe_12 rfl (fun c1 => ?_) (fun c1 => ?_)
  · replace hf := o_pos c1 hf
    refine j_aload_n (pc := 17) M.1 dX1_couldBe_17 0 rfl ?_
    refine j_aload_n (pc := 18) M.1 dX1_couldBe_18 0 rfl ?_
    refine jm_getA (pc := 19) M fa_139 dX1_couldBe_19 ?_
    refine j_iload_n (pc := 22) M.1 dX1_couldBe_22 1 rfl ?_
    obtain ⟨b3, hf⟩ := o_need hf
    refine jm_iald (pc := 23) M ax_41 b3 dX1_couldBe_23 ?_
    refine j_aload_n (pc := 24) M.1 dX1_couldBe_24 0 rfl ?_
    refine jm_getA (pc := 25) M fa_136 dX1_couldBe_25 ?_
    refine j_iload_n (pc := 28) M.1 dX1_couldBe_28 1 rfl ?_
    obtain ⟨b4, hf⟩ := o_need hf
    refine jm_iald (pc := 29) M ax_40 b4 dX1_couldBe_29 ?_
    refine j_aload_n (pc := 30) M.1 dX1_couldBe_30 0 rfl ?_
    refine jm_getA (pc := 31) M fa_154 dX1_couldBe_31 ?_
    refine j_iload_n (pc := 34) M.1 dX1_couldBe_34 1 rfl ?_
    obtain ⟨b5, hf⟩ := o_need hf
    refine jm_iald (pc := 35) M ax_46 b5 dX1_couldBe_35 ?_
    refine j_aload_n (pc := 36) M.1 dX1_couldBe_36 0 rfl ?_
    refine jm_getA (pc := 37) M fa_157 dX1_couldBe_37 ?_
    refine j_iload_n (pc := 40) M.1 dX1_couldBe_40 1 rfl ?_
    obtain ⟨b6, hf⟩ := o_need hf
    refine jm_iald (pc := 41) M ax_47 b6 dX1_couldBe_41 ?_
    refine j_iconst (pc := 42) M.1 dX1_couldBe_42 kc_iconst_m1 ?_
    obtain ⟨r1, g1, hf⟩ := o_bind hf
    refine jm_callv (pc := 43) (As := [.int (σ.2 41 x1.toNatClampNeg), .int (σ.2 40 x1.toNatClampNeg), .int (σ.2 46 x1.toNatClampNeg), .int (σ.2 47 x1.toNatClampNeg), .int ((-1))]) (rest := []) M cm_459 (met_setsFacts g1) rfl rfl rfl rfl dX1_couldBe_43 ?_
    refine j_aload_n (pc := 46) M.1 dX1_couldBe_46 0 rfl ?_
    refine j_iload_n (pc := 47) M.1 dX1_couldBe_47 1 rfl ?_
    refine j_iload_n (pc := 48) M.1 dX1_couldBe_48 2 rfl ?_
    obtain ⟨r2, g2, hf⟩ := o_bind hf
    refine jm_calli (pc := 49) (As := [.int x1, .int x2]) (rest := []) M cm_497 (met_agreeing g2) rfl rfl rfl rfl dX1_couldBe_49 ?_
    refine j_aload_n (pc := 52) M.1 dX1_couldBe_52 0 rfl ?_
    refine j_bipush (pc := 53) M.1 dX1_couldBe_53 kc_bipush_97 ?_
    refine j_bipush (pc := 55) M.1 dX1_couldBe_55 kc_bipush_8 ?_
    obtain ⟨r3, g3, hf⟩ := o_bind hf
    refine jm_calli (pc := 57) (As := [.int 97, .int 8]) (rest := [.int r2.1]) M cm_463 (met_numberBy g3) rfl rfl rfl rfl dX1_couldBe_57 ?_
    refine j_icmp_lt (pc := 60) M.1 67 dX1_couldBe_60 rfl (fun c2 => ?_) (fun c2 => ?_)
    · replace hf := o_pos c2 hf
      refine j_iconst (pc := 67) M.1 dX1_couldBe_67 kc_iconst_0 ?_
      exact jm_zret (pc := 68) M dX1_couldBe_68 rfl hf
    · replace hf := o_neg c2 hf
      refine j_iconst (pc := 63) M.1 dX1_couldBe_63 kc_iconst_1 ?_
      refine j_goto (pc := 64) M.1 68 dX1_couldBe_64 rfl ?_
      exact jm_zret (pc := 68) M dX1_couldBe_68 rfl hf
  · replace hf := o_neg c1 hf
    refine j_iconst (pc := 15) M.1 dX1_couldBe_15 kc_iconst_0 ?_
    exact jm_zret (pc := 16) M dX1_couldBe_16 rfl hf
end
theorem dX1_first_0 : decode cX1_first 0 = .ok (.aload_n 0, 1) := by decide +kernel
theorem dX1_first_1 : decode cX1_first 1 = .ok (.iload_n 1, 1) := by decide +kernel
theorem dX1_first_2 : decode cX1_first 2 = .ok (.iload_n 2, 1) := by decide +kernel
theorem dX1_first_3 : decode cX1_first 3 = .ok (.iload_n 3, 1) := by decide +kernel
theorem dX1_first_4 : decode cX1_first 4 = .ok (.iload 4, 2) := by decide +kernel
theorem dX1_first_6 : decode cX1_first 6 = .ok (.invokevirtual 323, 3) := by decide +kernel
theorem dX1_first_9 : decode cX1_first 9 = .ok (.ifCond .eq 22, 3) := by decide +kernel
theorem dX1_first_12 : decode cX1_first 12 = .ok (.aload_n 0, 1) := by decide +kernel
theorem dX1_first_13 : decode cX1_first 13 = .ok (.iload_n 1, 1) := by decide +kernel
theorem dX1_first_14 : decode cX1_first 14 = .ok (.iload_n 2, 1) := by decide +kernel
theorem dX1_first_15 : decode cX1_first 15 = .ok (.iload_n 3, 1) := by decide +kernel
theorem dX1_first_16 : decode cX1_first 16 = .ok (.iload 4, 2) := by decide +kernel
theorem dX1_first_18 : decode cX1_first 18 = .ok (.invokevirtual 327, 3) := by decide +kernel
theorem dX1_first_21 : decode cX1_first 21 = .ok (.ifCond .eq 10, 3) := by decide +kernel
theorem dX1_first_24 : decode cX1_first 24 = .ok (.aload_n 0, 1) := by decide +kernel
theorem dX1_first_25 : decode cX1_first 25 = .ok (.getfield 311, 3) := by decide +kernel
theorem dX1_first_28 : decode cX1_first 28 = .ok (.goto 4, 3) := by decide +kernel
theorem dX1_first_31 : decode cX1_first 31 = .ok (.iconst (-1), 1) := by decide +kernel
theorem dX1_first_32 : decode cX1_first 32 = .ok (.ireturn, 1) := by decide +kernel
section
variable {res : Int32 × MS}
noncomputable def m_first (F : Nat) (x1 x2 x3 x4 : Int32) (σ : MS) : Option (Int32 × MS) :=
  (m_isGround F x1 x2 x3 x4 σ).bind (fun r1 => if r1.1 = 0 then (some ((-1), r1.2)) else ((m_groundOf F x1 x2 x3 x4 r1.2).bind (fun r2 => if r2.1 = 0 then (some ((-1), r2.2)) else (some (r2.2.1 20, r2.2)))))
theorem met_first {l : Launch} {G : gG} {o F : Nat} {x1 x2 x3 x4 : Int32} {σ : MS} {res : Int32 × MS} (hf : m_first F x1 x2 x3 x4 σ = some res) : MetMi l G yX1_first cX1_first 5 (some .int) 5 o [.int x1, .int x2, .int x3, .int x4] σ res := by
  refine metMi_of (by decide) rfl rfl (fun γ hγ M => ?_)
  subst hγ
  show J γ (MW G o σ) 0 0 0 [(0, .ref o), (1, .int x1), (2, .int x2), (3, .int x3), (4, .int x4)] []
  unfold m_first at hf
  refine j_aload_n (pc := 0) M.1 dX1_first_0 0 rfl ?_
  refine j_iload_n (pc := 1) M.1 dX1_first_1 1 rfl ?_
  refine j_iload_n (pc := 2) M.1 dX1_first_2 2 rfl ?_
  refine j_iload_n (pc := 3) M.1 dX1_first_3 3 rfl ?_
  refine j_iload (pc := 4) M.1 dX1_first_4 4 rfl ?_
  obtain ⟨r1, g1, hf⟩ := o_bind hf
  refine jm_calli (pc := 6) (As := [.int x1, .int x2, .int x3, .int x4]) (rest := []) M cm_323 (met_isGround g1) rfl rfl rfl rfl dX1_first_6 ?_
  refine j_if_eq (pc := 9) M.1 31 dX1_first_9 rfl (fun c1 => ?_) (fun c1 => ?_)
  · replace hf := o_pos c1 hf
    refine j_iconst (pc := 31) M.1 dX1_first_31 kc_iconst_m1 ?_
    exact jm_iret (pc := 32) M dX1_first_32 hf
  · replace hf := o_neg c1 hf
    refine j_aload_n (pc := 12) M.1 dX1_first_12 0 rfl ?_
    refine j_iload_n (pc := 13) M.1 dX1_first_13 1 rfl ?_
    refine j_iload_n (pc := 14) M.1 dX1_first_14 2 rfl ?_
    refine j_iload_n (pc := 15) M.1 dX1_first_15 3 rfl ?_
    refine j_iload (pc := 16) M.1 dX1_first_16 4 rfl ?_
    obtain ⟨r2, g2, hf⟩ := o_bind hf
    refine jm_calli (pc := 18) (As := [.int x1, .int x2, .int x3, .int x4]) (rest := []) M cm_327 (met_groundOf g2) rfl rfl rfl rfl dX1_first_18 ?_
    refine j_if_eq (pc := 21) M.1 31 dX1_first_21 rfl (fun c2 => ?_) (fun c2 => ?_)
    · replace hf := o_pos c2 hf
      refine j_iconst (pc := 31) M.1 dX1_first_31 kc_iconst_m1 ?_
      exact jm_iret (pc := 32) M dX1_first_32 hf
    · replace hf := o_neg c2 hf
      refine j_aload_n (pc := 24) M.1 dX1_first_24 0 rfl ?_
      refine jm_getS (pc := 25) M fm_311 dX1_first_25 ?_
      refine j_goto (pc := 28) M.1 32 dX1_first_28 rfl ?_
      exact jm_iret (pc := 32) M dX1_first_32 hf
end
theorem dX1_ground_0 : decode cX1_ground 0 = .ok (.aload_n 0, 1) := by decide +kernel
theorem dX1_ground_1 : decode cX1_ground 1 = .ok (.iload_n 1, 1) := by decide +kernel
theorem dX1_ground_2 : decode cX1_ground 2 = .ok (.iload_n 2, 1) := by decide +kernel
theorem dX1_ground_3 : decode cX1_ground 3 = .ok (.iload_n 3, 1) := by decide +kernel
theorem dX1_ground_4 : decode cX1_ground 4 = .ok (.iload 4, 2) := by decide +kernel
theorem dX1_ground_6 : decode cX1_ground 6 = .ok (.invokevirtual 323, 3) := by decide +kernel
theorem dX1_ground_9 : decode cX1_ground 9 = .ok (.ifCond .eq 15, 3) := by decide +kernel
theorem dX1_ground_12 : decode cX1_ground 12 = .ok (.aload_n 0, 1) := by decide +kernel
theorem dX1_ground_13 : decode cX1_ground 13 = .ok (.iload_n 1, 1) := by decide +kernel
theorem dX1_ground_14 : decode cX1_ground 14 = .ok (.iload_n 2, 1) := by decide +kernel
theorem dX1_ground_15 : decode cX1_ground 15 = .ok (.iload_n 3, 1) := by decide +kernel
theorem dX1_ground_16 : decode cX1_ground 16 = .ok (.iload 4, 2) := by decide +kernel
theorem dX1_ground_18 : decode cX1_ground 18 = .ok (.invokevirtual 327, 3) := by decide +kernel
theorem dX1_ground_21 : decode cX1_ground 21 = .ok (.goto 4, 3) := by decide +kernel
theorem dX1_ground_24 : decode cX1_ground 24 = .ok (.iconst (-1), 1) := by decide +kernel
theorem dX1_ground_25 : decode cX1_ground 25 = .ok (.ireturn, 1) := by decide +kernel
section
variable {res : Int32 × MS}
noncomputable def m_ground (F : Nat) (x1 x2 x3 x4 : Int32) (σ : MS) : Option (Int32 × MS) :=
  (m_isGround F x1 x2 x3 x4 σ).bind (fun r1 => if r1.1 = 0 then (some ((-1), r1.2)) else ((m_groundOf F x1 x2 x3 x4 r1.2).bind (fun r2 => some (r2.1, r2.2))))
theorem met_ground {l : Launch} {G : gG} {o F : Nat} {x1 x2 x3 x4 : Int32} {σ : MS} {res : Int32 × MS} (hf : m_ground F x1 x2 x3 x4 σ = some res) : MetMi l G yX1_ground cX1_ground 5 (some .int) 5 o [.int x1, .int x2, .int x3, .int x4] σ res := by
  refine metMi_of (by decide) rfl rfl (fun γ hγ M => ?_)
  subst hγ
  show J γ (MW G o σ) 0 0 0 [(0, .ref o), (1, .int x1), (2, .int x2), (3, .int x3), (4, .int x4)] []
  unfold m_ground at hf
  refine j_aload_n (pc := 0) M.1 dX1_ground_0 0 rfl ?_
  refine j_iload_n (pc := 1) M.1 dX1_ground_1 1 rfl ?_
  refine j_iload_n (pc := 2) M.1 dX1_ground_2 2 rfl ?_
  refine j_iload_n (pc := 3) M.1 dX1_ground_3 3 rfl ?_
  refine j_iload (pc := 4) M.1 dX1_ground_4 4 rfl ?_
  obtain ⟨r1, g1, hf⟩ := o_bind hf
  refine jm_calli (pc := 6) (As := [.int x1, .int x2, .int x3, .int x4]) (rest := []) M cm_323 (met_isGround g1) rfl rfl rfl rfl dX1_ground_6 ?_
  refine j_if_eq (pc := 9) M.1 24 dX1_ground_9 rfl (fun c1 => ?_) (fun c1 => ?_)
  · replace hf := o_pos c1 hf
    refine j_iconst (pc := 24) M.1 dX1_ground_24 kc_iconst_m1 ?_
    exact jm_iret (pc := 25) M dX1_ground_25 hf
  · replace hf := o_neg c1 hf
    refine j_aload_n (pc := 12) M.1 dX1_ground_12 0 rfl ?_
    refine j_iload_n (pc := 13) M.1 dX1_ground_13 1 rfl ?_
    refine j_iload_n (pc := 14) M.1 dX1_ground_14 2 rfl ?_
    refine j_iload_n (pc := 15) M.1 dX1_ground_15 3 rfl ?_
    refine j_iload (pc := 16) M.1 dX1_ground_16 4 rfl ?_
    obtain ⟨r2, g2, hf⟩ := o_bind hf
    refine jm_calli (pc := 18) (As := [.int x1, .int x2, .int x3, .int x4]) (rest := []) M cm_327 (met_groundOf g2) rfl rfl rfl rfl dX1_ground_18 ?_
    refine j_goto (pc := 21) M.1 25 dX1_ground_21 rfl ?_
    exact jm_iret (pc := 25) M dX1_ground_25 hf
end
theorem dX1_isMeant_0 : decode cX1_isMeant 0 = .ok (.aload_n 0, 1) := by decide +kernel
theorem dX1_isMeant_1 : decode cX1_isMeant 1 = .ok (.getfield 145, 3) := by decide +kernel
theorem dX1_isMeant_4 : decode cX1_isMeant 4 = .ok (.iload_n 1, 1) := by decide +kernel
theorem dX1_isMeant_5 : decode cX1_isMeant 5 = .ok (.iaload, 1) := by decide +kernel
theorem dX1_isMeant_6 : decode cX1_isMeant 6 = .ok (.ifCond .ne 5, 3) := by decide +kernel
theorem dX1_isMeant_9 : decode cX1_isMeant 9 = .ok (.iconst 1, 1) := by decide +kernel
theorem dX1_isMeant_10 : decode cX1_isMeant 10 = .ok (.ireturn, 1) := by decide +kernel
theorem dX1_isMeant_11 : decode cX1_isMeant 11 = .ok (.aload_n 0, 1) := by decide +kernel
theorem dX1_isMeant_12 : decode cX1_isMeant 12 = .ok (.iload_n 3, 1) := by decide +kernel
theorem dX1_isMeant_13 : decode cX1_isMeant 13 = .ok (.aload_n 0, 1) := by decide +kernel
theorem dX1_isMeant_14 : decode cX1_isMeant 14 = .ok (.getfield 132, 3) := by decide +kernel
theorem dX1_isMeant_17 : decode cX1_isMeant 17 = .ok (.iconst (-1), 1) := by decide +kernel
theorem dX1_isMeant_18 : decode cX1_isMeant 18 = .ok (.if_icmp .ne 12, 3) := by decide +kernel
theorem dX1_isMeant_21 : decode cX1_isMeant 21 = .ok (.aload_n 0, 1) := by decide +kernel
theorem dX1_isMeant_22 : decode cX1_isMeant 22 = .ok (.getfield 136, 3) := by decide +kernel
theorem dX1_isMeant_25 : decode cX1_isMeant 25 = .ok (.iload_n 1, 1) := by decide +kernel
theorem dX1_isMeant_26 : decode cX1_isMeant 26 = .ok (.iaload, 1) := by decide +kernel
theorem dX1_isMeant_27 : decode cX1_isMeant 27 = .ok (.goto 7, 3) := by decide +kernel
theorem dX1_isMeant_30 : decode cX1_isMeant 30 = .ok (.aload_n 0, 1) := by decide +kernel
theorem dX1_isMeant_31 : decode cX1_isMeant 31 = .ok (.getfield 132, 3) := by decide +kernel
theorem dX1_isMeant_34 : decode cX1_isMeant 34 = .ok (.aload_n 0, 1) := by decide +kernel
theorem dX1_isMeant_35 : decode cX1_isMeant 35 = .ok (.getfield 154, 3) := by decide +kernel
theorem dX1_isMeant_38 : decode cX1_isMeant 38 = .ok (.iload_n 1, 1) := by decide +kernel
theorem dX1_isMeant_39 : decode cX1_isMeant 39 = .ok (.iaload, 1) := by decide +kernel
theorem dX1_isMeant_40 : decode cX1_isMeant 40 = .ok (.aload_n 0, 1) := by decide +kernel
theorem dX1_isMeant_41 : decode cX1_isMeant 41 = .ok (.getfield 157, 3) := by decide +kernel
theorem dX1_isMeant_44 : decode cX1_isMeant 44 = .ok (.iload_n 1, 1) := by decide +kernel
theorem dX1_isMeant_45 : decode cX1_isMeant 45 = .ok (.iaload, 1) := by decide +kernel
theorem dX1_isMeant_46 : decode cX1_isMeant 46 = .ok (.iload_n 2, 1) := by decide +kernel
theorem dX1_isMeant_47 : decode cX1_isMeant 47 = .ok (.invokevirtual 459, 3) := by decide +kernel
theorem dX1_isMeant_50 : decode cX1_isMeant 50 = .ok (.aload_n 0, 1) := by decide +kernel
theorem dX1_isMeant_51 : decode cX1_isMeant 51 = .ok (.invokevirtual 467, 3) := by decide +kernel
theorem dX1_isMeant_54 : decode cX1_isMeant 54 = .ok (.istore 4, 2) := by decide +kernel
theorem dX1_isMeant_56 : decode cX1_isMeant 56 = .ok (.iconst 0, 1) := by decide +kernel
theorem dX1_isMeant_57 : decode cX1_isMeant 57 = .ok (.istore 5, 2) := by decide +kernel
theorem dX1_isMeant_59 : decode cX1_isMeant 59 = .ok (.iload 5, 2) := by decide +kernel
theorem dX1_isMeant_61 : decode cX1_isMeant 61 = .ok (.iconst 4, 1) := by decide +kernel
theorem dX1_isMeant_62 : decode cX1_isMeant 62 = .ok (.if_icmp .ge 39, 3) := by decide +kernel
theorem dX1_isMeant_65 : decode cX1_isMeant 65 = .ok (.iload 4, 2) := by decide +kernel
theorem dX1_isMeant_67 : decode cX1_isMeant 67 = .ok (.iload 5, 2) := by decide +kernel
theorem dX1_isMeant_69 : decode cX1_isMeant 69 = .ok (.ishr, 1) := by decide +kernel
theorem dX1_isMeant_70 : decode cX1_isMeant 70 = .ok (.iconst 1, 1) := by decide +kernel
theorem dX1_isMeant_71 : decode cX1_isMeant 71 = .ok (.iand, 1) := by decide +kernel
theorem dX1_isMeant_72 : decode cX1_isMeant 72 = .ok (.iconst 1, 1) := by decide +kernel
theorem dX1_isMeant_73 : decode cX1_isMeant 73 = .ok (.if_icmp .ne 22, 3) := by decide +kernel
theorem dX1_isMeant_76 : decode cX1_isMeant 76 = .ok (.aload_n 0, 1) := by decide +kernel
theorem dX1_isMeant_77 : decode cX1_isMeant 77 = .ok (.iload 5, 2) := by decide +kernel
theorem dX1_isMeant_79 : decode cX1_isMeant 79 = .ok (.aload_n 0, 1) := by decide +kernel
theorem dX1_isMeant_80 : decode cX1_isMeant 80 = .ok (.getfield 145, 3) := by decide +kernel
theorem dX1_isMeant_83 : decode cX1_isMeant 83 = .ok (.iload_n 1, 1) := by decide +kernel
theorem dX1_isMeant_84 : decode cX1_isMeant 84 = .ok (.iaload, 1) := by decide +kernel
theorem dX1_isMeant_85 : decode cX1_isMeant 85 = .ok (.iload_n 3, 1) := by decide +kernel
theorem dX1_isMeant_86 : decode cX1_isMeant 86 = .ok (.invokevirtual 337, 3) := by decide +kernel
theorem dX1_isMeant_89 : decode cX1_isMeant 89 = .ok (.iload_n 2, 1) := by decide +kernel
theorem dX1_isMeant_90 : decode cX1_isMeant 90 = .ok (.if_icmp .ne 5, 3) := by decide +kernel
theorem dX1_isMeant_93 : decode cX1_isMeant 93 = .ok (.iconst 1, 1) := by decide +kernel
theorem dX1_isMeant_94 : decode cX1_isMeant 94 = .ok (.ireturn, 1) := by decide +kernel
theorem dX1_isMeant_95 : decode cX1_isMeant 95 = .ok (.iinc 5 1, 3) := by decide +kernel
theorem dX1_isMeant_98 : decode cX1_isMeant 98 = .ok (.goto (-39), 3) := by decide +kernel
theorem dX1_isMeant_101 : decode cX1_isMeant 101 = .ok (.iconst 0, 1) := by decide +kernel
theorem dX1_isMeant_102 : decode cX1_isMeant 102 = .ok (.ireturn, 1) := by decide +kernel
section
variable {res : Int32 × MS}
noncomputable def m_isMeant_B59 (F : Nat) (x1 x2 x3 x4 : Int32) (R : Int32 × MS → Option (Int32 × MS)) (a : Int32 × MS) : Option (Int32 × MS) :=
  if 4 ≤ a.1 then (some (0, a.2)) else (if ((x4 >>> (a.1 &&& 31)) &&& 1) = 1 then (if okI x1 150 = true then (m_meaningOf F a.1 (a.2.2 43 x1.toNatClampNeg) x3 a.2).bind (fun r1 => if r1.1 = x2 then (some (1, r1.2)) else (R (a.1 + 1, r1.2))) else none) else (R (a.1 + 1, a.2)))
theorem km_isMeant_B59 (M : MC γ cX1_isMeant 6 G o 5 (some .boolean) (mQi G o res)) (x1 x2 x3 x4 : Int32) : ∀ R : Int32 × MS → Option (Int32 × MS), (∀ a, R a = some res → J γ (MW G o a.2) 0 0 59 [(0, .ref o), (1, .int x1), (2, .int x2), (3, .int x3), (4, .int x4), (5, .int a.1)] []) → ∀ a, m_isMeant_B59 F x1 x2 x3 x4 R a = some res → J γ (MW G o a.2) 0 0 59 [(0, .ref o), (1, .int x1), (2, .int x2), (3, .int x3), (4, .int x4), (5, .int a.1)] [] := by
  intro R hR a hf
  unfold m_isMeant_B59 at hf
  refine j_iload (pc := 59) M.1 dX1_isMeant_59 5 rfl ?_
  refine j_iconst (pc := 61) M.1 dX1_isMeant_61 kc_iconst_4 ?_
  refine j_icmp_ge (pc := 62) M.1 101 dX1_isMeant_62 rfl (fun c1 => ?_) (fun c1 => ?_)
  · replace hf := o_pos c1 hf
    refine j_iconst (pc := 101) M.1 dX1_isMeant_101 kc_iconst_0 ?_
    exact jm_zret (pc := 102) M dX1_isMeant_102 rfl hf
  · replace hf := o_neg c1 hf
    refine j_iload (pc := 65) M.1 dX1_isMeant_65 4 rfl ?_
    refine j_iload (pc := 67) M.1 dX1_isMeant_67 5 rfl ?_
    refine j_ishr (pc := 69) M.1 dX1_isMeant_69 ?_
    refine j_iconst (pc := 70) M.1 dX1_isMeant_70 kc_iconst_1 ?_
    refine j_iand (pc := 71) M.1 dX1_isMeant_71 ?_
    refine j_iconst (pc := 72) M.1 dX1_isMeant_72 kc_iconst_1 ?_
    refine j_icmp_ne (pc := 73) M.1 95 dX1_isMeant_73 rfl (fun c2 => ?_) (fun c2 => ?_)
    · replace hf := o_neg c2 hf
      refine j_iinc (pc := 95) M.1 [(5, .int (a.1 + 1)), (0, .ref o), (1, .int x1), (2, .int x2), (3, .int x3), (4, .int x4)] dX1_isMeant_95 5 rfl (congrArg _ kc_iconst_1) rfl rfl ?_
      refine j_goto (pc := 98) M.1 59 dX1_isMeant_98 rfl ?_
      refine j_sub [1, 2, 3, 4, 5, 0] (show lv_pick _ _ = [(0, .ref o), (1, .int x1), (2, .int x2), (3, .int x3), (4, .int x4), (5, .int (a.1 + 1))] from rfl) ?_
      have hy := hR _ hf
      exact hy
    · replace hf := o_pos c2 hf
      refine j_aload_n (pc := 76) M.1 dX1_isMeant_76 0 rfl ?_
      refine j_iload (pc := 77) M.1 dX1_isMeant_77 5 rfl ?_
      refine j_aload_n (pc := 79) M.1 dX1_isMeant_79 0 rfl ?_
      refine jm_getA (pc := 80) M fa_145 dX1_isMeant_80 ?_
      refine j_iload_n (pc := 83) M.1 dX1_isMeant_83 1 rfl ?_
      obtain ⟨b1, hf⟩ := o_need hf
      refine jm_iald (pc := 84) M ax_43 b1 dX1_isMeant_84 ?_
      refine j_iload_n (pc := 85) M.1 dX1_isMeant_85 3 rfl ?_
      obtain ⟨r1, g1, hf⟩ := o_bind hf
      refine jm_calli (pc := 86) (As := [.int a.1, .int (a.2.2 43 x1.toNatClampNeg), .int x3]) (rest := []) M cm_337 (met_meaningOf g1) rfl rfl rfl rfl dX1_isMeant_86 ?_
      refine j_iload_n (pc := 89) M.1 dX1_isMeant_89 2 rfl ?_
      refine j_icmp_ne (pc := 90) M.1 95 dX1_isMeant_90 rfl (fun c3 => ?_) (fun c3 => ?_)
      · replace hf := o_neg c3 hf
        refine j_iinc (pc := 95) M.1 [(5, .int (a.1 + 1)), (0, .ref o), (1, .int x1), (2, .int x2), (3, .int x3), (4, .int x4)] dX1_isMeant_95 5 rfl (congrArg _ kc_iconst_1) rfl rfl ?_
        refine j_goto (pc := 98) M.1 59 dX1_isMeant_98 rfl ?_
        refine j_sub [1, 2, 3, 4, 5, 0] (show lv_pick _ _ = [(0, .ref o), (1, .int x1), (2, .int x2), (3, .int x3), (4, .int x4), (5, .int (a.1 + 1))] from rfl) ?_
        have hy := hR _ hf
        exact hy
      · replace hf := o_pos c3 hf
        refine j_iconst (pc := 93) M.1 dX1_isMeant_93 kc_iconst_1 ?_
        exact jm_zret (pc := 94) M dX1_isMeant_94 rfl hf
noncomputable def m_isMeant_34 (F : Nat) (x1 x2 x3 s0 s1 : Int32) (σ : MS) : Option (Int32 × MS) :=
  if okI x1 150 = true then if okI x1 150 = true then (m_setsFacts F s1 s0 (σ.2 46 x1.toNatClampNeg) (σ.2 47 x1.toNatClampNeg) x2 σ).bind (fun r1 => (m_numberings F r1.2).bind (fun r2 => lp (m_isMeant_B59 F x1 x2 x3 r2.1) F (0, r2.2))) else none else none
theorem km_isMeant_34 (M : MC γ cX1_isMeant 6 G o 5 (some .boolean) (mQi G o res)) (x1 x2 x3 s0 s1 : Int32) (σ : MS) (hf : m_isMeant_34 F x1 x2 x3 s0 s1 σ = some res) : J γ (MW G o σ) 0 0 34 [(0, .ref o), (1, .int x1), (2, .int x2), (3, .int x3)] [.int s0, .int s1, .ref o] := by
  unfold m_isMeant_34 at hf
  refine j_aload_n (pc := 34) M.1 dX1_isMeant_34 0 rfl ?_
  refine jm_getA (pc := 35) M fa_154 dX1_isMeant_35 ?_
  refine j_iload_n (pc := 38) M.1 dX1_isMeant_38 1 rfl ?_
  obtain ⟨b1, hf⟩ := o_need hf
  refine jm_iald (pc := 39) M ax_46 b1 dX1_isMeant_39 ?_
  refine j_aload_n (pc := 40) M.1 dX1_isMeant_40 0 rfl ?_
  refine jm_getA (pc := 41) M fa_157 dX1_isMeant_41 ?_
  refine j_iload_n (pc := 44) M.1 dX1_isMeant_44 1 rfl ?_
  obtain ⟨b2, hf⟩ := o_need hf
  refine jm_iald (pc := 45) M ax_47 b2 dX1_isMeant_45 ?_
  refine j_iload_n (pc := 46) M.1 dX1_isMeant_46 2 rfl ?_
  obtain ⟨r1, g1, hf⟩ := o_bind hf
  refine jm_callv (pc := 47) (As := [.int s1, .int s0, .int (σ.2 46 x1.toNatClampNeg), .int (σ.2 47 x1.toNatClampNeg), .int x2]) (rest := []) M cm_459 (met_setsFacts g1) rfl rfl rfl rfl dX1_isMeant_47 ?_
  refine j_aload_n (pc := 50) M.1 dX1_isMeant_50 0 rfl ?_
  obtain ⟨r2, g2, hf⟩ := o_bind hf
  refine jm_calli (pc := 51) (As := []) (rest := []) M cm_467 (met_numberings g2) rfl rfl rfl rfl dX1_isMeant_51 ?_
  refine j_istore (pc := 54) M.1 [(4, .int r2.1), (0, .ref o), (1, .int x1), (2, .int x2), (3, .int x3)] dX1_isMeant_54 rfl rfl ?_
  refine j_iconst (pc := 56) M.1 dX1_isMeant_56 kc_iconst_0 ?_
  refine j_istore (pc := 57) M.1 [(5, .int 0), (4, .int r2.1), (0, .ref o), (1, .int x1), (2, .int x2), (3, .int x3)] dX1_isMeant_57 rfl rfl ?_
  refine j_sub [2, 3, 4, 5, 1, 0] (show lv_pick _ _ = [(0, .ref o), (1, .int x1), (2, .int x2), (3, .int x3), (4, .int r2.1), (5, .int 0)] from rfl) ?_
  refine lp_W (km_isMeant_B59 M x1 x2 x3 r2.1) F (0, r2.2) hf
noncomputable def m_isMeant (F : Nat) (x1 x2 x3 : Int32) (σ : MS) : Option (Int32 × MS) :=
  if okI x1 150 = true then if (σ.2 43 x1.toNatClampNeg) = 0 then (some (1, σ)) else (if (σ.1 58) = ((-1)) then (if okI x1 150 = true then m_isMeant_34 F x1 x2 x3 (σ.2 40 x1.toNatClampNeg) x3 σ else none) else (m_isMeant_34 F x1 x2 x3 (σ.1 58) x3 σ)) else none
theorem met_isMeant {l : Launch} {G : gG} {o F : Nat} {x1 x2 x3 : Int32} {σ : MS} {res : Int32 × MS} (hf : m_isMeant F x1 x2 x3 σ = some res) : MetMi l G yX1_isMeant cX1_isMeant 6 (some .boolean) 5 o [.int x1, .int x2, .int x3] σ res := by
  refine metMi_of (by decide) rfl rfl (fun γ hγ M => ?_)
  subst hγ
  show J γ (MW G o σ) 0 0 0 [(0, .ref o), (1, .int x1), (2, .int x2), (3, .int x3)] []
  unfold m_isMeant at hf
  refine j_aload_n (pc := 0) M.1 dX1_isMeant_0 0 rfl ?_
  refine jm_getA (pc := 1) M fa_145 dX1_isMeant_1 ?_
  refine j_iload_n (pc := 4) M.1 dX1_isMeant_4 1 rfl ?_
  obtain ⟨b1, hf⟩ := o_need hf
  refine jm_iald (pc := 5) M ax_43 b1 dX1_isMeant_5 ?_
  refine j_if_ne (pc := 6) M.1 11 dX1_isMeant_6 rfl (fun c1 => ?_) (fun c1 => ?_)
  · replace hf := o_neg c1 hf
    refine j_aload_n (pc := 11) M.1 dX1_isMeant_11 0 rfl ?_
    refine j_iload_n (pc := 12) M.1 dX1_isMeant_12 3 rfl ?_
    refine j_aload_n (pc := 13) M.1 dX1_isMeant_13 0 rfl ?_
    refine jm_getS (pc := 14) M fm_132 dX1_isMeant_14 ?_
    refine j_iconst (pc := 17) M.1 dX1_isMeant_17 kc_iconst_m1 ?_
    refine j_icmp_ne (pc := 18) M.1 30 dX1_isMeant_18 rfl (fun c2 => ?_) (fun c2 => ?_)
    · replace hf := o_neg c2 hf
      refine j_aload_n (pc := 30) M.1 dX1_isMeant_30 0 rfl ?_
      refine jm_getS (pc := 31) M fm_132 dX1_isMeant_31 ?_
      exact km_isMeant_34 M x1 x2 x3 (σ.1 58) x3 σ hf
    · replace hf := o_pos c2 hf
      refine j_aload_n (pc := 21) M.1 dX1_isMeant_21 0 rfl ?_
      refine jm_getA (pc := 22) M fa_136 dX1_isMeant_22 ?_
      refine j_iload_n (pc := 25) M.1 dX1_isMeant_25 1 rfl ?_
      obtain ⟨b2, hf⟩ := o_need hf
      refine jm_iald (pc := 26) M ax_40 b2 dX1_isMeant_26 ?_
      refine j_goto (pc := 27) M.1 34 dX1_isMeant_27 rfl ?_
      exact km_isMeant_34 M x1 x2 x3 (σ.2 40 x1.toNatClampNeg) x3 σ hf
  · replace hf := o_pos c1 hf
    refine j_iconst (pc := 9) M.1 dX1_isMeant_9 kc_iconst_1 ?_
    exact jm_zret (pc := 10) M dX1_isMeant_10 rfl hf
end
theorem dX1_number_0 : decode cX1_number 0 = .ok (.iload_n 1, 1) := by decide +kernel
theorem dX1_number_1 : decode cX1_number 1 = .ok (.iconst 0, 1) := by decide +kernel
theorem dX1_number_2 : decode cX1_number 2 = .ok (.iconst 3, 1) := by decide +kernel
theorem dX1_number_3 : decode cX1_number 3 = .ok (.invokestatic 278, 3) := by decide +kernel
theorem dX1_number_6 : decode cX1_number 6 = .ok (.ifCond .eq 58, 3) := by decide +kernel
theorem dX1_number_9 : decode cX1_number 9 = .ok (.iload_n 2, 1) := by decide +kernel
theorem dX1_number_10 : decode cX1_number 10 = .ok (.invokestatic 320, 3) := by decide +kernel
theorem dX1_number_13 : decode cX1_number 13 = .ok (.ifCond .eq 51, 3) := by decide +kernel
theorem dX1_number_16 : decode cX1_number 16 = .ok (.iload_n 3, 1) := by decide +kernel
theorem dX1_number_17 : decode cX1_number 17 = .ok (.iconst 0, 1) := by decide +kernel
theorem dX1_number_18 : decode cX1_number 18 = .ok (.bipush 7, 2) := by decide +kernel
theorem dX1_number_20 : decode cX1_number 20 = .ok (.invokestatic 278, 3) := by decide +kernel
theorem dX1_number_23 : decode cX1_number 23 = .ok (.ifCond .eq 41, 3) := by decide +kernel
theorem dX1_number_26 : decode cX1_number 26 = .ok (.iload 4, 2) := by decide +kernel
theorem dX1_number_28 : decode cX1_number 28 = .ok (.iconst 0, 1) := by decide +kernel
theorem dX1_number_29 : decode cX1_number 29 = .ok (.bipush 7, 2) := by decide +kernel
theorem dX1_number_31 : decode cX1_number 31 = .ok (.invokestatic 278, 3) := by decide +kernel
theorem dX1_number_34 : decode cX1_number 34 = .ok (.ifCond .eq 30, 3) := by decide +kernel
theorem dX1_number_37 : decode cX1_number 37 = .ok (.iload 5, 2) := by decide +kernel
theorem dX1_number_39 : decode cX1_number 39 = .ok (.iconst 0, 1) := by decide +kernel
theorem dX1_number_40 : decode cX1_number 40 = .ok (.sipush 255, 3) := by decide +kernel
theorem dX1_number_43 : decode cX1_number 43 = .ok (.invokestatic 278, 3) := by decide +kernel
theorem dX1_number_46 : decode cX1_number 46 = .ok (.ifCond .eq 18, 3) := by decide +kernel
theorem dX1_number_49 : decode cX1_number 49 = .ok (.iload 6, 2) := by decide +kernel
theorem dX1_number_51 : decode cX1_number 51 = .ok (.iconst (-1), 1) := by decide +kernel
theorem dX1_number_52 : decode cX1_number 52 = .ok (.if_icmp .eq 14, 3) := by decide +kernel
theorem dX1_number_55 : decode cX1_number 55 = .ok (.aload_n 0, 1) := by decide +kernel
theorem dX1_number_56 : decode cX1_number 56 = .ok (.iload 6, 2) := by decide +kernel
theorem dX1_number_58 : decode cX1_number 58 = .ok (.invokevirtual 331, 3) := by decide +kernel
theorem dX1_number_61 : decode cX1_number 61 = .ok (.ifCond .ne 5, 3) := by decide +kernel
theorem dX1_number_64 : decode cX1_number 64 = .ok (.iconst (-1), 1) := by decide +kernel
theorem dX1_number_65 : decode cX1_number 65 = .ok (.ireturn, 1) := by decide +kernel
theorem dX1_number_66 : decode cX1_number 66 = .ok (.aload_n 0, 1) := by decide +kernel
theorem dX1_number_67 : decode cX1_number 67 = .ok (.iload_n 2, 1) := by decide +kernel
theorem dX1_number_68 : decode cX1_number 68 = .ok (.iload_n 3, 1) := by decide +kernel
theorem dX1_number_69 : decode cX1_number 69 = .ok (.iload 4, 2) := by decide +kernel
theorem dX1_number_71 : decode cX1_number 71 = .ok (.iload 5, 2) := by decide +kernel
theorem dX1_number_73 : decode cX1_number 73 = .ok (.iload 6, 2) := by decide +kernel
theorem dX1_number_75 : decode cX1_number 75 = .ok (.invokevirtual 459, 3) := by decide +kernel
theorem dX1_number_78 : decode cX1_number 78 = .ok (.iload_n 1, 1) := by decide +kernel
theorem dX1_number_79 : decode cX1_number 79 = .ok (.ifCond .ne 14, 3) := by decide +kernel
theorem dX1_number_82 : decode cX1_number 82 = .ok (.aload_n 0, 1) := by decide +kernel
theorem dX1_number_83 : decode cX1_number 83 = .ok (.bipush 97, 2) := by decide +kernel
theorem dX1_number_85 : decode cX1_number 85 = .ok (.bipush 8, 2) := by decide +kernel
theorem dX1_number_87 : decode cX1_number 87 = .ok (.invokevirtual 463, 3) := by decide +kernel
theorem dX1_number_90 : decode cX1_number 90 = .ok (.goto 38, 3) := by decide +kernel
theorem dX1_number_93 : decode cX1_number 93 = .ok (.iload_n 1, 1) := by decide +kernel
theorem dX1_number_94 : decode cX1_number 94 = .ok (.iconst 1, 1) := by decide +kernel
theorem dX1_number_95 : decode cX1_number 95 = .ok (.if_icmp .ne 13, 3) := by decide +kernel
theorem dX1_number_98 : decode cX1_number 98 = .ok (.aload_n 0, 1) := by decide +kernel
theorem dX1_number_99 : decode cX1_number 99 = .ok (.bipush 118, 2) := by decide +kernel
theorem dX1_number_101 : decode cX1_number 101 = .ok (.iconst 0, 1) := by decide +kernel
theorem dX1_number_102 : decode cX1_number 102 = .ok (.invokevirtual 463, 3) := by decide +kernel
theorem dX1_number_105 : decode cX1_number 105 = .ok (.goto 23, 3) := by decide +kernel
theorem dX1_number_108 : decode cX1_number 108 = .ok (.iload_n 1, 1) := by decide +kernel
theorem dX1_number_109 : decode cX1_number 109 = .ok (.iconst 2, 1) := by decide +kernel
theorem dX1_number_110 : decode cX1_number 110 = .ok (.if_icmp .ne 14, 3) := by decide +kernel
theorem dX1_number_113 : decode cX1_number 113 = .ok (.aload_n 0, 1) := by decide +kernel
theorem dX1_number_114 : decode cX1_number 114 = .ok (.bipush 102, 2) := by decide +kernel
theorem dX1_number_116 : decode cX1_number 116 = .ok (.bipush 7, 2) := by decide +kernel
theorem dX1_number_118 : decode cX1_number 118 = .ok (.invokevirtual 463, 3) := by decide +kernel
theorem dX1_number_121 : decode cX1_number 121 = .ok (.goto 7, 3) := by decide +kernel
theorem dX1_number_124 : decode cX1_number 124 = .ok (.aload_n 0, 1) := by decide +kernel
theorem dX1_number_125 : decode cX1_number 125 = .ok (.invokevirtual 467, 3) := by decide +kernel
theorem dX1_number_128 : decode cX1_number 128 = .ok (.ireturn, 1) := by decide +kernel
section
variable {res : Int32 × MS}
noncomputable def m_number_66 (F : Nat) (x1 x2 x3 x4 x5 x6 : Int32) (σ : MS) : Option (Int32 × MS) :=
  (m_setsFacts F x2 x3 x4 x5 x6 σ).bind (fun r1 => if x1 = 0 then ((m_numberBy F 97 8 r1.2).bind (fun r5 => some (r5.1, r5.2))) else (if x1 = 1 then ((m_numberBy F 118 0 r1.2).bind (fun r4 => some (r4.1, r4.2))) else (if x1 = 2 then ((m_numberBy F 102 7 r1.2).bind (fun r3 => some (r3.1, r3.2))) else ((m_numberings F r1.2).bind (fun r2 => some (r2.1, r2.2))))))
theorem km_number_66 (M : MC γ cX1_number 7 G o 5 (some .int) (mQi G o res)) (x1 x2 x3 x4 x5 x6 : Int32) (σ : MS) (hf : m_number_66 F x1 x2 x3 x4 x5 x6 σ = some res) : J γ (MW G o σ) 0 0 66 [(0, .ref o), (1, .int x1), (2, .int x2), (3, .int x3), (4, .int x4), (5, .int x5), (6, .int x6)] [] := by
  unfold m_number_66 at hf
  refine j_aload_n (pc := 66) M.1 dX1_number_66 0 rfl ?_
  refine j_iload_n (pc := 67) M.1 dX1_number_67 2 rfl ?_
  refine j_iload_n (pc := 68) M.1 dX1_number_68 3 rfl ?_
  refine j_iload (pc := 69) M.1 dX1_number_69 4 rfl ?_
  refine j_iload (pc := 71) M.1 dX1_number_71 5 rfl ?_
  refine j_iload (pc := 73) M.1 dX1_number_73 6 rfl ?_
  obtain ⟨r1, g1, hf⟩ := o_bind hf
  refine jm_callv (pc := 75) (As := [.int x2, .int x3, .int x4, .int x5, .int x6]) (rest := []) M cm_459 (met_setsFacts g1) rfl rfl rfl rfl dX1_number_75 ?_
  refine j_iload_n (pc := 78) M.1 dX1_number_78 1 rfl ?_
  refine j_if_ne (pc := 79) M.1 93 dX1_number_79 rfl (fun c1 => ?_) (fun c1 => ?_)
  · replace hf := o_neg c1 hf
    refine j_iload_n (pc := 93) M.1 dX1_number_93 1 rfl ?_
    refine j_iconst (pc := 94) M.1 dX1_number_94 kc_iconst_1 ?_
    refine j_icmp_ne (pc := 95) M.1 108 dX1_number_95 rfl (fun c2 => ?_) (fun c2 => ?_)
    · replace hf := o_neg c2 hf
      refine j_iload_n (pc := 108) M.1 dX1_number_108 1 rfl ?_
      refine j_iconst (pc := 109) M.1 dX1_number_109 kc_iconst_2 ?_
      refine j_icmp_ne (pc := 110) M.1 124 dX1_number_110 rfl (fun c3 => ?_) (fun c3 => ?_)
      · replace hf := o_neg c3 hf
        refine j_aload_n (pc := 124) M.1 dX1_number_124 0 rfl ?_
        obtain ⟨r2, g2, hf⟩ := o_bind hf
        refine jm_calli (pc := 125) (As := []) (rest := []) M cm_467 (met_numberings g2) rfl rfl rfl rfl dX1_number_125 ?_
        exact jm_iret (pc := 128) M dX1_number_128 hf
      · replace hf := o_pos c3 hf
        refine j_aload_n (pc := 113) M.1 dX1_number_113 0 rfl ?_
        refine j_bipush (pc := 114) M.1 dX1_number_114 kc_bipush_102 ?_
        refine j_bipush (pc := 116) M.1 dX1_number_116 kc_bipush_7 ?_
        obtain ⟨r3, g3, hf⟩ := o_bind hf
        refine jm_calli (pc := 118) (As := [.int 102, .int 7]) (rest := []) M cm_463 (met_numberBy g3) rfl rfl rfl rfl dX1_number_118 ?_
        refine j_goto (pc := 121) M.1 128 dX1_number_121 rfl ?_
        exact jm_iret (pc := 128) M dX1_number_128 hf
    · replace hf := o_pos c2 hf
      refine j_aload_n (pc := 98) M.1 dX1_number_98 0 rfl ?_
      refine j_bipush (pc := 99) M.1 dX1_number_99 kc_bipush_118 ?_
      refine j_iconst (pc := 101) M.1 dX1_number_101 kc_iconst_0 ?_
      obtain ⟨r4, g4, hf⟩ := o_bind hf
      refine jm_calli (pc := 102) (As := [.int 118, .int 0]) (rest := []) M cm_463 (met_numberBy g4) rfl rfl rfl rfl dX1_number_102 ?_
      refine j_goto (pc := 105) M.1 128 dX1_number_105 rfl ?_
      exact jm_iret (pc := 128) M dX1_number_128 hf
  · replace hf := o_pos c1 hf
    refine j_aload_n (pc := 82) M.1 dX1_number_82 0 rfl ?_
    refine j_bipush (pc := 83) M.1 dX1_number_83 kc_bipush_97 ?_
    refine j_bipush (pc := 85) M.1 dX1_number_85 kc_bipush_8 ?_
    obtain ⟨r5, g5, hf⟩ := o_bind hf
    refine jm_calli (pc := 87) (As := [.int 97, .int 8]) (rest := []) M cm_463 (met_numberBy g5) rfl rfl rfl rfl dX1_number_87 ?_
    refine j_goto (pc := 90) M.1 128 dX1_number_90 rfl ?_
    exact jm_iret (pc := 128) M dX1_number_128 hf
noncomputable def m_number (F : Nat) (x1 x2 x3 x4 x5 x6 : Int32) (σ : MS) : Option (Int32 × MS) :=
  (m_in F x1 0 3).bind (fun r1 => if r1 = 0 then (some ((-1), σ)) else ((m_isWeek F x2).bind (fun r2 => if r2 = 0 then (some ((-1), σ)) else ((m_in F x3 0 7).bind (fun r3 => if r3 = 0 then (some ((-1), σ)) else ((m_in F x4 0 7).bind (fun r4 => if r4 = 0 then (some ((-1), σ)) else ((m_in F x5 0 255).bind (fun r5 => if r5 = 0 then (some ((-1), σ)) else (if x6 = ((-1)) then (m_number_66 F x1 x2 x3 x4 x5 x6 σ) else ((m_isPlace F x6 σ).bind (fun r6 => if r6.1 = 0 then (some ((-1), r6.2)) else (m_number_66 F x1 x2 x3 x4 x5 x6 r6.2)))))))))))))
theorem met_number {l : Launch} {G : gG} {o F : Nat} {x1 x2 x3 x4 x5 x6 : Int32} {σ : MS} {res : Int32 × MS} (hf : m_number F x1 x2 x3 x4 x5 x6 σ = some res) : MetMi l G yX1_number cX1_number 7 (some .int) 5 o [.int x1, .int x2, .int x3, .int x4, .int x5, .int x6] σ res := by
  refine metMi_of (by decide) rfl rfl (fun γ hγ M => ?_)
  subst hγ
  show J γ (MW G o σ) 0 0 0 [(0, .ref o), (1, .int x1), (2, .int x2), (3, .int x3), (4, .int x4), (5, .int x5), (6, .int x6)] []
  unfold m_number at hf
  refine j_iload_n (pc := 0) M.1 dX1_number_0 1 rfl ?_
  refine j_iconst (pc := 1) M.1 dX1_number_1 kc_iconst_0 ?_
  refine j_iconst (pc := 2) M.1 dX1_number_2 kc_iconst_3 ?_
  obtain ⟨r1, g1, hf⟩ := o_bind hf
  refine jm_calls (pc := 3) (As := [.int x1, .int 0, .int 3]) (rest := []) M cs_X1_278 (met_in g1) rfl rfl rfl rfl dX1_number_3 ?_
  refine j_if_eq (pc := 6) M.1 64 dX1_number_6 rfl (fun c1 => ?_) (fun c1 => ?_)
  · replace hf := o_pos c1 hf
    refine j_iconst (pc := 64) M.1 dX1_number_64 kc_iconst_m1 ?_
    exact jm_iret (pc := 65) M dX1_number_65 hf
  · replace hf := o_neg c1 hf
    refine j_iload_n (pc := 9) M.1 dX1_number_9 2 rfl ?_
    obtain ⟨r2, g2, hf⟩ := o_bind hf
    refine jm_calls (pc := 10) (As := [.int x2]) (rest := []) M cs_X1_320 (met_isWeek g2) rfl rfl rfl rfl dX1_number_10 ?_
    refine j_if_eq (pc := 13) M.1 64 dX1_number_13 rfl (fun c2 => ?_) (fun c2 => ?_)
    · replace hf := o_pos c2 hf
      refine j_iconst (pc := 64) M.1 dX1_number_64 kc_iconst_m1 ?_
      exact jm_iret (pc := 65) M dX1_number_65 hf
    · replace hf := o_neg c2 hf
      refine j_iload_n (pc := 16) M.1 dX1_number_16 3 rfl ?_
      refine j_iconst (pc := 17) M.1 dX1_number_17 kc_iconst_0 ?_
      refine j_bipush (pc := 18) M.1 dX1_number_18 kc_bipush_7 ?_
      obtain ⟨r3, g3, hf⟩ := o_bind hf
      refine jm_calls (pc := 20) (As := [.int x3, .int 0, .int 7]) (rest := []) M cs_X1_278 (met_in g3) rfl rfl rfl rfl dX1_number_20 ?_
      refine j_if_eq (pc := 23) M.1 64 dX1_number_23 rfl (fun c3 => ?_) (fun c3 => ?_)
      · replace hf := o_pos c3 hf
        refine j_iconst (pc := 64) M.1 dX1_number_64 kc_iconst_m1 ?_
        exact jm_iret (pc := 65) M dX1_number_65 hf
      · replace hf := o_neg c3 hf
        refine j_iload (pc := 26) M.1 dX1_number_26 4 rfl ?_
        refine j_iconst (pc := 28) M.1 dX1_number_28 kc_iconst_0 ?_
        refine j_bipush (pc := 29) M.1 dX1_number_29 kc_bipush_7 ?_
        obtain ⟨r4, g4, hf⟩ := o_bind hf
        refine jm_calls (pc := 31) (As := [.int x4, .int 0, .int 7]) (rest := []) M cs_X1_278 (met_in g4) rfl rfl rfl rfl dX1_number_31 ?_
        refine j_if_eq (pc := 34) M.1 64 dX1_number_34 rfl (fun c4 => ?_) (fun c4 => ?_)
        · replace hf := o_pos c4 hf
          refine j_iconst (pc := 64) M.1 dX1_number_64 kc_iconst_m1 ?_
          exact jm_iret (pc := 65) M dX1_number_65 hf
        · replace hf := o_neg c4 hf
          refine j_iload (pc := 37) M.1 dX1_number_37 5 rfl ?_
          refine j_iconst (pc := 39) M.1 dX1_number_39 kc_iconst_0 ?_
          refine j_sipush (pc := 40) M.1 dX1_number_40 kc_sipush_255 ?_
          obtain ⟨r5, g5, hf⟩ := o_bind hf
          refine jm_calls (pc := 43) (As := [.int x5, .int 0, .int 255]) (rest := []) M cs_X1_278 (met_in g5) rfl rfl rfl rfl dX1_number_43 ?_
          refine j_if_eq (pc := 46) M.1 64 dX1_number_46 rfl (fun c5 => ?_) (fun c5 => ?_)
          · replace hf := o_pos c5 hf
            refine j_iconst (pc := 64) M.1 dX1_number_64 kc_iconst_m1 ?_
            exact jm_iret (pc := 65) M dX1_number_65 hf
          · replace hf := o_neg c5 hf
            refine j_iload (pc := 49) M.1 dX1_number_49 6 rfl ?_
            refine j_iconst (pc := 51) M.1 dX1_number_51 kc_iconst_m1 ?_
            refine j_icmp_eq (pc := 52) M.1 66 dX1_number_52 rfl (fun c6 => ?_) (fun c6 => ?_)
            · replace hf := o_pos c6 hf
              exact km_number_66 M x1 x2 x3 x4 x5 x6 σ hf
            · replace hf := o_neg c6 hf
              refine j_aload_n (pc := 55) M.1 dX1_number_55 0 rfl ?_
              refine j_iload (pc := 56) M.1 dX1_number_56 6 rfl ?_
              obtain ⟨r6, g6, hf⟩ := o_bind hf
              refine jm_calli (pc := 58) (As := [.int x6]) (rest := []) M cm_331 (met_isPlace g6) rfl rfl rfl rfl dX1_number_58 ?_
              refine j_if_ne (pc := 61) M.1 66 dX1_number_61 rfl (fun c7 => ?_) (fun c7 => ?_)
              · replace hf := o_neg c7 hf
                exact km_number_66 M x1 x2 x3 x4 x5 x6 r6.2 hf
              · replace hf := o_pos c7 hf
                refine j_iconst (pc := 64) M.1 dX1_number_64 kc_iconst_m1 ?_
                exact jm_iret (pc := 65) M dX1_number_65 hf
end
theorem dX1_readsSum_0 : decode cX1_readsSum 0 = .ok (.aload_n 0, 1) := by decide +kernel
theorem dX1_readsSum_1 : decode cX1_readsSum 1 = .ok (.getfield 378, 3) := by decide +kernel
theorem dX1_readsSum_4 : decode cX1_readsSum 4 = .ok (.istore_n 1, 1) := by decide +kernel
theorem dX1_readsSum_5 : decode cX1_readsSum 5 = .ok (.aload_n 0, 1) := by decide +kernel
theorem dX1_readsSum_6 : decode cX1_readsSum 6 = .ok (.invokevirtual 398, 3) := by decide +kernel
theorem dX1_readsSum_9 : decode cX1_readsSum 9 = .ok (.ifCond .ne 5, 3) := by decide +kernel
theorem dX1_readsSum_12 : decode cX1_readsSum 12 = .ok (.iconst 0, 1) := by decide +kernel
theorem dX1_readsSum_13 : decode cX1_readsSum 13 = .ok (.ireturn, 1) := by decide +kernel
theorem dX1_readsSum_14 : decode cX1_readsSum 14 = .ok (.aload_n 0, 1) := by decide +kernel
theorem dX1_readsSum_15 : decode cX1_readsSum 15 = .ok (.invokevirtual 354, 3) := by decide +kernel
theorem dX1_readsSum_18 : decode cX1_readsSum 18 = .ok (.invokestatic 401, 3) := by decide +kernel
theorem dX1_readsSum_21 : decode cX1_readsSum 21 = .ok (.istore_n 2, 1) := by decide +kernel
theorem dX1_readsSum_22 : decode cX1_readsSum 22 = .ok (.iload_n 2, 1) := by decide +kernel
theorem dX1_readsSum_23 : decode cX1_readsSum 23 = .ok (.iconst (-1), 1) := by decide +kernel
theorem dX1_readsSum_24 : decode cX1_readsSum 24 = .ok (.if_icmp .eq 60, 3) := by decide +kernel
theorem dX1_readsSum_27 : decode cX1_readsSum 27 = .ok (.aload_n 0, 1) := by decide +kernel
theorem dX1_readsSum_28 : decode cX1_readsSum 28 = .ok (.iload_n 2, 1) := by decide +kernel
theorem dX1_readsSum_29 : decode cX1_readsSum 29 = .ok (.iconst 4, 1) := by decide +kernel
theorem dX1_readsSum_30 : decode cX1_readsSum 30 = .ok (.if_icmp .ge 7, 3) := by decide +kernel
theorem dX1_readsSum_33 : decode cX1_readsSum 33 = .ok (.iconst 1, 1) := by decide +kernel
theorem dX1_readsSum_34 : decode cX1_readsSum 34 = .ok (.goto 4, 3) := by decide +kernel
theorem dX1_readsSum_37 : decode cX1_readsSum 37 = .ok (.iconst 0, 1) := by decide +kernel
theorem dX1_readsSum_38 : decode cX1_readsSum 38 = .ok (.invokevirtual 404, 3) := by decide +kernel
theorem dX1_readsSum_41 : decode cX1_readsSum 41 = .ok (.aload_n 0, 1) := by decide +kernel
theorem dX1_readsSum_42 : decode cX1_readsSum 42 = .ok (.getfield 77, 3) := by decide +kernel
theorem dX1_readsSum_45 : decode cX1_readsSum 45 = .ok (.aload_n 0, 1) := by decide +kernel
theorem dX1_readsSum_46 : decode cX1_readsSum 46 = .ok (.getfield 378, 3) := by decide +kernel
theorem dX1_readsSum_49 : decode cX1_readsSum 49 = .ok (.ldc_w 374, 3) := by decide +kernel
theorem dX1_readsSum_52 : decode cX1_readsSum 52 = .ok (.iload_n 2, 1) := by decide +kernel
theorem dX1_readsSum_53 : decode cX1_readsSum 53 = .ok (.imul, 1) := by decide +kernel
theorem dX1_readsSum_54 : decode cX1_readsSum 54 = .ok (.iastore, 1) := by decide +kernel
theorem dX1_readsSum_55 : decode cX1_readsSum 55 = .ok (.aload_n 0, 1) := by decide +kernel
theorem dX1_readsSum_56 : decode cX1_readsSum 56 = .ok (.aload_n 0, 1) := by decide +kernel
theorem dX1_readsSum_57 : decode cX1_readsSum 57 = .ok (.getfield 378, 3) := by decide +kernel
theorem dX1_readsSum_60 : decode cX1_readsSum 60 = .ok (.iconst 1, 1) := by decide +kernel
theorem dX1_readsSum_61 : decode cX1_readsSum 61 = .ok (.iadd, 1) := by decide +kernel
theorem dX1_readsSum_62 : decode cX1_readsSum 62 = .ok (.putfield 378, 3) := by decide +kernel
theorem dX1_readsSum_65 : decode cX1_readsSum 65 = .ok (.aload_n 0, 1) := by decide +kernel
theorem dX1_readsSum_66 : decode cX1_readsSum 66 = .ok (.aload_n 0, 1) := by decide +kernel
theorem dX1_readsSum_67 : decode cX1_readsSum 67 = .ok (.getfield 348, 3) := by decide +kernel
theorem dX1_readsSum_70 : decode cX1_readsSum 70 = .ok (.iconst 1, 1) := by decide +kernel
theorem dX1_readsSum_71 : decode cX1_readsSum 71 = .ok (.iadd, 1) := by decide +kernel
theorem dX1_readsSum_72 : decode cX1_readsSum 72 = .ok (.putfield 348, 3) := by decide +kernel
theorem dX1_readsSum_75 : decode cX1_readsSum 75 = .ok (.aload_n 0, 1) := by decide +kernel
theorem dX1_readsSum_76 : decode cX1_readsSum 76 = .ok (.invokevirtual 398, 3) := by decide +kernel
theorem dX1_readsSum_79 : decode cX1_readsSum 79 = .ok (.ifCond .ne 85, 3) := by decide +kernel
theorem dX1_readsSum_82 : decode cX1_readsSum 82 = .ok (.iconst 0, 1) := by decide +kernel
theorem dX1_readsSum_83 : decode cX1_readsSum 83 = .ok (.ireturn, 1) := by decide +kernel
theorem dX1_readsSum_84 : decode cX1_readsSum 84 = .ok (.aload_n 0, 1) := by decide +kernel
theorem dX1_readsSum_85 : decode cX1_readsSum 85 = .ok (.invokevirtual 354, 3) := by decide +kernel
theorem dX1_readsSum_88 : decode cX1_readsSum 88 = .ok (.bipush 93, 2) := by decide +kernel
theorem dX1_readsSum_90 : decode cX1_readsSum 90 = .ok (.if_icmp .ne 49, 3) := by decide +kernel
theorem dX1_readsSum_93 : decode cX1_readsSum 93 = .ok (.aload_n 0, 1) := by decide +kernel
theorem dX1_readsSum_94 : decode cX1_readsSum 94 = .ok (.iload_n 1, 1) := by decide +kernel
theorem dX1_readsSum_95 : decode cX1_readsSum 95 = .ok (.invokevirtual 408, 3) := by decide +kernel
theorem dX1_readsSum_98 : decode cX1_readsSum 98 = .ok (.ifCond .eq 41, 3) := by decide +kernel
theorem dX1_readsSum_101 : decode cX1_readsSum 101 = .ok (.aload_n 0, 1) := by decide +kernel
theorem dX1_readsSum_102 : decode cX1_readsSum 102 = .ok (.iconst 1, 1) := by decide +kernel
theorem dX1_readsSum_103 : decode cX1_readsSum 103 = .ok (.invokevirtual 404, 3) := by decide +kernel
theorem dX1_readsSum_106 : decode cX1_readsSum 106 = .ok (.aload_n 0, 1) := by decide +kernel
theorem dX1_readsSum_107 : decode cX1_readsSum 107 = .ok (.aload_n 0, 1) := by decide +kernel
theorem dX1_readsSum_108 : decode cX1_readsSum 108 = .ok (.getfield 378, 3) := by decide +kernel
theorem dX1_readsSum_111 : decode cX1_readsSum 111 = .ok (.iconst 1, 1) := by decide +kernel
theorem dX1_readsSum_112 : decode cX1_readsSum 112 = .ok (.isub, 1) := by decide +kernel
theorem dX1_readsSum_113 : decode cX1_readsSum 113 = .ok (.putfield 378, 3) := by decide +kernel
theorem dX1_readsSum_116 : decode cX1_readsSum 116 = .ok (.aload_n 0, 1) := by decide +kernel
theorem dX1_readsSum_117 : decode cX1_readsSum 117 = .ok (.aload_n 0, 1) := by decide +kernel
theorem dX1_readsSum_118 : decode cX1_readsSum 118 = .ok (.getfield 375, 3) := by decide +kernel
theorem dX1_readsSum_121 : decode cX1_readsSum 121 = .ok (.iconst 1, 1) := by decide +kernel
theorem dX1_readsSum_122 : decode cX1_readsSum 122 = .ok (.isub, 1) := by decide +kernel
theorem dX1_readsSum_123 : decode cX1_readsSum 123 = .ok (.putfield 375, 3) := by decide +kernel
theorem dX1_readsSum_126 : decode cX1_readsSum 126 = .ok (.aload_n 0, 1) := by decide +kernel
theorem dX1_readsSum_127 : decode cX1_readsSum 127 = .ok (.aload_n 0, 1) := by decide +kernel
theorem dX1_readsSum_128 : decode cX1_readsSum 128 = .ok (.getfield 348, 3) := by decide +kernel
theorem dX1_readsSum_131 : decode cX1_readsSum 131 = .ok (.iconst 1, 1) := by decide +kernel
theorem dX1_readsSum_132 : decode cX1_readsSum 132 = .ok (.iadd, 1) := by decide +kernel
theorem dX1_readsSum_133 : decode cX1_readsSum 133 = .ok (.putfield 348, 3) := by decide +kernel
theorem dX1_readsSum_136 : decode cX1_readsSum 136 = .ok (.goto 28, 3) := by decide +kernel
theorem dX1_readsSum_139 : decode cX1_readsSum 139 = .ok (.aload_n 0, 1) := by decide +kernel
theorem dX1_readsSum_140 : decode cX1_readsSum 140 = .ok (.iload_n 1, 1) := by decide +kernel
theorem dX1_readsSum_141 : decode cX1_readsSum 141 = .ok (.invokevirtual 408, 3) := by decide +kernel
theorem dX1_readsSum_144 : decode cX1_readsSum 144 = .ok (.ifCond .eq 13, 3) := by decide +kernel
theorem dX1_readsSum_147 : decode cX1_readsSum 147 = .ok (.aload_n 0, 1) := by decide +kernel
theorem dX1_readsSum_148 : decode cX1_readsSum 148 = .ok (.iconst 1, 1) := by decide +kernel
theorem dX1_readsSum_149 : decode cX1_readsSum 149 = .ok (.aload_n 0, 1) := by decide +kernel
theorem dX1_readsSum_150 : decode cX1_readsSum 150 = .ok (.getfield 348, 3) := by decide +kernel
theorem dX1_readsSum_153 : decode cX1_readsSum 153 = .ok (.invokevirtual 361, 3) := by decide +kernel
theorem dX1_readsSum_156 : decode cX1_readsSum 156 = .ok (.ireturn, 1) := by decide +kernel
theorem dX1_readsSum_157 : decode cX1_readsSum 157 = .ok (.aload_n 0, 1) := by decide +kernel
theorem dX1_readsSum_158 : decode cX1_readsSum 158 = .ok (.iconst 1, 1) := by decide +kernel
theorem dX1_readsSum_159 : decode cX1_readsSum 159 = .ok (.invokevirtual 404, 3) := by decide +kernel
theorem dX1_readsSum_162 : decode cX1_readsSum 162 = .ok (.iconst 1, 1) := by decide +kernel
theorem dX1_readsSum_163 : decode cX1_readsSum 163 = .ok (.ireturn, 1) := by decide +kernel
theorem dX1_readsSum_164 : decode cX1_readsSum 164 = .ok (.goto (-150), 3) := by decide +kernel
section
variable {res : Int32 × MS}
noncomputable def m_readsSum_38 (F : Nat) (K139 : MS → Option (Int32 × MS)) (R : MS → Option (Int32 × MS)) (x1 x2 s0 : Int32) (σ : MS) : Option (Int32 × MS) :=
  (m_closesSums F s0 σ).bind (fun r1 => if okI (r1.2.1 35) 180 = true then nx (sA r1.2 22 (r1.2.1 35).toNatClampNeg (1048576 * x2)) (fun σ1 => nx (sS σ1 35 ((σ1.1 35) + 1)) (fun σ2 => nx (sS σ2 29 ((σ2.1 29) + 1)) (fun σ3 => (m_readsFactor F σ3).bind (fun r2 => if r2.1 = 0 then (some (0, r2.2)) else (R r2.2))))) else none)
theorem km_readsSum_38 (M : MC γ cX1_readsSum 3 G o 5 (some .boolean) (mQi G o res)) (x1 x2 s0 : Int32) (K139 : MS → Option (Int32 × MS)) (hK139 : ∀ a, K139 a = some res → J γ (MW G o a) 0 0 139 [(0, .ref o), (1, .int x1)] []) (R : MS → Option (Int32 × MS)) (hR : ∀ a, R a = some res → J γ (MW G o a) 0 0 14 [(0, .ref o), (1, .int x1)] []) (σ : MS) (hf : m_readsSum_38 F K139 R x1 x2 s0 σ = some res) : J γ (MW G o σ) 0 0 38 [(0, .ref o), (1, .int x1), (2, .int x2)] [.int s0, .ref o] := by
  unfold m_readsSum_38 at hf
  obtain ⟨r1, g1, hf⟩ := o_bind hf
  refine jm_callv (pc := 38) (As := [.int s0]) (rest := []) M cm_404 (met_closesSums g1) rfl rfl rfl rfl dX1_readsSum_38 ?_
  refine j_aload_n (pc := 41) M.1 dX1_readsSum_41 0 rfl ?_
  refine jm_getA (pc := 42) M fa_77 dX1_readsSum_42 ?_
  refine j_aload_n (pc := 45) M.1 dX1_readsSum_45 0 rfl ?_
  refine jm_getS (pc := 46) M fm_378 dX1_readsSum_46 ?_
  refine j_ldcw (pc := 49) M.1 q1824 dX1_readsSum_49 ?_
  refine j_iload_n (pc := 52) M.1 dX1_readsSum_52 2 rfl ?_
  refine j_imul (pc := 53) M.1 dX1_readsSum_53 ?_
  obtain ⟨b1, hf⟩ := o_need hf
  obtain ⟨σ1, e1, hf⟩ := o_nx hf
  refine jm_iast (pc := 54) M ax_22 b1 dX1_readsSum_54 e1 ?_
  refine j_aload_n (pc := 55) M.1 dX1_readsSum_55 0 rfl ?_
  refine j_aload_n (pc := 56) M.1 dX1_readsSum_56 0 rfl ?_
  refine jm_getS (pc := 57) M fm_378 dX1_readsSum_57 ?_
  refine j_iconst (pc := 60) M.1 dX1_readsSum_60 kc_iconst_1 ?_
  refine j_iadd (pc := 61) M.1 dX1_readsSum_61 ?_
  obtain ⟨σ2, e2, hf⟩ := o_nx hf
  refine jm_put (pc := 62) M fm_378 dX1_readsSum_62 e2 ?_
  refine j_aload_n (pc := 65) M.1 dX1_readsSum_65 0 rfl ?_
  refine j_aload_n (pc := 66) M.1 dX1_readsSum_66 0 rfl ?_
  refine jm_getS (pc := 67) M fm_348 dX1_readsSum_67 ?_
  refine j_iconst (pc := 70) M.1 dX1_readsSum_70 kc_iconst_1 ?_
  refine j_iadd (pc := 71) M.1 dX1_readsSum_71 ?_
  obtain ⟨σ3, e3, hf⟩ := o_nx hf
  refine jm_put (pc := 72) M fm_348 dX1_readsSum_72 e3 ?_
  refine j_aload_n (pc := 75) M.1 dX1_readsSum_75 0 rfl ?_
  obtain ⟨r2, g2, hf⟩ := o_bind hf
  refine jm_calli (pc := 76) (As := []) (rest := []) M cm_398 (met_readsFactor g2) rfl rfl rfl rfl dX1_readsSum_76 ?_
  refine j_if_ne (pc := 79) M.1 164 dX1_readsSum_79 rfl (fun c1 => ?_) (fun c1 => ?_)
  · replace hf := o_neg c1 hf
    refine j_goto (pc := 164) M.1 14 dX1_readsSum_164 rfl ?_
    refine j_sub [0, 1] (show lv_pick _ _ = [(0, .ref o), (1, .int x1)] from rfl) ?_
    have hy := hR _ hf
    exact hy
  · replace hf := o_pos c1 hf
    refine j_iconst (pc := 82) M.1 dX1_readsSum_82 kc_iconst_0 ?_
    exact jm_zret (pc := 83) M dX1_readsSum_83 rfl hf
noncomputable def m_readsSum_B14 (F : Nat) (K139 : MS → Option (Int32 × MS)) (x1 : Int32) (R : MS → Option (Int32 × MS)) (a : MS) : Option (Int32 × MS) :=
  (m_byteHere F a).bind (fun r1 => (m_sumSign F r1.1).bind (fun r2 => if r2 = ((-1)) then ((m_byteHere F r1.2).bind (fun r3 => if r3.1 = 93 then ((m_hasOpenSum F x1 r3.2).bind (fun r4 => if r4.1 = 0 then (K139 r4.2) else ((m_closesSums F 1 r4.2).bind (fun r5 => nx (sS r5.2 35 ((r5.2.1 35) - 1)) (fun σ1 => nx (sS σ1 33 ((σ1.1 33) - 1)) (fun σ2 => nx (sS σ2 29 ((σ2.1 29) + 1)) (fun σ3 => R σ3))))))) else (K139 r3.2))) else (if 4 ≤ r2 then (m_readsSum_38 F K139 R x1 r2 0 r1.2) else (m_readsSum_38 F K139 R x1 r2 1 r1.2))))
theorem km_readsSum_B14 (M : MC γ cX1_readsSum 3 G o 5 (some .boolean) (mQi G o res)) (x1 : Int32) (K139 : MS → Option (Int32 × MS)) (hK139 : ∀ a, K139 a = some res → J γ (MW G o a) 0 0 139 [(0, .ref o), (1, .int x1)] []) : ∀ R : MS → Option (Int32 × MS), (∀ a, R a = some res → J γ (MW G o a) 0 0 14 [(0, .ref o), (1, .int x1)] []) → ∀ a, m_readsSum_B14 F K139 x1 R a = some res → J γ (MW G o a) 0 0 14 [(0, .ref o), (1, .int x1)] [] := by
  intro R hR a hf
  unfold m_readsSum_B14 at hf
  refine j_aload_n (pc := 14) M.1 dX1_readsSum_14 0 rfl ?_
  obtain ⟨r1, g1, hf⟩ := o_bind hf
  refine jm_calli (pc := 15) (As := []) (rest := []) M cm_354 (met_byteHere g1) rfl rfl rfl rfl dX1_readsSum_15 ?_
  obtain ⟨r2, g2, hf⟩ := o_bind hf
  refine jm_calls (pc := 18) (As := [.int r1.1]) (rest := []) M cs_X1_401 (met_sumSign g2) rfl rfl rfl rfl dX1_readsSum_18 ?_
  refine j_istore_n (pc := 21) M.1 [(2, .int r2), (0, .ref o), (1, .int x1)] dX1_readsSum_21 rfl rfl ?_
  refine j_iload_n (pc := 22) M.1 dX1_readsSum_22 0 rfl ?_
  refine j_iconst (pc := 23) M.1 dX1_readsSum_23 kc_iconst_m1 ?_
  refine j_icmp_eq (pc := 24) M.1 84 dX1_readsSum_24 rfl (fun c1 => ?_) (fun c1 => ?_)
  · replace hf := o_pos c1 hf
    refine j_aload_n (pc := 84) M.1 dX1_readsSum_84 1 rfl ?_
    obtain ⟨r3, g3, hf⟩ := o_bind hf
    refine jm_calli (pc := 85) (As := []) (rest := []) M cm_354 (met_byteHere g3) rfl rfl rfl rfl dX1_readsSum_85 ?_
    refine j_bipush (pc := 88) M.1 dX1_readsSum_88 kc_bipush_93 ?_
    refine j_icmp_ne (pc := 90) M.1 139 dX1_readsSum_90 rfl (fun c2 => ?_) (fun c2 => ?_)
    · replace hf := o_neg c2 hf
      refine j_sub [1, 2] (show lv_pick _ _ = [(0, .ref o), (1, .int x1)] from rfl) ?_
      have hy := hK139 _ hf
      exact hy
    · replace hf := o_pos c2 hf
      refine j_aload_n (pc := 93) M.1 dX1_readsSum_93 1 rfl ?_
      refine j_iload_n (pc := 94) M.1 dX1_readsSum_94 2 rfl ?_
      obtain ⟨r4, g4, hf⟩ := o_bind hf
      refine jm_calli (pc := 95) (As := [.int x1]) (rest := []) M cm_408 (met_hasOpenSum g4) rfl rfl rfl rfl dX1_readsSum_95 ?_
      refine j_if_eq (pc := 98) M.1 139 dX1_readsSum_98 rfl (fun c3 => ?_) (fun c3 => ?_)
      · replace hf := o_pos c3 hf
        refine j_sub [1, 2] (show lv_pick _ _ = [(0, .ref o), (1, .int x1)] from rfl) ?_
        have hy := hK139 _ hf
        exact hy
      · replace hf := o_neg c3 hf
        refine j_aload_n (pc := 101) M.1 dX1_readsSum_101 1 rfl ?_
        refine j_iconst (pc := 102) M.1 dX1_readsSum_102 kc_iconst_1 ?_
        obtain ⟨r5, g5, hf⟩ := o_bind hf
        refine jm_callv (pc := 103) (As := [.int 1]) (rest := []) M cm_404 (met_closesSums g5) rfl rfl rfl rfl dX1_readsSum_103 ?_
        refine j_aload_n (pc := 106) M.1 dX1_readsSum_106 1 rfl ?_
        refine j_aload_n (pc := 107) M.1 dX1_readsSum_107 1 rfl ?_
        refine jm_getS (pc := 108) M fm_378 dX1_readsSum_108 ?_
        refine j_iconst (pc := 111) M.1 dX1_readsSum_111 kc_iconst_1 ?_
        refine j_isub (pc := 112) M.1 dX1_readsSum_112 ?_
        obtain ⟨σ1, e1, hf⟩ := o_nx hf
        refine jm_put (pc := 113) M fm_378 dX1_readsSum_113 e1 ?_
        refine j_aload_n (pc := 116) M.1 dX1_readsSum_116 1 rfl ?_
        refine j_aload_n (pc := 117) M.1 dX1_readsSum_117 1 rfl ?_
        refine jm_getS (pc := 118) M fm_375 dX1_readsSum_118 ?_
        refine j_iconst (pc := 121) M.1 dX1_readsSum_121 kc_iconst_1 ?_
        refine j_isub (pc := 122) M.1 dX1_readsSum_122 ?_
        obtain ⟨σ2, e2, hf⟩ := o_nx hf
        refine jm_put (pc := 123) M fm_375 dX1_readsSum_123 e2 ?_
        refine j_aload_n (pc := 126) M.1 dX1_readsSum_126 1 rfl ?_
        refine j_aload_n (pc := 127) M.1 dX1_readsSum_127 1 rfl ?_
        refine jm_getS (pc := 128) M fm_348 dX1_readsSum_128 ?_
        refine j_iconst (pc := 131) M.1 dX1_readsSum_131 kc_iconst_1 ?_
        refine j_iadd (pc := 132) M.1 dX1_readsSum_132 ?_
        obtain ⟨σ3, e3, hf⟩ := o_nx hf
        refine jm_put (pc := 133) M fm_348 dX1_readsSum_133 e3 ?_
        refine j_goto (pc := 136) M.1 164 dX1_readsSum_136 rfl ?_
        refine j_goto (pc := 164) M.1 14 dX1_readsSum_164 rfl ?_
        refine j_sub [1, 2] (show lv_pick _ _ = [(0, .ref o), (1, .int x1)] from rfl) ?_
        have hy := hR _ hf
        exact hy
  · replace hf := o_neg c1 hf
    refine j_aload_n (pc := 27) M.1 dX1_readsSum_27 1 rfl ?_
    refine j_iload_n (pc := 28) M.1 dX1_readsSum_28 0 rfl ?_
    refine j_iconst (pc := 29) M.1 dX1_readsSum_29 kc_iconst_4 ?_
    refine j_icmp_ge (pc := 30) M.1 37 dX1_readsSum_30 rfl (fun c4 => ?_) (fun c4 => ?_)
    · replace hf := o_pos c4 hf
      refine j_iconst (pc := 37) M.1 dX1_readsSum_37 kc_iconst_0 ?_
      refine j_sub [1, 2, 0] (show lv_pick _ _ = [(0, .ref o), (1, .int x1), (2, .int r2)] from rfl) ?_
      exact km_readsSum_38 M x1 r2 0 K139 hK139 R hR r1.2 hf
    · replace hf := o_neg c4 hf
      refine j_iconst (pc := 33) M.1 dX1_readsSum_33 kc_iconst_1 ?_
      refine j_goto (pc := 34) M.1 38 dX1_readsSum_34 rfl ?_
      refine j_sub [1, 2, 0] (show lv_pick _ _ = [(0, .ref o), (1, .int x1), (2, .int r2)] from rfl) ?_
      exact km_readsSum_38 M x1 r2 1 K139 hK139 R hR r1.2 hf
noncomputable def m_readsSum_139 (F : Nat) (x1 : Int32) (σ : MS) : Option (Int32 × MS) :=
  (m_hasOpenSum F x1 σ).bind (fun r1 => if r1.1 = 0 then ((m_closesSums F 1 r1.2).bind (fun r2 => some (1, r2.2))) else ((m_wrong F 1 (r1.2.1 29) r1.2).bind (fun r3 => if okB r3.1 = true then some (r3.1, r3.2) else none)))
theorem km_readsSum_139 (M : MC γ cX1_readsSum 3 G o 5 (some .boolean) (mQi G o res)) (x1 : Int32) (σ : MS) (hf : m_readsSum_139 F x1 σ = some res) : J γ (MW G o σ) 0 0 139 [(0, .ref o), (1, .int x1)] [] := by
  unfold m_readsSum_139 at hf
  refine j_aload_n (pc := 139) M.1 dX1_readsSum_139 0 rfl ?_
  refine j_iload_n (pc := 140) M.1 dX1_readsSum_140 1 rfl ?_
  obtain ⟨r1, g1, hf⟩ := o_bind hf
  refine jm_calli (pc := 141) (As := [.int x1]) (rest := []) M cm_408 (met_hasOpenSum g1) rfl rfl rfl rfl dX1_readsSum_141 ?_
  refine j_if_eq (pc := 144) M.1 157 dX1_readsSum_144 rfl (fun c1 => ?_) (fun c1 => ?_)
  · replace hf := o_pos c1 hf
    refine j_aload_n (pc := 157) M.1 dX1_readsSum_157 0 rfl ?_
    refine j_iconst (pc := 158) M.1 dX1_readsSum_158 kc_iconst_1 ?_
    obtain ⟨r2, g2, hf⟩ := o_bind hf
    refine jm_callv (pc := 159) (As := [.int 1]) (rest := []) M cm_404 (met_closesSums g2) rfl rfl rfl rfl dX1_readsSum_159 ?_
    refine j_iconst (pc := 162) M.1 dX1_readsSum_162 kc_iconst_1 ?_
    exact jm_zret (pc := 163) M dX1_readsSum_163 rfl hf
  · replace hf := o_neg c1 hf
    refine j_aload_n (pc := 147) M.1 dX1_readsSum_147 0 rfl ?_
    refine j_iconst (pc := 148) M.1 dX1_readsSum_148 kc_iconst_1 ?_
    refine j_aload_n (pc := 149) M.1 dX1_readsSum_149 0 rfl ?_
    refine jm_getS (pc := 150) M fm_348 dX1_readsSum_150 ?_
    obtain ⟨r3, g3, hf⟩ := o_bind hf
    refine jm_calli (pc := 153) (As := [.int 1, .int (r1.2.1 29)]) (rest := []) M cm_361 (met_wrong g3) rfl rfl rfl rfl dX1_readsSum_153 ?_
    obtain ⟨b1, hf⟩ := o_need hf
    exact jm_zret (pc := 156) M dX1_readsSum_156 b1 hf
noncomputable def m_readsSum (F : Nat) (σ : MS) : Option (Int32 × MS) :=
  (m_readsFactor F σ).bind (fun r1 => if r1.1 = 0 then (some (0, r1.2)) else (lp (m_readsSum_B14 F (fun a1 => m_readsSum_139 F (σ.1 35) a1) (σ.1 35)) F r1.2))
theorem met_readsSum {l : Launch} {G : gG} {o F : Nat} {σ : MS} {res : Int32 × MS} (hf : m_readsSum F σ = some res) : MetMi l G yX1_readsSum cX1_readsSum 3 (some .boolean) 5 o [] σ res := by
  refine metMi_of (by decide) rfl rfl (fun γ hγ M => ?_)
  subst hγ
  show J γ (MW G o σ) 0 0 0 [(0, .ref o)] []
  unfold m_readsSum at hf
  refine j_aload_n (pc := 0) M.1 dX1_readsSum_0 0 rfl ?_
  refine jm_getS (pc := 1) M fm_378 dX1_readsSum_1 ?_
  refine j_istore_n (pc := 4) M.1 [(1, .int (σ.1 35)), (0, .ref o)] dX1_readsSum_4 rfl rfl ?_
  refine j_aload_n (pc := 5) M.1 dX1_readsSum_5 1 rfl ?_
  obtain ⟨r1, g1, hf⟩ := o_bind hf
  refine jm_calli (pc := 6) (As := []) (rest := []) M cm_398 (met_readsFactor g1) rfl rfl rfl rfl dX1_readsSum_6 ?_
  refine j_if_ne (pc := 9) M.1 14 dX1_readsSum_9 rfl (fun c1 => ?_) (fun c1 => ?_)
  · replace hf := o_neg c1 hf
    refine j_sub [1, 0] (show lv_pick _ _ = [(0, .ref o), (1, .int (σ.1 35))] from rfl) ?_
    refine lp_W (km_readsSum_B14 M (σ.1 35) _ ?_) F r1.2 hf
    · intro a1 hf
      exact km_readsSum_139 M (σ.1 35) a1 hf
  · replace hf := o_pos c1 hf
    refine j_iconst (pc := 12) M.1 dX1_readsSum_12 kc_iconst_0 ?_
    exact jm_zret (pc := 13) M dX1_readsSum_13 rfl hf
end
theorem dX1_who_0 : decode cX1_who 0 = .ok (.aload_n 0, 1) := by decide +kernel
theorem dX1_who_1 : decode cX1_who 1 = .ok (.iload_n 1, 1) := by decide +kernel
theorem dX1_who_2 : decode cX1_who 2 = .ok (.invokevirtual 331, 3) := by decide +kernel
theorem dX1_who_5 : decode cX1_who 5 = .ok (.ifCond .eq 12, 3) := by decide +kernel
theorem dX1_who_8 : decode cX1_who 8 = .ok (.iload_n 2, 1) := by decide +kernel
theorem dX1_who_9 : decode cX1_who 9 = .ok (.iconst 0, 1) := by decide +kernel
theorem dX1_who_10 : decode cX1_who 10 = .ok (.iconst 2, 1) := by decide +kernel
theorem dX1_who_11 : decode cX1_who 11 = .ok (.invokestatic 278, 3) := by decide +kernel
theorem dX1_who_14 : decode cX1_who 14 = .ok (.ifCond .ne 5, 3) := by decide +kernel
theorem dX1_who_17 : decode cX1_who 17 = .ok (.iconst (-1), 1) := by decide +kernel
theorem dX1_who_18 : decode cX1_who 18 = .ok (.ireturn, 1) := by decide +kernel
theorem dX1_who_19 : decode cX1_who 19 = .ok (.iconst 0, 1) := by decide +kernel
theorem dX1_who_20 : decode cX1_who 20 = .ok (.istore_n 3, 1) := by decide +kernel
theorem dX1_who_21 : decode cX1_who 21 = .ok (.iload_n 3, 1) := by decide +kernel
theorem dX1_who_22 : decode cX1_who 22 = .ok (.bipush 30, 2) := by decide +kernel
theorem dX1_who_24 : decode cX1_who 24 = .ok (.if_icmp .ge 23, 3) := by decide +kernel
theorem dX1_who_27 : decode cX1_who 27 = .ok (.aload_n 0, 1) := by decide +kernel
theorem dX1_who_28 : decode cX1_who 28 = .ok (.getfield 262, 3) := by decide +kernel
theorem dX1_who_31 : decode cX1_who 31 = .ok (.iload_n 3, 1) := by decide +kernel
theorem dX1_who_32 : decode cX1_who 32 = .ok (.iconst 0, 1) := by decide +kernel
theorem dX1_who_33 : decode cX1_who 33 = .ok (.iastore, 1) := by decide +kernel
theorem dX1_who_34 : decode cX1_who 34 = .ok (.aload_n 0, 1) := by decide +kernel
theorem dX1_who_35 : decode cX1_who 35 = .ok (.getfield 265, 3) := by decide +kernel
theorem dX1_who_38 : decode cX1_who 38 = .ok (.iload_n 3, 1) := by decide +kernel
theorem dX1_who_39 : decode cX1_who 39 = .ok (.iconst 0, 1) := by decide +kernel
theorem dX1_who_40 : decode cX1_who 40 = .ok (.iastore, 1) := by decide +kernel
theorem dX1_who_41 : decode cX1_who 41 = .ok (.iinc 3 1, 3) := by decide +kernel
theorem dX1_who_44 : decode cX1_who 44 = .ok (.goto (-23), 3) := by decide +kernel
theorem dX1_who_47 : decode cX1_who 47 = .ok (.iconst 0, 1) := by decide +kernel
theorem dX1_who_48 : decode cX1_who 48 = .ok (.istore_n 3, 1) := by decide +kernel
theorem dX1_who_49 : decode cX1_who 49 = .ok (.iload_n 3, 1) := by decide +kernel
theorem dX1_who_50 : decode cX1_who 50 = .ok (.aload_n 0, 1) := by decide +kernel
theorem dX1_who_51 : decode cX1_who 51 = .ok (.getfield 552, 3) := by decide +kernel
theorem dX1_who_54 : decode cX1_who 54 = .ok (.if_icmp .ge 95, 3) := by decide +kernel
theorem dX1_who_57 : decode cX1_who 57 = .ok (.aload_n 0, 1) := by decide +kernel
theorem dX1_who_58 : decode cX1_who 58 = .ok (.getfield 247, 3) := by decide +kernel
theorem dX1_who_61 : decode cX1_who 61 = .ok (.iload_n 3, 1) := by decide +kernel
theorem dX1_who_62 : decode cX1_who 62 = .ok (.iaload, 1) := by decide +kernel
theorem dX1_who_63 : decode cX1_who 63 = .ok (.iload_n 1, 1) := by decide +kernel
theorem dX1_who_64 : decode cX1_who 64 = .ok (.if_icmp .eq 6, 3) := by decide +kernel
theorem dX1_who_67 : decode cX1_who 67 = .ok (.goto 76, 3) := by decide +kernel
theorem dX1_who_70 : decode cX1_who 70 = .ok (.aload_n 0, 1) := by decide +kernel
theorem dX1_who_71 : decode cX1_who 71 = .ok (.aload_n 0, 1) := by decide +kernel
theorem dX1_who_72 : decode cX1_who 72 = .ok (.getfield 250, 3) := by decide +kernel
theorem dX1_who_75 : decode cX1_who 75 = .ok (.iload_n 3, 1) := by decide +kernel
theorem dX1_who_76 : decode cX1_who 76 = .ok (.iaload, 1) := by decide +kernel
theorem dX1_who_77 : decode cX1_who 77 = .ok (.iconst 0, 1) := by decide +kernel
theorem dX1_who_78 : decode cX1_who 78 = .ok (.aload_n 0, 1) := by decide +kernel
theorem dX1_who_79 : decode cX1_who 79 = .ok (.getfield 244, 3) := by decide +kernel
theorem dX1_who_82 : decode cX1_who 82 = .ok (.iload_n 3, 1) := by decide +kernel
theorem dX1_who_83 : decode cX1_who 83 = .ok (.iaload, 1) := by decide +kernel
theorem dX1_who_84 : decode cX1_who 84 = .ok (.iconst 0, 1) := by decide +kernel
theorem dX1_who_85 : decode cX1_who 85 = .ok (.iload_n 1, 1) := by decide +kernel
theorem dX1_who_86 : decode cX1_who 86 = .ok (.invokevirtual 459, 3) := by decide +kernel
theorem dX1_who_89 : decode cX1_who 89 = .ok (.aload_n 0, 1) := by decide +kernel
theorem dX1_who_90 : decode cX1_who 90 = .ok (.getfield 262, 3) := by decide +kernel
theorem dX1_who_93 : decode cX1_who 93 = .ok (.aload_n 0, 1) := by decide +kernel
theorem dX1_who_94 : decode cX1_who 94 = .ok (.getfield 241, 3) := by decide +kernel
theorem dX1_who_97 : decode cX1_who 97 = .ok (.iload_n 3, 1) := by decide +kernel
theorem dX1_who_98 : decode cX1_who 98 = .ok (.iaload, 1) := by decide +kernel
theorem dX1_who_99 : decode cX1_who 99 = .ok (.aload_n 0, 1) := by decide +kernel
theorem dX1_who_100 : decode cX1_who 100 = .ok (.getfield 262, 3) := by decide +kernel
theorem dX1_who_103 : decode cX1_who 103 = .ok (.aload_n 0, 1) := by decide +kernel
theorem dX1_who_104 : decode cX1_who 104 = .ok (.getfield 241, 3) := by decide +kernel
theorem dX1_who_107 : decode cX1_who 107 = .ok (.iload_n 3, 1) := by decide +kernel
theorem dX1_who_108 : decode cX1_who 108 = .ok (.iaload, 1) := by decide +kernel
theorem dX1_who_109 : decode cX1_who 109 = .ok (.iaload, 1) := by decide +kernel
theorem dX1_who_110 : decode cX1_who 110 = .ok (.iconst 1, 1) := by decide +kernel
theorem dX1_who_111 : decode cX1_who 111 = .ok (.iadd, 1) := by decide +kernel
theorem dX1_who_112 : decode cX1_who 112 = .ok (.iastore, 1) := by decide +kernel
theorem dX1_who_113 : decode cX1_who 113 = .ok (.aload_n 0, 1) := by decide +kernel
theorem dX1_who_114 : decode cX1_who 114 = .ok (.getfield 265, 3) := by decide +kernel
theorem dX1_who_117 : decode cX1_who 117 = .ok (.aload_n 0, 1) := by decide +kernel
theorem dX1_who_118 : decode cX1_who 118 = .ok (.getfield 241, 3) := by decide +kernel
theorem dX1_who_121 : decode cX1_who 121 = .ok (.iload_n 3, 1) := by decide +kernel
theorem dX1_who_122 : decode cX1_who 122 = .ok (.iaload, 1) := by decide +kernel
theorem dX1_who_123 : decode cX1_who 123 = .ok (.aload_n 0, 1) := by decide +kernel
theorem dX1_who_124 : decode cX1_who 124 = .ok (.getfield 265, 3) := by decide +kernel
theorem dX1_who_127 : decode cX1_who 127 = .ok (.aload_n 0, 1) := by decide +kernel
theorem dX1_who_128 : decode cX1_who 128 = .ok (.getfield 241, 3) := by decide +kernel
theorem dX1_who_131 : decode cX1_who 131 = .ok (.iload_n 3, 1) := by decide +kernel
theorem dX1_who_132 : decode cX1_who 132 = .ok (.iaload, 1) := by decide +kernel
theorem dX1_who_133 : decode cX1_who 133 = .ok (.iaload, 1) := by decide +kernel
theorem dX1_who_134 : decode cX1_who 134 = .ok (.aload_n 0, 1) := by decide +kernel
theorem dX1_who_135 : decode cX1_who 135 = .ok (.bipush 118, 2) := by decide +kernel
theorem dX1_who_137 : decode cX1_who 137 = .ok (.iconst 0, 1) := by decide +kernel
theorem dX1_who_138 : decode cX1_who 138 = .ok (.invokevirtual 463, 3) := by decide +kernel
theorem dX1_who_141 : decode cX1_who 141 = .ok (.iadd, 1) := by decide +kernel
theorem dX1_who_142 : decode cX1_who 142 = .ok (.iastore, 1) := by decide +kernel
theorem dX1_who_143 : decode cX1_who 143 = .ok (.iinc 3 1, 3) := by decide +kernel
theorem dX1_who_146 : decode cX1_who 146 = .ok (.goto (-97), 3) := by decide +kernel
theorem dX1_who_149 : decode cX1_who 149 = .ok (.iconst (-1), 1) := by decide +kernel
theorem dX1_who_150 : decode cX1_who 150 = .ok (.istore_n 3, 1) := by decide +kernel
theorem dX1_who_151 : decode cX1_who 151 = .ok (.iconst 0, 1) := by decide +kernel
theorem dX1_who_152 : decode cX1_who 152 = .ok (.istore 4, 2) := by decide +kernel
theorem dX1_who_154 : decode cX1_who 154 = .ok (.iconst 0, 1) := by decide +kernel
theorem dX1_who_155 : decode cX1_who 155 = .ok (.istore 5, 2) := by decide +kernel
theorem dX1_who_157 : decode cX1_who 157 = .ok (.iload 5, 2) := by decide +kernel
theorem dX1_who_159 : decode cX1_who 159 = .ok (.bipush 30, 2) := by decide +kernel
theorem dX1_who_161 : decode cX1_who 161 = .ok (.if_icmp .ge 47, 3) := by decide +kernel
theorem dX1_who_164 : decode cX1_who 164 = .ok (.aload_n 0, 1) := by decide +kernel
theorem dX1_who_165 : decode cX1_who 165 = .ok (.getfield 262, 3) := by decide +kernel
theorem dX1_who_168 : decode cX1_who 168 = .ok (.iload 5, 2) := by decide +kernel
theorem dX1_who_170 : decode cX1_who 170 = .ok (.iaload, 1) := by decide +kernel
theorem dX1_who_171 : decode cX1_who 171 = .ok (.iconst 2, 1) := by decide +kernel
theorem dX1_who_172 : decode cX1_who 172 = .ok (.if_icmp .lt 30, 3) := by decide +kernel
theorem dX1_who_175 : decode cX1_who 175 = .ok (.aload_n 0, 1) := by decide +kernel
theorem dX1_who_176 : decode cX1_who 176 = .ok (.getfield 265, 3) := by decide +kernel
theorem dX1_who_179 : decode cX1_who 179 = .ok (.iload 5, 2) := by decide +kernel
theorem dX1_who_181 : decode cX1_who 181 = .ok (.iaload, 1) := by decide +kernel
theorem dX1_who_182 : decode cX1_who 182 = .ok (.iload 4, 2) := by decide +kernel
theorem dX1_who_184 : decode cX1_who 184 = .ok (.if_icmp .gt 6, 3) := by decide +kernel
theorem dX1_who_187 : decode cX1_who 187 = .ok (.goto 15, 3) := by decide +kernel
theorem dX1_who_190 : decode cX1_who 190 = .ok (.iload 5, 2) := by decide +kernel
theorem dX1_who_192 : decode cX1_who 192 = .ok (.istore_n 3, 1) := by decide +kernel
theorem dX1_who_193 : decode cX1_who 193 = .ok (.aload_n 0, 1) := by decide +kernel
theorem dX1_who_194 : decode cX1_who 194 = .ok (.getfield 265, 3) := by decide +kernel
theorem dX1_who_197 : decode cX1_who 197 = .ok (.iload 5, 2) := by decide +kernel
theorem dX1_who_199 : decode cX1_who 199 = .ok (.iaload, 1) := by decide +kernel
theorem dX1_who_200 : decode cX1_who 200 = .ok (.istore 4, 2) := by decide +kernel
theorem dX1_who_202 : decode cX1_who 202 = .ok (.iinc 5 1, 3) := by decide +kernel
theorem dX1_who_205 : decode cX1_who 205 = .ok (.goto (-48), 3) := by decide +kernel
theorem dX1_who_208 : decode cX1_who 208 = .ok (.iload_n 3, 1) := by decide +kernel
theorem dX1_who_209 : decode cX1_who 209 = .ok (.iconst (-1), 1) := by decide +kernel
theorem dX1_who_210 : decode cX1_who 210 = .ok (.if_icmp .eq 7, 3) := by decide +kernel
theorem dX1_who_213 : decode cX1_who 213 = .ok (.iload_n 2, 1) := by decide +kernel
theorem dX1_who_214 : decode cX1_who 214 = .ok (.ifCond .ne 5, 3) := by decide +kernel
theorem dX1_who_217 : decode cX1_who 217 = .ok (.iload_n 3, 1) := by decide +kernel
theorem dX1_who_218 : decode cX1_who 218 = .ok (.ireturn, 1) := by decide +kernel
theorem dX1_who_219 : decode cX1_who 219 = .ok (.iload_n 2, 1) := by decide +kernel
theorem dX1_who_220 : decode cX1_who 220 = .ok (.iconst 1, 1) := by decide +kernel
theorem dX1_who_221 : decode cX1_who 221 = .ok (.if_icmp .ne 6, 3) := by decide +kernel
theorem dX1_who_224 : decode cX1_who 224 = .ok (.iload 4, 2) := by decide +kernel
theorem dX1_who_226 : decode cX1_who 226 = .ok (.ireturn, 1) := by decide +kernel
theorem dX1_who_227 : decode cX1_who 227 = .ok (.iconst 0, 1) := by decide +kernel
theorem dX1_who_228 : decode cX1_who 228 = .ok (.istore 5, 2) := by decide +kernel
theorem dX1_who_230 : decode cX1_who 230 = .ok (.iconst 0, 1) := by decide +kernel
theorem dX1_who_231 : decode cX1_who 231 = .ok (.istore 6, 2) := by decide +kernel
theorem dX1_who_233 : decode cX1_who 233 = .ok (.iload 6, 2) := by decide +kernel
theorem dX1_who_235 : decode cX1_who 235 = .ok (.bipush 30, 2) := by decide +kernel
theorem dX1_who_237 : decode cX1_who 237 = .ok (.if_icmp .ge 44, 3) := by decide +kernel
theorem dX1_who_240 : decode cX1_who 240 = .ok (.iload 5, 2) := by decide +kernel
theorem dX1_who_242 : decode cX1_who 242 = .ok (.aload_n 0, 1) := by decide +kernel
theorem dX1_who_243 : decode cX1_who 243 = .ok (.getfield 262, 3) := by decide +kernel
theorem dX1_who_246 : decode cX1_who 246 = .ok (.iload 6, 2) := by decide +kernel
theorem dX1_who_248 : decode cX1_who 248 = .ok (.iaload, 1) := by decide +kernel
theorem dX1_who_249 : decode cX1_who 249 = .ok (.iconst 2, 1) := by decide +kernel
theorem dX1_who_250 : decode cX1_who 250 = .ok (.if_icmp .lt 21, 3) := by decide +kernel
theorem dX1_who_253 : decode cX1_who 253 = .ok (.iconst 2, 1) := by decide +kernel
theorem dX1_who_254 : decode cX1_who 254 = .ok (.aload_n 0, 1) := by decide +kernel
theorem dX1_who_255 : decode cX1_who 255 = .ok (.getfield 265, 3) := by decide +kernel
theorem dX1_who_258 : decode cX1_who 258 = .ok (.iload 6, 2) := by decide +kernel
theorem dX1_who_260 : decode cX1_who 260 = .ok (.iaload, 1) := by decide +kernel
theorem dX1_who_261 : decode cX1_who 261 = .ok (.imul, 1) := by decide +kernel
theorem dX1_who_262 : decode cX1_who 262 = .ok (.iload 4, 2) := by decide +kernel
theorem dX1_who_264 : decode cX1_who 264 = .ok (.if_icmp .lt 7, 3) := by decide +kernel
theorem dX1_who_267 : decode cX1_who 267 = .ok (.iconst 1, 1) := by decide +kernel
theorem dX1_who_268 : decode cX1_who 268 = .ok (.goto 4, 3) := by decide +kernel
theorem dX1_who_271 : decode cX1_who 271 = .ok (.iconst 0, 1) := by decide +kernel
theorem dX1_who_272 : decode cX1_who 272 = .ok (.iadd, 1) := by decide +kernel
theorem dX1_who_273 : decode cX1_who 273 = .ok (.istore 5, 2) := by decide +kernel
theorem dX1_who_275 : decode cX1_who 275 = .ok (.iinc 6 1, 3) := by decide +kernel
theorem dX1_who_278 : decode cX1_who 278 = .ok (.goto (-45), 3) := by decide +kernel
theorem dX1_who_281 : decode cX1_who 281 = .ok (.iload 5, 2) := by decide +kernel
theorem dX1_who_283 : decode cX1_who 283 = .ok (.ireturn, 1) := by decide +kernel
section
variable {res : Int32 × MS}
noncomputable def m_who_B21 (F : Nat) (K47 : Int32 × MS → Option (Int32 × MS)) (x1 x2 : Int32) (R : Int32 × MS → Option (Int32 × MS)) (a : Int32 × MS) : Option (Int32 × MS) :=
  if 30 ≤ a.1 then (K47 (a.1, a.2)) else (if okI a.1 30 = true then nx (sA a.2 82 a.1.toNatClampNeg 0) (fun σ1 => if okI a.1 30 = true then nx (sA σ1 83 a.1.toNatClampNeg 0) (fun σ2 => R (a.1 + 1, σ2)) else none) else none)
theorem km_who_B21 (M : MC γ cX1_who 7 G o 5 (some .int) (mQi G o res)) (x1 x2 : Int32) (K47 : Int32 × MS → Option (Int32 × MS)) (hK47 : ∀ a, K47 a = some res → J γ (MW G o a.2) 0 0 47 [(0, .ref o), (1, .int x1), (2, .int x2)] []) : ∀ R : Int32 × MS → Option (Int32 × MS), (∀ a, R a = some res → J γ (MW G o a.2) 0 0 21 [(0, .ref o), (1, .int x1), (2, .int x2), (3, .int a.1)] []) → ∀ a, m_who_B21 F K47 x1 x2 R a = some res → J γ (MW G o a.2) 0 0 21 [(0, .ref o), (1, .int x1), (2, .int x2), (3, .int a.1)] [] := by
  intro R hR a hf
  unfold m_who_B21 at hf
  refine j_iload_n (pc := 21) M.1 dX1_who_21 3 rfl ?_
  refine j_bipush (pc := 22) M.1 dX1_who_22 kc_bipush_30 ?_
  refine j_icmp_ge (pc := 24) M.1 47 dX1_who_24 rfl (fun c1 => ?_) (fun c1 => ?_)
  · replace hf := o_pos c1 hf
    refine j_sub [0, 1, 2] (show lv_pick _ _ = [(0, .ref o), (1, .int x1), (2, .int x2)] from rfl) ?_
    have hy := hK47 _ hf
    exact hy
  · replace hf := o_neg c1 hf
    refine j_aload_n (pc := 27) M.1 dX1_who_27 0 rfl ?_
    refine jm_getA (pc := 28) M fa_262 dX1_who_28 ?_
    refine j_iload_n (pc := 31) M.1 dX1_who_31 3 rfl ?_
    refine j_iconst (pc := 32) M.1 dX1_who_32 kc_iconst_0 ?_
    obtain ⟨b1, hf⟩ := o_need hf
    obtain ⟨σ1, e1, hf⟩ := o_nx hf
    refine jm_iast (pc := 33) M ax_82 b1 dX1_who_33 e1 ?_
    refine j_aload_n (pc := 34) M.1 dX1_who_34 0 rfl ?_
    refine jm_getA (pc := 35) M fa_265 dX1_who_35 ?_
    refine j_iload_n (pc := 38) M.1 dX1_who_38 3 rfl ?_
    refine j_iconst (pc := 39) M.1 dX1_who_39 kc_iconst_0 ?_
    obtain ⟨b2, hf⟩ := o_need hf
    obtain ⟨σ2, e2, hf⟩ := o_nx hf
    refine jm_iast (pc := 40) M ax_83 b2 dX1_who_40 e2 ?_
    refine j_iinc (pc := 41) M.1 [(3, .int (a.1 + 1)), (0, .ref o), (1, .int x1), (2, .int x2)] dX1_who_41 3 rfl (congrArg _ kc_iconst_1) rfl rfl ?_
    refine j_goto (pc := 44) M.1 21 dX1_who_44 rfl ?_
    refine j_sub [1, 2, 3, 0] (show lv_pick _ _ = [(0, .ref o), (1, .int x1), (2, .int x2), (3, .int (a.1 + 1))] from rfl) ?_
    have hy := hR _ hf
    exact hy
noncomputable def m_who_B49 (F : Nat) (K149 : Int32 × MS → Option (Int32 × MS)) (x1 x2 : Int32) (R : Int32 × MS → Option (Int32 × MS)) (a : Int32 × MS) : Option (Int32 × MS) :=
  if (a.2.1 100) ≤ a.1 then (K149 (a.1, a.2)) else (if okI a.1 100 = true then if (a.2.2 77 a.1.toNatClampNeg) = x1 then (if okI a.1 100 = true then if okI a.1 100 = true then (m_setsFacts F (a.2.2 78 a.1.toNatClampNeg) 0 (a.2.2 76 a.1.toNatClampNeg) 0 x1 a.2).bind (fun r1 => if okI a.1 100 = true then if okI a.1 100 = true then if okI (r1.2.2 75 a.1.toNatClampNeg) 30 = true then if okI (r1.2.2 75 a.1.toNatClampNeg) 30 = true then nx (sA r1.2 82 (r1.2.2 75 a.1.toNatClampNeg).toNatClampNeg ((r1.2.2 82 (r1.2.2 75 a.1.toNatClampNeg).toNatClampNeg) + 1)) (fun σ1 => if okI a.1 100 = true then if okI a.1 100 = true then if okI (σ1.2 75 a.1.toNatClampNeg) 30 = true then (m_numberBy F 118 0 σ1).bind (fun r2 => if okI (σ1.2 75 a.1.toNatClampNeg) 30 = true then nx (sA r2.2 83 (σ1.2 75 a.1.toNatClampNeg).toNatClampNeg ((σ1.2 83 (σ1.2 75 a.1.toNatClampNeg).toNatClampNeg) + r2.1)) (fun σ2 => R (a.1 + 1, σ2)) else none) else none else none else none) else none else none else none else none) else none else none) else (R (a.1 + 1, a.2)) else none)
theorem km_who_B49 (M : MC γ cX1_who 7 G o 5 (some .int) (mQi G o res)) (x1 x2 : Int32) (K149 : Int32 × MS → Option (Int32 × MS)) (hK149 : ∀ a, K149 a = some res → J γ (MW G o a.2) 0 0 149 [(0, .ref o), (2, .int x2)] []) : ∀ R : Int32 × MS → Option (Int32 × MS), (∀ a, R a = some res → J γ (MW G o a.2) 0 0 49 [(0, .ref o), (1, .int x1), (2, .int x2), (3, .int a.1)] []) → ∀ a, m_who_B49 F K149 x1 x2 R a = some res → J γ (MW G o a.2) 0 0 49 [(0, .ref o), (1, .int x1), (2, .int x2), (3, .int a.1)] [] := by
  intro R hR a hf
  unfold m_who_B49 at hf
  refine j_iload_n (pc := 49) M.1 dX1_who_49 3 rfl ?_
  refine j_aload_n (pc := 50) M.1 dX1_who_50 0 rfl ?_
  refine jm_getS (pc := 51) M fm_552 dX1_who_51 ?_
  refine j_icmp_ge (pc := 54) M.1 149 dX1_who_54 rfl (fun c1 => ?_) (fun c1 => ?_)
  · replace hf := o_pos c1 hf
    refine j_sub [0, 2] (show lv_pick _ _ = [(0, .ref o), (2, .int x2)] from rfl) ?_
    have hy := hK149 _ hf
    exact hy
  · replace hf := o_neg c1 hf
    refine j_aload_n (pc := 57) M.1 dX1_who_57 0 rfl ?_
    refine jm_getA (pc := 58) M fa_247 dX1_who_58 ?_
    refine j_iload_n (pc := 61) M.1 dX1_who_61 3 rfl ?_
    obtain ⟨b1, hf⟩ := o_need hf
    refine jm_iald (pc := 62) M ax_77 b1 dX1_who_62 ?_
    refine j_iload_n (pc := 63) M.1 dX1_who_63 1 rfl ?_
    refine j_icmp_eq (pc := 64) M.1 70 dX1_who_64 rfl (fun c2 => ?_) (fun c2 => ?_)
    · replace hf := o_pos c2 hf
      refine j_aload_n (pc := 70) M.1 dX1_who_70 0 rfl ?_
      refine j_aload_n (pc := 71) M.1 dX1_who_71 0 rfl ?_
      refine jm_getA (pc := 72) M fa_250 dX1_who_72 ?_
      refine j_iload_n (pc := 75) M.1 dX1_who_75 3 rfl ?_
      obtain ⟨b2, hf⟩ := o_need hf
      refine jm_iald (pc := 76) M ax_78 b2 dX1_who_76 ?_
      refine j_iconst (pc := 77) M.1 dX1_who_77 kc_iconst_0 ?_
      refine j_aload_n (pc := 78) M.1 dX1_who_78 0 rfl ?_
      refine jm_getA (pc := 79) M fa_244 dX1_who_79 ?_
      refine j_iload_n (pc := 82) M.1 dX1_who_82 3 rfl ?_
      obtain ⟨b3, hf⟩ := o_need hf
      refine jm_iald (pc := 83) M ax_76 b3 dX1_who_83 ?_
      refine j_iconst (pc := 84) M.1 dX1_who_84 kc_iconst_0 ?_
      refine j_iload_n (pc := 85) M.1 dX1_who_85 1 rfl ?_
      obtain ⟨r1, g1, hf⟩ := o_bind hf
      refine jm_callv (pc := 86) (As := [.int (a.2.2 78 a.1.toNatClampNeg), .int 0, .int (a.2.2 76 a.1.toNatClampNeg), .int 0, .int x1]) (rest := []) M cm_459 (met_setsFacts g1) rfl rfl rfl rfl dX1_who_86 ?_
      refine j_aload_n (pc := 89) M.1 dX1_who_89 0 rfl ?_
      refine jm_getA (pc := 90) M fa_262 dX1_who_90 ?_
      refine j_aload_n (pc := 93) M.1 dX1_who_93 0 rfl ?_
      refine jm_getA (pc := 94) M fa_241 dX1_who_94 ?_
      refine j_iload_n (pc := 97) M.1 dX1_who_97 3 rfl ?_
      obtain ⟨b4, hf⟩ := o_need hf
      refine jm_iald (pc := 98) M ax_75 b4 dX1_who_98 ?_
      refine j_aload_n (pc := 99) M.1 dX1_who_99 0 rfl ?_
      refine jm_getA (pc := 100) M fa_262 dX1_who_100 ?_
      refine j_aload_n (pc := 103) M.1 dX1_who_103 0 rfl ?_
      refine jm_getA (pc := 104) M fa_241 dX1_who_104 ?_
      refine j_iload_n (pc := 107) M.1 dX1_who_107 3 rfl ?_
      obtain ⟨b5, hf⟩ := o_need hf
      refine jm_iald (pc := 108) M ax_75 b5 dX1_who_108 ?_
      obtain ⟨b6, hf⟩ := o_need hf
      refine jm_iald (pc := 109) M ax_82 b6 dX1_who_109 ?_
      refine j_iconst (pc := 110) M.1 dX1_who_110 kc_iconst_1 ?_
      refine j_iadd (pc := 111) M.1 dX1_who_111 ?_
      obtain ⟨b7, hf⟩ := o_need hf
      obtain ⟨σ1, e1, hf⟩ := o_nx hf
      refine jm_iast (pc := 112) M ax_82 b7 dX1_who_112 e1 ?_
      refine j_aload_n (pc := 113) M.1 dX1_who_113 0 rfl ?_
      refine jm_getA (pc := 114) M fa_265 dX1_who_114 ?_
      refine j_aload_n (pc := 117) M.1 dX1_who_117 0 rfl ?_
      refine jm_getA (pc := 118) M fa_241 dX1_who_118 ?_
      refine j_iload_n (pc := 121) M.1 dX1_who_121 3 rfl ?_
      obtain ⟨b8, hf⟩ := o_need hf
      refine jm_iald (pc := 122) M ax_75 b8 dX1_who_122 ?_
      refine j_aload_n (pc := 123) M.1 dX1_who_123 0 rfl ?_
      refine jm_getA (pc := 124) M fa_265 dX1_who_124 ?_
      refine j_aload_n (pc := 127) M.1 dX1_who_127 0 rfl ?_
      refine jm_getA (pc := 128) M fa_241 dX1_who_128 ?_
      refine j_iload_n (pc := 131) M.1 dX1_who_131 3 rfl ?_
      obtain ⟨b9, hf⟩ := o_need hf
      refine jm_iald (pc := 132) M ax_75 b9 dX1_who_132 ?_
      obtain ⟨b10, hf⟩ := o_need hf
      refine jm_iald (pc := 133) M ax_83 b10 dX1_who_133 ?_
      refine j_aload_n (pc := 134) M.1 dX1_who_134 0 rfl ?_
      refine j_bipush (pc := 135) M.1 dX1_who_135 kc_bipush_118 ?_
      refine j_iconst (pc := 137) M.1 dX1_who_137 kc_iconst_0 ?_
      obtain ⟨r2, g2, hf⟩ := o_bind hf
      refine jm_calli (pc := 138) (As := [.int 118, .int 0]) (rest := [.int (σ1.2 83 (σ1.2 75 a.1.toNatClampNeg).toNatClampNeg), .int (σ1.2 75 a.1.toNatClampNeg), .ref (o + 1 + 83)]) M cm_463 (met_numberBy g2) rfl rfl rfl rfl dX1_who_138 ?_
      refine j_iadd (pc := 141) M.1 dX1_who_141 ?_
      obtain ⟨b11, hf⟩ := o_need hf
      obtain ⟨σ2, e2, hf⟩ := o_nx hf
      refine jm_iast (pc := 142) M ax_83 b11 dX1_who_142 e2 ?_
      refine j_iinc (pc := 143) M.1 [(3, .int (a.1 + 1)), (0, .ref o), (1, .int x1), (2, .int x2)] dX1_who_143 3 rfl (congrArg _ kc_iconst_1) rfl rfl ?_
      refine j_goto (pc := 146) M.1 49 dX1_who_146 rfl ?_
      refine j_sub [1, 2, 3, 0] (show lv_pick _ _ = [(0, .ref o), (1, .int x1), (2, .int x2), (3, .int (a.1 + 1))] from rfl) ?_
      have hy := hR _ hf
      exact hy
    · replace hf := o_neg c2 hf
      refine j_goto (pc := 67) M.1 143 dX1_who_67 rfl ?_
      refine j_iinc (pc := 143) M.1 [(3, .int (a.1 + 1)), (0, .ref o), (1, .int x1), (2, .int x2)] dX1_who_143 3 rfl (congrArg _ kc_iconst_1) rfl rfl ?_
      refine j_goto (pc := 146) M.1 49 dX1_who_146 rfl ?_
      refine j_sub [1, 2, 3, 0] (show lv_pick _ _ = [(0, .ref o), (1, .int x1), (2, .int x2), (3, .int (a.1 + 1))] from rfl) ?_
      have hy := hR _ hf
      exact hy
noncomputable def m_who_B157 (F : Nat) (K208 : Int32 × Int32 × Int32 × MS → Option (Int32 × MS)) (x2 : Int32) (R : Int32 × Int32 × Int32 × MS → Option (Int32 × MS)) (a : Int32 × Int32 × Int32 × MS) : Option (Int32 × MS) :=
  if 30 ≤ a.2.2.1 then (K208 (a.1, a.2.1, a.2.2.1, a.2.2.2)) else (if okI a.2.2.1 30 = true then if (a.2.2.2.2 82 a.2.2.1.toNatClampNeg) < 2 then (R (a.1, a.2.1, a.2.2.1 + 1, a.2.2.2)) else (if okI a.2.2.1 30 = true then if a.2.1 < (a.2.2.2.2 83 a.2.2.1.toNatClampNeg) then (if okI a.2.2.1 30 = true then nx (a.2.2.2.2 83 a.2.2.1.toNatClampNeg : Int32) (fun y1 => R (a.2.2.1, y1, a.2.2.1 + 1, a.2.2.2)) else none) else (R (a.1, a.2.1, a.2.2.1 + 1, a.2.2.2)) else none) else none)
theorem km_who_B157 (M : MC γ cX1_who 7 G o 5 (some .int) (mQi G o res)) (x2 : Int32) (K208 : Int32 × Int32 × Int32 × MS → Option (Int32 × MS)) (hK208 : ∀ a, K208 a = some res → J γ (MW G o a.2.2.2) 0 0 208 [(0, .ref o), (2, .int x2), (3, .int a.1), (4, .int a.2.1)] []) : ∀ R : Int32 × Int32 × Int32 × MS → Option (Int32 × MS), (∀ a, R a = some res → J γ (MW G o a.2.2.2) 0 0 157 [(0, .ref o), (2, .int x2), (3, .int a.1), (4, .int a.2.1), (5, .int a.2.2.1)] []) → ∀ a, m_who_B157 F K208 x2 R a = some res → J γ (MW G o a.2.2.2) 0 0 157 [(0, .ref o), (2, .int x2), (3, .int a.1), (4, .int a.2.1), (5, .int a.2.2.1)] [] := by
  intro R hR a hf
  unfold m_who_B157 at hf
  refine j_iload (pc := 157) M.1 dX1_who_157 4 rfl ?_
  refine j_bipush (pc := 159) M.1 dX1_who_159 kc_bipush_30 ?_
  refine j_icmp_ge (pc := 161) M.1 208 dX1_who_161 rfl (fun c1 => ?_) (fun c1 => ?_)
  · replace hf := o_pos c1 hf
    refine j_sub [0, 1, 2, 3] (show lv_pick _ _ = [(0, .ref o), (2, .int x2), (3, .int a.1), (4, .int a.2.1)] from rfl) ?_
    have hy := hK208 _ hf
    exact hy
  · replace hf := o_neg c1 hf
    refine j_aload_n (pc := 164) M.1 dX1_who_164 0 rfl ?_
    refine jm_getA (pc := 165) M fa_262 dX1_who_165 ?_
    refine j_iload (pc := 168) M.1 dX1_who_168 4 rfl ?_
    obtain ⟨b1, hf⟩ := o_need hf
    refine jm_iald (pc := 170) M ax_82 b1 dX1_who_170 ?_
    refine j_iconst (pc := 171) M.1 dX1_who_171 kc_iconst_2 ?_
    refine j_icmp_lt (pc := 172) M.1 202 dX1_who_172 rfl (fun c2 => ?_) (fun c2 => ?_)
    · replace hf := o_pos c2 hf
      refine j_iinc (pc := 202) M.1 [(5, .int (a.2.2.1 + 1)), (0, .ref o), (2, .int x2), (3, .int a.1), (4, .int a.2.1)] dX1_who_202 4 rfl (congrArg _ kc_iconst_1) rfl rfl ?_
      refine j_goto (pc := 205) M.1 157 dX1_who_205 rfl ?_
      refine j_sub [1, 2, 3, 4, 0] (show lv_pick _ _ = [(0, .ref o), (2, .int x2), (3, .int a.1), (4, .int a.2.1), (5, .int (a.2.2.1 + 1))] from rfl) ?_
      have hy := hR _ hf
      exact hy
    · replace hf := o_neg c2 hf
      refine j_aload_n (pc := 175) M.1 dX1_who_175 0 rfl ?_
      refine jm_getA (pc := 176) M fa_265 dX1_who_176 ?_
      refine j_iload (pc := 179) M.1 dX1_who_179 4 rfl ?_
      obtain ⟨b2, hf⟩ := o_need hf
      refine jm_iald (pc := 181) M ax_83 b2 dX1_who_181 ?_
      refine j_iload (pc := 182) M.1 dX1_who_182 3 rfl ?_
      refine j_icmp_gt (pc := 184) M.1 190 dX1_who_184 rfl (fun c3 => ?_) (fun c3 => ?_)
      · replace hf := o_pos c3 hf
        refine j_iload (pc := 190) M.1 dX1_who_190 4 rfl ?_
        refine j_istore_n (pc := 192) M.1 [(3, .int a.2.2.1), (0, .ref o), (2, .int x2), (4, .int a.2.1), (5, .int a.2.2.1)] dX1_who_192 rfl rfl ?_
        refine j_aload_n (pc := 193) M.1 dX1_who_193 1 rfl ?_
        refine jm_getA (pc := 194) M fa_265 dX1_who_194 ?_
        refine j_iload (pc := 197) M.1 dX1_who_197 4 rfl ?_
        obtain ⟨b3, hf⟩ := o_need hf
        refine jm_iald (pc := 199) M ax_83 b3 dX1_who_199 ?_
        obtain ⟨y1, e1, hf⟩ := o_nx hf
        refine j_top e1 ?_
        refine j_istore (pc := 200) M.1 [(4, .int y1), (3, .int a.2.2.1), (0, .ref o), (2, .int x2), (5, .int a.2.2.1)] dX1_who_200 rfl rfl ?_
        refine j_iinc (pc := 202) M.1 [(5, .int (a.2.2.1 + 1)), (4, .int y1), (3, .int a.2.2.1), (0, .ref o), (2, .int x2)] dX1_who_202 4 rfl (congrArg _ kc_iconst_1) rfl rfl ?_
        refine j_goto (pc := 205) M.1 157 dX1_who_205 rfl ?_
        refine j_sub [3, 4, 2, 1, 0] (show lv_pick _ _ = [(0, .ref o), (2, .int x2), (3, .int a.2.2.1), (4, .int y1), (5, .int (a.2.2.1 + 1))] from rfl) ?_
        have hy := hR _ hf
        exact hy
      · replace hf := o_neg c3 hf
        refine j_goto (pc := 187) M.1 202 dX1_who_187 rfl ?_
        refine j_iinc (pc := 202) M.1 [(5, .int (a.2.2.1 + 1)), (0, .ref o), (2, .int x2), (3, .int a.1), (4, .int a.2.1)] dX1_who_202 4 rfl (congrArg _ kc_iconst_1) rfl rfl ?_
        refine j_goto (pc := 205) M.1 157 dX1_who_205 rfl ?_
        refine j_sub [1, 2, 3, 4, 0] (show lv_pick _ _ = [(0, .ref o), (2, .int x2), (3, .int a.1), (4, .int a.2.1), (5, .int (a.2.2.1 + 1))] from rfl) ?_
        have hy := hR _ hf
        exact hy
noncomputable def m_who_B233 (F : Nat) (x4 : Int32) (R : Int32 × Int32 × MS → Option (Int32 × MS)) (a : Int32 × Int32 × MS) : Option (Int32 × MS) :=
  if 30 ≤ a.2.1 then (some (a.1, a.2.2)) else (if okI a.2.1 30 = true then if (a.2.2.2 82 a.2.1.toNatClampNeg) < 2 then (R (a.1 + 0, a.2.1 + 1, a.2.2)) else (if okI a.2.1 30 = true then if (2 * (a.2.2.2 83 a.2.1.toNatClampNeg)) < x4 then (R (a.1 + 0, a.2.1 + 1, a.2.2)) else (R (a.1 + 1, a.2.1 + 1, a.2.2)) else none) else none)
theorem km_who_B233 (M : MC γ cX1_who 7 G o 5 (some .int) (mQi G o res)) (x4 : Int32) : ∀ R : Int32 × Int32 × MS → Option (Int32 × MS), (∀ a, R a = some res → J γ (MW G o a.2.2) 0 0 233 [(0, .ref o), (4, .int x4), (5, .int a.1), (6, .int a.2.1)] []) → ∀ a, m_who_B233 F x4 R a = some res → J γ (MW G o a.2.2) 0 0 233 [(0, .ref o), (4, .int x4), (5, .int a.1), (6, .int a.2.1)] [] := by
  intro R hR a hf
  unfold m_who_B233 at hf
  refine j_iload (pc := 233) M.1 dX1_who_233 3 rfl ?_
  refine j_bipush (pc := 235) M.1 dX1_who_235 kc_bipush_30 ?_
  refine j_icmp_ge (pc := 237) M.1 281 dX1_who_237 rfl (fun c1 => ?_) (fun c1 => ?_)
  · replace hf := o_pos c1 hf
    refine j_iload (pc := 281) M.1 dX1_who_281 2 rfl ?_
    exact jm_iret (pc := 283) M dX1_who_283 hf
  · replace hf := o_neg c1 hf
    refine j_iload (pc := 240) M.1 dX1_who_240 2 rfl ?_
    refine j_aload_n (pc := 242) M.1 dX1_who_242 0 rfl ?_
    refine jm_getA (pc := 243) M fa_262 dX1_who_243 ?_
    refine j_iload (pc := 246) M.1 dX1_who_246 3 rfl ?_
    obtain ⟨b1, hf⟩ := o_need hf
    refine jm_iald (pc := 248) M ax_82 b1 dX1_who_248 ?_
    refine j_iconst (pc := 249) M.1 dX1_who_249 kc_iconst_2 ?_
    refine j_icmp_lt (pc := 250) M.1 271 dX1_who_250 rfl (fun c2 => ?_) (fun c2 => ?_)
    · replace hf := o_pos c2 hf
      refine j_iconst (pc := 271) M.1 dX1_who_271 kc_iconst_0 ?_
      refine j_iadd (pc := 272) M.1 dX1_who_272 ?_
      refine j_istore (pc := 273) M.1 [(5, .int (a.1 + 0)), (0, .ref o), (4, .int x4), (6, .int a.2.1)] dX1_who_273 rfl rfl ?_
      refine j_iinc (pc := 275) M.1 [(6, .int (a.2.1 + 1)), (5, .int (a.1 + 0)), (0, .ref o), (4, .int x4)] dX1_who_275 3 rfl (congrArg _ kc_iconst_1) rfl rfl ?_
      refine j_goto (pc := 278) M.1 233 dX1_who_278 rfl ?_
      refine j_sub [2, 3, 1, 0] (show lv_pick _ _ = [(0, .ref o), (4, .int x4), (5, .int (a.1 + 0)), (6, .int (a.2.1 + 1))] from rfl) ?_
      have hy := hR _ hf
      exact hy
    · replace hf := o_neg c2 hf
      refine j_iconst (pc := 253) M.1 dX1_who_253 kc_iconst_2 ?_
      refine j_aload_n (pc := 254) M.1 dX1_who_254 0 rfl ?_
      refine jm_getA (pc := 255) M fa_265 dX1_who_255 ?_
      refine j_iload (pc := 258) M.1 dX1_who_258 3 rfl ?_
      obtain ⟨b2, hf⟩ := o_need hf
      refine jm_iald (pc := 260) M ax_83 b2 dX1_who_260 ?_
      refine j_imul (pc := 261) M.1 dX1_who_261 ?_
      refine j_iload (pc := 262) M.1 dX1_who_262 1 rfl ?_
      refine j_icmp_lt (pc := 264) M.1 271 dX1_who_264 rfl (fun c3 => ?_) (fun c3 => ?_)
      · replace hf := o_pos c3 hf
        refine j_iconst (pc := 271) M.1 dX1_who_271 kc_iconst_0 ?_
        refine j_iadd (pc := 272) M.1 dX1_who_272 ?_
        refine j_istore (pc := 273) M.1 [(5, .int (a.1 + 0)), (0, .ref o), (4, .int x4), (6, .int a.2.1)] dX1_who_273 rfl rfl ?_
        refine j_iinc (pc := 275) M.1 [(6, .int (a.2.1 + 1)), (5, .int (a.1 + 0)), (0, .ref o), (4, .int x4)] dX1_who_275 3 rfl (congrArg _ kc_iconst_1) rfl rfl ?_
        refine j_goto (pc := 278) M.1 233 dX1_who_278 rfl ?_
        refine j_sub [2, 3, 1, 0] (show lv_pick _ _ = [(0, .ref o), (4, .int x4), (5, .int (a.1 + 0)), (6, .int (a.2.1 + 1))] from rfl) ?_
        have hy := hR _ hf
        exact hy
      · replace hf := o_neg c3 hf
        refine j_iconst (pc := 267) M.1 dX1_who_267 kc_iconst_1 ?_
        refine j_goto (pc := 268) M.1 272 dX1_who_268 rfl ?_
        refine j_iadd (pc := 272) M.1 dX1_who_272 ?_
        refine j_istore (pc := 273) M.1 [(5, .int (a.1 + 1)), (0, .ref o), (4, .int x4), (6, .int a.2.1)] dX1_who_273 rfl rfl ?_
        refine j_iinc (pc := 275) M.1 [(6, .int (a.2.1 + 1)), (5, .int (a.1 + 1)), (0, .ref o), (4, .int x4)] dX1_who_275 3 rfl (congrArg _ kc_iconst_1) rfl rfl ?_
        refine j_goto (pc := 278) M.1 233 dX1_who_278 rfl ?_
        refine j_sub [2, 3, 1, 0] (show lv_pick _ _ = [(0, .ref o), (4, .int x4), (5, .int (a.1 + 1)), (6, .int (a.2.1 + 1))] from rfl) ?_
        have hy := hR _ hf
        exact hy
noncomputable def m_who (F : Nat) (x1 x2 : Int32) (σ : MS) : Option (Int32 × MS) :=
  (m_isPlace F x1 σ).bind (fun r1 => if r1.1 = 0 then (some ((-1), r1.2)) else ((m_in F x2 0 2).bind (fun r2 => if r2 = 0 then (some ((-1), r1.2)) else (lp (m_who_B21 F (fun a1 => lp (m_who_B49 F (fun a2 => lp (m_who_B157 F (fun a3 => if a3.1 = ((-1)) then (some (a3.1, a3.2.2.2)) else (if x2 = 0 then (some (a3.1, a3.2.2.2)) else (if x2 = 1 then (some (a3.2.1, a3.2.2.2)) else (lp (m_who_B233 F a3.2.1) F (0, 0, a3.2.2.2))))) x2) F ((-1), 0, 0, a2.2)) x1 x2) F (0, a1.2)) x1 x2) F (0, r1.2)))))
theorem met_who {l : Launch} {G : gG} {o F : Nat} {x1 x2 : Int32} {σ : MS} {res : Int32 × MS} (hf : m_who F x1 x2 σ = some res) : MetMi l G yX1_who cX1_who 7 (some .int) 5 o [.int x1, .int x2] σ res := by
  refine metMi_of (by decide) rfl rfl (fun γ hγ M => ?_)
  subst hγ
  show J γ (MW G o σ) 0 0 0 [(0, .ref o), (1, .int x1), (2, .int x2)] []
  unfold m_who at hf
  refine j_aload_n (pc := 0) M.1 dX1_who_0 0 rfl ?_
  refine j_iload_n (pc := 1) M.1 dX1_who_1 1 rfl ?_
  obtain ⟨r1, g1, hf⟩ := o_bind hf
  refine jm_calli (pc := 2) (As := [.int x1]) (rest := []) M cm_331 (met_isPlace g1) rfl rfl rfl rfl dX1_who_2 ?_
  refine j_if_eq (pc := 5) M.1 17 dX1_who_5 rfl (fun c1 => ?_) (fun c1 => ?_)
  · replace hf := o_pos c1 hf
    refine j_iconst (pc := 17) M.1 dX1_who_17 kc_iconst_m1 ?_
    exact jm_iret (pc := 18) M dX1_who_18 hf
  · replace hf := o_neg c1 hf
    refine j_iload_n (pc := 8) M.1 dX1_who_8 2 rfl ?_
    refine j_iconst (pc := 9) M.1 dX1_who_9 kc_iconst_0 ?_
    refine j_iconst (pc := 10) M.1 dX1_who_10 kc_iconst_2 ?_
    obtain ⟨r2, g2, hf⟩ := o_bind hf
    refine jm_calls (pc := 11) (As := [.int x2, .int 0, .int 2]) (rest := []) M cs_X1_278 (met_in g2) rfl rfl rfl rfl dX1_who_11 ?_
    refine j_if_ne (pc := 14) M.1 19 dX1_who_14 rfl (fun c2 => ?_) (fun c2 => ?_)
    · replace hf := o_neg c2 hf
      refine j_iconst (pc := 19) M.1 dX1_who_19 kc_iconst_0 ?_
      refine j_istore_n (pc := 20) M.1 [(3, .int 0), (0, .ref o), (1, .int x1), (2, .int x2)] dX1_who_20 rfl rfl ?_
      refine j_sub [1, 2, 3, 0] (show lv_pick _ _ = [(0, .ref o), (1, .int x1), (2, .int x2), (3, .int 0)] from rfl) ?_
      refine lp_W (km_who_B21 M x1 x2 _ ?_) F (0, r1.2) hf
      · intro a1 hf
        refine j_iconst (pc := 47) M.1 dX1_who_47 kc_iconst_0 ?_
        refine j_istore_n (pc := 48) M.1 [(3, .int 0), (0, .ref o), (1, .int x1), (2, .int x2)] dX1_who_48 rfl rfl ?_
        refine j_sub [1, 2, 3, 0] (show lv_pick _ _ = [(0, .ref o), (1, .int x1), (2, .int x2), (3, .int 0)] from rfl) ?_
        refine lp_W (km_who_B49 M x1 x2 _ ?_) F (0, a1.2) hf
        · intro a2 hf
          refine j_iconst (pc := 149) M.1 dX1_who_149 kc_iconst_m1 ?_
          refine j_istore_n (pc := 150) M.1 [(3, .int ((-1))), (0, .ref o), (2, .int x2)] dX1_who_150 rfl rfl ?_
          refine j_iconst (pc := 151) M.1 dX1_who_151 kc_iconst_0 ?_
          refine j_istore (pc := 152) M.1 [(4, .int 0), (3, .int ((-1))), (0, .ref o), (2, .int x2)] dX1_who_152 rfl rfl ?_
          refine j_iconst (pc := 154) M.1 dX1_who_154 kc_iconst_0 ?_
          refine j_istore (pc := 155) M.1 [(5, .int 0), (4, .int 0), (3, .int ((-1))), (0, .ref o), (2, .int x2)] dX1_who_155 rfl rfl ?_
          refine j_sub [3, 4, 2, 1, 0] (show lv_pick _ _ = [(0, .ref o), (2, .int x2), (3, .int ((-1))), (4, .int 0), (5, .int 0)] from rfl) ?_
          refine lp_W (km_who_B157 M x2 _ ?_) F ((-1), 0, 0, a2.2) hf
          · intro a3 hf
            refine j_iload_n (pc := 208) M.1 dX1_who_208 2 rfl ?_
            refine j_iconst (pc := 209) M.1 dX1_who_209 kc_iconst_m1 ?_
            refine j_icmp_eq (pc := 210) M.1 217 dX1_who_210 rfl (fun c3 => ?_) (fun c3 => ?_)
            · replace hf := o_pos c3 hf
              refine j_iload_n (pc := 217) M.1 dX1_who_217 2 rfl ?_
              exact jm_iret (pc := 218) M dX1_who_218 hf
            · replace hf := o_neg c3 hf
              refine j_iload_n (pc := 213) M.1 dX1_who_213 1 rfl ?_
              refine j_if_ne (pc := 214) M.1 219 dX1_who_214 rfl (fun c4 => ?_) (fun c4 => ?_)
              · replace hf := o_neg c4 hf
                refine j_iload_n (pc := 219) M.1 dX1_who_219 1 rfl ?_
                refine j_iconst (pc := 220) M.1 dX1_who_220 kc_iconst_1 ?_
                refine j_icmp_ne (pc := 221) M.1 227 dX1_who_221 rfl (fun c5 => ?_) (fun c5 => ?_)
                · replace hf := o_neg c5 hf
                  refine j_iconst (pc := 227) M.1 dX1_who_227 kc_iconst_0 ?_
                  refine j_istore (pc := 228) M.1 [(5, .int 0), (0, .ref o), (2, .int x2), (3, .int a3.1), (4, .int a3.2.1)] dX1_who_228 rfl rfl ?_
                  refine j_iconst (pc := 230) M.1 dX1_who_230 kc_iconst_0 ?_
                  refine j_istore (pc := 231) M.1 [(6, .int 0), (5, .int 0), (0, .ref o), (2, .int x2), (3, .int a3.1), (4, .int a3.2.1)] dX1_who_231 rfl rfl ?_
                  refine j_sub [2, 5, 1, 0] (show lv_pick _ _ = [(0, .ref o), (4, .int a3.2.1), (5, .int 0), (6, .int 0)] from rfl) ?_
                  refine lp_W (km_who_B233 M a3.2.1) F (0, 0, a3.2.2.2) hf
                · replace hf := o_pos c5 hf
                  refine j_iload (pc := 224) M.1 dX1_who_224 3 rfl ?_
                  exact jm_iret (pc := 226) M dX1_who_226 hf
              · replace hf := o_pos c4 hf
                refine j_iload_n (pc := 217) M.1 dX1_who_217 2 rfl ?_
                exact jm_iret (pc := 218) M dX1_who_218 hf
    · replace hf := o_pos c2 hf
      refine j_iconst (pc := 17) M.1 dX1_who_17 kc_iconst_m1 ?_
      exact jm_iret (pc := 18) M dX1_who_18 hf
end
theorem dX1_isLike_0 : decode cX1_isLike 0 = .ok (.aload_n 0, 1) := by decide +kernel
theorem dX1_isLike_1 : decode cX1_isLike 1 = .ok (.getfield 181, 3) := by decide +kernel
theorem dX1_isLike_4 : decode cX1_isLike 4 = .ok (.iload_n 2, 1) := by decide +kernel
theorem dX1_isLike_5 : decode cX1_isLike 5 = .ok (.baload, 1) := by decide +kernel
theorem dX1_isLike_6 : decode cX1_isLike 6 = .ok (.ifCond .ne 16, 3) := by decide +kernel
theorem dX1_isLike_9 : decode cX1_isLike 9 = .ok (.aload_n 0, 1) := by decide +kernel
theorem dX1_isLike_10 : decode cX1_isLike 10 = .ok (.iload_n 1, 1) := by decide +kernel
theorem dX1_isLike_11 : decode cX1_isLike 11 = .ok (.iload_n 2, 1) := by decide +kernel
theorem dX1_isLike_12 : decode cX1_isLike 12 = .ok (.invokevirtual 500, 3) := by decide +kernel
theorem dX1_isLike_15 : decode cX1_isLike 15 = .ok (.ifCond .eq 7, 3) := by decide +kernel
theorem dX1_isLike_18 : decode cX1_isLike 18 = .ok (.iconst 1, 1) := by decide +kernel
theorem dX1_isLike_19 : decode cX1_isLike 19 = .ok (.goto 4, 3) := by decide +kernel
theorem dX1_isLike_22 : decode cX1_isLike 22 = .ok (.iconst 0, 1) := by decide +kernel
theorem dX1_isLike_23 : decode cX1_isLike 23 = .ok (.ireturn, 1) := by decide +kernel
section
variable {res : Int32 × MS}
noncomputable def m_isLike (F : Nat) (x1 x2 : Int32) (σ : MS) : Option (Int32 × MS) :=
  if okI x2 60 = true then if (σ.2 55 x2.toNatClampNeg) = 0 then ((m_couldBe F x1 x2 σ).bind (fun r1 => if r1.1 = 0 then (some (0, r1.2)) else (some (1, r1.2)))) else (some (0, σ)) else none
theorem met_isLike {l : Launch} {G : gG} {o F : Nat} {x1 x2 : Int32} {σ : MS} {res : Int32 × MS} (hf : m_isLike F x1 x2 σ = some res) : MetMi l G yX1_isLike cX1_isLike 3 (some .boolean) 6 o [.int x1, .int x2] σ res := by
  refine metMi_of (by decide) rfl rfl (fun γ hγ M => ?_)
  subst hγ
  show J γ (MW G o σ) 0 0 0 [(0, .ref o), (1, .int x1), (2, .int x2)] []
  unfold m_isLike at hf
  refine j_aload_n (pc := 0) M.1 dX1_isLike_0 0 rfl ?_
  refine jm_getA (pc := 1) M fa_181 dX1_isLike_1 ?_
  refine j_iload_n (pc := 4) M.1 dX1_isLike_4 2 rfl ?_
  obtain ⟨b1, hf⟩ := o_need hf
  refine jm_zald (pc := 5) M ax_55 b1 dX1_isLike_5 ?_
  refine j_if_ne (pc := 6) M.1 22 dX1_isLike_6 rfl (fun c1 => ?_) (fun c1 => ?_)
  · replace hf := o_neg c1 hf
    refine j_iconst (pc := 22) M.1 dX1_isLike_22 kc_iconst_0 ?_
    exact jm_zret (pc := 23) M dX1_isLike_23 rfl hf
  · replace hf := o_pos c1 hf
    refine j_aload_n (pc := 9) M.1 dX1_isLike_9 0 rfl ?_
    refine j_iload_n (pc := 10) M.1 dX1_isLike_10 1 rfl ?_
    refine j_iload_n (pc := 11) M.1 dX1_isLike_11 2 rfl ?_
    obtain ⟨r1, g1, hf⟩ := o_bind hf
    refine jm_calli (pc := 12) (As := [.int x1, .int x2]) (rest := []) M cm_500 (met_couldBe g1) rfl rfl rfl rfl dX1_isLike_12 ?_
    refine j_if_eq (pc := 15) M.1 22 dX1_isLike_15 rfl (fun c2 => ?_) (fun c2 => ?_)
    · replace hf := o_pos c2 hf
      refine j_iconst (pc := 22) M.1 dX1_isLike_22 kc_iconst_0 ?_
      exact jm_zret (pc := 23) M dX1_isLike_23 rfl hf
    · replace hf := o_neg c2 hf
      refine j_iconst (pc := 18) M.1 dX1_isLike_18 kc_iconst_1 ?_
      refine j_goto (pc := 19) M.1 23 dX1_isLike_19 rfl ?_
      exact jm_zret (pc := 23) M dX1_isLike_23 rfl hf
end
theorem dX1_mayBe_0 : decode cX1_mayBe 0 = .ok (.iconst 0, 1) := by decide +kernel
theorem dX1_mayBe_1 : decode cX1_mayBe 1 = .ok (.istore_n 3, 1) := by decide +kernel
theorem dX1_mayBe_2 : decode cX1_mayBe 2 = .ok (.iconst 0, 1) := by decide +kernel
theorem dX1_mayBe_3 : decode cX1_mayBe 3 = .ok (.istore 4, 2) := by decide +kernel
theorem dX1_mayBe_5 : decode cX1_mayBe 5 = .ok (.iload 4, 2) := by decide +kernel
theorem dX1_mayBe_7 : decode cX1_mayBe 7 = .ok (.aload_n 0, 1) := by decide +kernel
theorem dX1_mayBe_8 : decode cX1_mayBe 8 = .ok (.getfield 282, 3) := by decide +kernel
theorem dX1_mayBe_11 : decode cX1_mayBe 11 = .ok (.if_icmp .ge 75, 3) := by decide +kernel
theorem dX1_mayBe_14 : decode cX1_mayBe 14 = .ok (.aload_n 0, 1) := by decide +kernel
theorem dX1_mayBe_15 : decode cX1_mayBe 15 = .ok (.getfield 139, 3) := by decide +kernel
theorem dX1_mayBe_18 : decode cX1_mayBe 18 = .ok (.iload_n 1, 1) := by decide +kernel
theorem dX1_mayBe_19 : decode cX1_mayBe 19 = .ok (.iaload, 1) := by decide +kernel
theorem dX1_mayBe_20 : decode cX1_mayBe 20 = .ok (.istore 5, 2) := by decide +kernel
theorem dX1_mayBe_22 : decode cX1_mayBe 22 = .ok (.iload 5, 2) := by decide +kernel
theorem dX1_mayBe_24 : decode cX1_mayBe 24 = .ok (.aload_n 0, 1) := by decide +kernel
theorem dX1_mayBe_25 : decode cX1_mayBe 25 = .ok (.getfield 142, 3) := by decide +kernel
theorem dX1_mayBe_28 : decode cX1_mayBe 28 = .ok (.iload_n 1, 1) := by decide +kernel
theorem dX1_mayBe_29 : decode cX1_mayBe 29 = .ok (.iaload, 1) := by decide +kernel
theorem dX1_mayBe_30 : decode cX1_mayBe 30 = .ok (.if_icmp .gt 50, 3) := by decide +kernel
theorem dX1_mayBe_33 : decode cX1_mayBe 33 = .ok (.iload_n 3, 1) := by decide +kernel
theorem dX1_mayBe_34 : decode cX1_mayBe 34 = .ok (.iload 4, 2) := by decide +kernel
theorem dX1_mayBe_36 : decode cX1_mayBe 36 = .ok (.ishr, 1) := by decide +kernel
theorem dX1_mayBe_37 : decode cX1_mayBe 37 = .ok (.iconst 1, 1) := by decide +kernel
theorem dX1_mayBe_38 : decode cX1_mayBe 38 = .ok (.iand, 1) := by decide +kernel
theorem dX1_mayBe_39 : decode cX1_mayBe 39 = .ok (.ifCond .ne 41, 3) := by decide +kernel
theorem dX1_mayBe_42 : decode cX1_mayBe 42 = .ok (.aload_n 0, 1) := by decide +kernel
theorem dX1_mayBe_43 : decode cX1_mayBe 43 = .ok (.iload_n 1, 1) := by decide +kernel
theorem dX1_mayBe_44 : decode cX1_mayBe 44 = .ok (.iload 4, 2) := by decide +kernel
theorem dX1_mayBe_46 : decode cX1_mayBe 46 = .ok (.iload 5, 2) := by decide +kernel
theorem dX1_mayBe_48 : decode cX1_mayBe 48 = .ok (.iload_n 2, 1) := by decide +kernel
theorem dX1_mayBe_49 : decode cX1_mayBe 49 = .ok (.invokevirtual 476, 3) := by decide +kernel
theorem dX1_mayBe_52 : decode cX1_mayBe 52 = .ok (.ifCond .eq 22, 3) := by decide +kernel
theorem dX1_mayBe_55 : decode cX1_mayBe 55 = .ok (.aload_n 0, 1) := by decide +kernel
theorem dX1_mayBe_56 : decode cX1_mayBe 56 = .ok (.iload_n 1, 1) := by decide +kernel
theorem dX1_mayBe_57 : decode cX1_mayBe 57 = .ok (.iload 4, 2) := by decide +kernel
theorem dX1_mayBe_59 : decode cX1_mayBe 59 = .ok (.iload 5, 2) := by decide +kernel
theorem dX1_mayBe_61 : decode cX1_mayBe 61 = .ok (.invokevirtual 479, 3) := by decide +kernel
theorem dX1_mayBe_64 : decode cX1_mayBe 64 = .ok (.ifCond .eq 10, 3) := by decide +kernel
theorem dX1_mayBe_67 : decode cX1_mayBe 67 = .ok (.iload_n 3, 1) := by decide +kernel
theorem dX1_mayBe_68 : decode cX1_mayBe 68 = .ok (.iconst 1, 1) := by decide +kernel
theorem dX1_mayBe_69 : decode cX1_mayBe 69 = .ok (.iload 4, 2) := by decide +kernel
theorem dX1_mayBe_71 : decode cX1_mayBe 71 = .ok (.ishl, 1) := by decide +kernel
theorem dX1_mayBe_72 : decode cX1_mayBe 72 = .ok (.ior, 1) := by decide +kernel
theorem dX1_mayBe_73 : decode cX1_mayBe 73 = .ok (.istore_n 3, 1) := by decide +kernel
theorem dX1_mayBe_74 : decode cX1_mayBe 74 = .ok (.iinc 5 1, 3) := by decide +kernel
theorem dX1_mayBe_77 : decode cX1_mayBe 77 = .ok (.goto (-55), 3) := by decide +kernel
theorem dX1_mayBe_80 : decode cX1_mayBe 80 = .ok (.iinc 4 1, 3) := by decide +kernel
theorem dX1_mayBe_83 : decode cX1_mayBe 83 = .ok (.goto (-78), 3) := by decide +kernel
theorem dX1_mayBe_86 : decode cX1_mayBe 86 = .ok (.iload_n 3, 1) := by decide +kernel
theorem dX1_mayBe_87 : decode cX1_mayBe 87 = .ok (.ireturn, 1) := by decide +kernel
section
variable {res : Int32 × MS}
noncomputable def m_mayBe_B22 (F : Nat) (K80 : Int32 × Int32 × MS → Option (Int32 × MS)) (x1 x2 x4 : Int32) (R : Int32 × Int32 × MS → Option (Int32 × MS)) (a : Int32 × Int32 × MS) : Option (Int32 × MS) :=
  if okI x1 150 = true then if (a.2.2.2 42 x1.toNatClampNeg) < a.2.1 then (K80 (a.1, a.2.1, a.2.2)) else (if ((a.1 >>> (x4 &&& 31)) &&& 1) = 0 then ((m_isDug F x1 x4 a.2.1 x2 a.2.2).bind (fun r1 => if r1.1 = 0 then (R (a.1, a.2.1 + 1, r1.2)) else ((m_isMeant F x1 x4 a.2.1 r1.2).bind (fun r2 => if r2.1 = 0 then (R (a.1, a.2.1 + 1, r2.2)) else (nx (a.1 ||| (1 <<< (x4 &&& 31)) : Int32) (fun y1 => R (y1, a.2.1 + 1, r2.2))))))) else (K80 (a.1, a.2.1, a.2.2))) else none
theorem km_mayBe_B22 (M : MC γ cX1_mayBe 6 G o 6 (some .int) (mQi G o res)) (x1 x2 x4 : Int32) (K80 : Int32 × Int32 × MS → Option (Int32 × MS)) (hK80 : ∀ a, K80 a = some res → J γ (MW G o a.2.2) 0 0 80 [(0, .ref o), (1, .int x1), (2, .int x2), (3, .int a.1), (4, .int x4)] []) : ∀ R : Int32 × Int32 × MS → Option (Int32 × MS), (∀ a, R a = some res → J γ (MW G o a.2.2) 0 0 22 [(0, .ref o), (1, .int x1), (2, .int x2), (3, .int a.1), (4, .int x4), (5, .int a.2.1)] []) → ∀ a, m_mayBe_B22 F K80 x1 x2 x4 R a = some res → J γ (MW G o a.2.2) 0 0 22 [(0, .ref o), (1, .int x1), (2, .int x2), (3, .int a.1), (4, .int x4), (5, .int a.2.1)] [] := by
  intro R hR a hf
  unfold m_mayBe_B22 at hf
  refine j_iload (pc := 22) M.1 dX1_mayBe_22 5 rfl ?_
  refine j_aload_n (pc := 24) M.1 dX1_mayBe_24 0 rfl ?_
  refine jm_getA (pc := 25) M fa_142 dX1_mayBe_25 ?_
  refine j_iload_n (pc := 28) M.1 dX1_mayBe_28 1 rfl ?_
  obtain ⟨b1, hf⟩ := o_need hf
  refine jm_iald (pc := 29) M ax_42 b1 dX1_mayBe_29 ?_
  refine j_icmp_gt (pc := 30) M.1 80 dX1_mayBe_30 rfl (fun c1 => ?_) (fun c1 => ?_)
  · replace hf := o_pos c1 hf
    refine j_sub [0, 1, 2, 3, 4] (show lv_pick _ _ = [(0, .ref o), (1, .int x1), (2, .int x2), (3, .int a.1), (4, .int x4)] from rfl) ?_
    have hy := hK80 _ hf
    exact hy
  · replace hf := o_neg c1 hf
    refine j_iload_n (pc := 33) M.1 dX1_mayBe_33 3 rfl ?_
    refine j_iload (pc := 34) M.1 dX1_mayBe_34 4 rfl ?_
    refine j_ishr (pc := 36) M.1 dX1_mayBe_36 ?_
    refine j_iconst (pc := 37) M.1 dX1_mayBe_37 kc_iconst_1 ?_
    refine j_iand (pc := 38) M.1 dX1_mayBe_38 ?_
    refine j_if_ne (pc := 39) M.1 80 dX1_mayBe_39 rfl (fun c2 => ?_) (fun c2 => ?_)
    · replace hf := o_neg c2 hf
      refine j_sub [0, 1, 2, 3, 4] (show lv_pick _ _ = [(0, .ref o), (1, .int x1), (2, .int x2), (3, .int a.1), (4, .int x4)] from rfl) ?_
      have hy := hK80 _ hf
      exact hy
    · replace hf := o_pos c2 hf
      refine j_aload_n (pc := 42) M.1 dX1_mayBe_42 0 rfl ?_
      refine j_iload_n (pc := 43) M.1 dX1_mayBe_43 1 rfl ?_
      refine j_iload (pc := 44) M.1 dX1_mayBe_44 4 rfl ?_
      refine j_iload (pc := 46) M.1 dX1_mayBe_46 5 rfl ?_
      refine j_iload_n (pc := 48) M.1 dX1_mayBe_48 2 rfl ?_
      obtain ⟨r1, g1, hf⟩ := o_bind hf
      refine jm_calli (pc := 49) (As := [.int x1, .int x4, .int a.2.1, .int x2]) (rest := []) M cm_476 (met_isDug g1) rfl rfl rfl rfl dX1_mayBe_49 ?_
      refine j_if_eq (pc := 52) M.1 74 dX1_mayBe_52 rfl (fun c3 => ?_) (fun c3 => ?_)
      · replace hf := o_pos c3 hf
        refine j_iinc (pc := 74) M.1 [(5, .int (a.2.1 + 1)), (0, .ref o), (1, .int x1), (2, .int x2), (3, .int a.1), (4, .int x4)] dX1_mayBe_74 5 rfl (congrArg _ kc_iconst_1) rfl rfl ?_
        refine j_goto (pc := 77) M.1 22 dX1_mayBe_77 rfl ?_
        refine j_sub [1, 2, 3, 4, 5, 0] (show lv_pick _ _ = [(0, .ref o), (1, .int x1), (2, .int x2), (3, .int a.1), (4, .int x4), (5, .int (a.2.1 + 1))] from rfl) ?_
        have hy := hR _ hf
        exact hy
      · replace hf := o_neg c3 hf
        refine j_aload_n (pc := 55) M.1 dX1_mayBe_55 0 rfl ?_
        refine j_iload_n (pc := 56) M.1 dX1_mayBe_56 1 rfl ?_
        refine j_iload (pc := 57) M.1 dX1_mayBe_57 4 rfl ?_
        refine j_iload (pc := 59) M.1 dX1_mayBe_59 5 rfl ?_
        obtain ⟨r2, g2, hf⟩ := o_bind hf
        refine jm_calli (pc := 61) (As := [.int x1, .int x4, .int a.2.1]) (rest := []) M cm_479 (met_isMeant g2) rfl rfl rfl rfl dX1_mayBe_61 ?_
        refine j_if_eq (pc := 64) M.1 74 dX1_mayBe_64 rfl (fun c4 => ?_) (fun c4 => ?_)
        · replace hf := o_pos c4 hf
          refine j_iinc (pc := 74) M.1 [(5, .int (a.2.1 + 1)), (0, .ref o), (1, .int x1), (2, .int x2), (3, .int a.1), (4, .int x4)] dX1_mayBe_74 5 rfl (congrArg _ kc_iconst_1) rfl rfl ?_
          refine j_goto (pc := 77) M.1 22 dX1_mayBe_77 rfl ?_
          refine j_sub [1, 2, 3, 4, 5, 0] (show lv_pick _ _ = [(0, .ref o), (1, .int x1), (2, .int x2), (3, .int a.1), (4, .int x4), (5, .int (a.2.1 + 1))] from rfl) ?_
          have hy := hR _ hf
          exact hy
        · replace hf := o_neg c4 hf
          refine j_iload_n (pc := 67) M.1 dX1_mayBe_67 3 rfl ?_
          refine j_iconst (pc := 68) M.1 dX1_mayBe_68 kc_iconst_1 ?_
          refine j_iload (pc := 69) M.1 dX1_mayBe_69 4 rfl ?_
          refine j_ishl (pc := 71) M.1 dX1_mayBe_71 ?_
          refine j_ior (pc := 72) M.1 dX1_mayBe_72 ?_
          obtain ⟨y1, e1, hf⟩ := o_nx hf
          refine j_top e1 ?_
          refine j_istore_n (pc := 73) M.1 [(3, .int y1), (0, .ref o), (1, .int x1), (2, .int x2), (4, .int x4), (5, .int a.2.1)] dX1_mayBe_73 rfl rfl ?_
          refine j_iinc (pc := 74) M.1 [(5, .int (a.2.1 + 1)), (3, .int y1), (0, .ref o), (1, .int x1), (2, .int x2), (4, .int x4)] dX1_mayBe_74 5 rfl (congrArg _ kc_iconst_1) rfl rfl ?_
          refine j_goto (pc := 77) M.1 22 dX1_mayBe_77 rfl ?_
          refine j_sub [2, 3, 4, 1, 5, 0] (show lv_pick _ _ = [(0, .ref o), (1, .int x1), (2, .int x2), (3, .int y1), (4, .int x4), (5, .int (a.2.1 + 1))] from rfl) ?_
          have hy := hR _ hf
          exact hy
noncomputable def m_mayBe_B5 (F : Nat) (x1 x2 : Int32) (R : Int32 × Int32 × MS → Option (Int32 × MS)) (a : Int32 × Int32 × MS) : Option (Int32 × MS) :=
  if (a.2.2.1 3) ≤ a.2.1 then (some (a.1, a.2.2)) else (if okI x1 150 = true then nx (a.2.2.2 41 x1.toNatClampNeg : Int32) (fun y1 => lp (m_mayBe_B22 F (fun a1 => R (a1.1, a.2.1 + 1, a1.2.2)) x1 x2 a.2.1) F (a.1, y1, a.2.2)) else none)
theorem km_mayBe_B5 (M : MC γ cX1_mayBe 6 G o 6 (some .int) (mQi G o res)) (x1 x2 : Int32) : ∀ R : Int32 × Int32 × MS → Option (Int32 × MS), (∀ a, R a = some res → J γ (MW G o a.2.2) 0 0 5 [(0, .ref o), (1, .int x1), (2, .int x2), (3, .int a.1), (4, .int a.2.1)] []) → ∀ a, m_mayBe_B5 F x1 x2 R a = some res → J γ (MW G o a.2.2) 0 0 5 [(0, .ref o), (1, .int x1), (2, .int x2), (3, .int a.1), (4, .int a.2.1)] [] := by
  intro R hR a hf
  unfold m_mayBe_B5 at hf
  refine j_iload (pc := 5) M.1 dX1_mayBe_5 4 rfl ?_
  refine j_aload_n (pc := 7) M.1 dX1_mayBe_7 0 rfl ?_
  refine jm_getS (pc := 8) M fm_282 dX1_mayBe_8 ?_
  refine j_icmp_ge (pc := 11) M.1 86 dX1_mayBe_11 rfl (fun c1 => ?_) (fun c1 => ?_)
  · replace hf := o_pos c1 hf
    refine j_iload_n (pc := 86) M.1 dX1_mayBe_86 3 rfl ?_
    exact jm_iret (pc := 87) M dX1_mayBe_87 hf
  · replace hf := o_neg c1 hf
    refine j_aload_n (pc := 14) M.1 dX1_mayBe_14 0 rfl ?_
    refine jm_getA (pc := 15) M fa_139 dX1_mayBe_15 ?_
    refine j_iload_n (pc := 18) M.1 dX1_mayBe_18 1 rfl ?_
    obtain ⟨b1, hf⟩ := o_need hf
    refine jm_iald (pc := 19) M ax_41 b1 dX1_mayBe_19 ?_
    obtain ⟨y1, e1, hf⟩ := o_nx hf
    refine j_top e1 ?_
    refine j_istore (pc := 20) M.1 [(5, .int y1), (0, .ref o), (1, .int x1), (2, .int x2), (3, .int a.1), (4, .int a.2.1)] dX1_mayBe_20 rfl rfl ?_
    refine j_sub [1, 2, 3, 4, 5, 0] (show lv_pick _ _ = [(0, .ref o), (1, .int x1), (2, .int x2), (3, .int a.1), (4, .int a.2.1), (5, .int y1)] from rfl) ?_
    refine lp_W (km_mayBe_B22 M x1 x2 a.2.1 _ ?_) F (a.1, y1, a.2.2) hf
    · intro a1 hf
      refine j_iinc (pc := 80) M.1 [(4, .int (a.2.1 + 1)), (0, .ref o), (1, .int x1), (2, .int x2), (3, .int a1.1)] dX1_mayBe_80 4 rfl (congrArg _ kc_iconst_1) rfl rfl ?_
      refine j_goto (pc := 83) M.1 5 dX1_mayBe_83 rfl ?_
      refine j_sub [1, 2, 3, 4, 0] (show lv_pick _ _ = [(0, .ref o), (1, .int x1), (2, .int x2), (3, .int a1.1), (4, .int (a.2.1 + 1))] from rfl) ?_
      have hy := hR _ hf
      exact hy
noncomputable def m_mayBe (F : Nat) (x1 x2 : Int32) (σ : MS) : Option (Int32 × MS) :=
  lp (m_mayBe_B5 F x1 x2) F (0, 0, σ)
theorem met_mayBe {l : Launch} {G : gG} {o F : Nat} {x1 x2 : Int32} {σ : MS} {res : Int32 × MS} (hf : m_mayBe F x1 x2 σ = some res) : MetMi l G yX1_mayBe cX1_mayBe 6 (some .int) 6 o [.int x1, .int x2] σ res := by
  refine metMi_of (by decide) rfl rfl (fun γ hγ M => ?_)
  subst hγ
  show J γ (MW G o σ) 0 0 0 [(0, .ref o), (1, .int x1), (2, .int x2)] []
  unfold m_mayBe at hf
  refine j_iconst (pc := 0) M.1 dX1_mayBe_0 kc_iconst_0 ?_
  refine j_istore_n (pc := 1) M.1 [(3, .int 0), (0, .ref o), (1, .int x1), (2, .int x2)] dX1_mayBe_1 rfl rfl ?_
  refine j_iconst (pc := 2) M.1 dX1_mayBe_2 kc_iconst_0 ?_
  refine j_istore (pc := 3) M.1 [(4, .int 0), (3, .int 0), (0, .ref o), (1, .int x1), (2, .int x2)] dX1_mayBe_3 rfl rfl ?_
  refine j_sub [2, 3, 4, 1, 0] (show lv_pick _ _ = [(0, .ref o), (1, .int x1), (2, .int x2), (3, .int 0), (4, .int 0)] from rfl) ?_
  refine lp_W (km_mayBe_B5 M x1 x2) F (0, 0, σ) hf
end
theorem dX1_readsCompared_0 : decode cX1_readsCompared 0 = .ok (.aload_n 0, 1) := by decide +kernel
theorem dX1_readsCompared_1 : decode cX1_readsCompared 1 = .ok (.invokevirtual 411, 3) := by decide +kernel
theorem dX1_readsCompared_4 : decode cX1_readsCompared 4 = .ok (.ifCond .ne 5, 3) := by decide +kernel
theorem dX1_readsCompared_7 : decode cX1_readsCompared 7 = .ok (.iconst 0, 1) := by decide +kernel
theorem dX1_readsCompared_8 : decode cX1_readsCompared 8 = .ok (.ireturn, 1) := by decide +kernel
theorem dX1_readsCompared_9 : decode cX1_readsCompared 9 = .ok (.aload_n 0, 1) := by decide +kernel
theorem dX1_readsCompared_10 : decode cX1_readsCompared 10 = .ok (.invokevirtual 354, 3) := by decide +kernel
theorem dX1_readsCompared_13 : decode cX1_readsCompared 13 = .ok (.bipush 60, 2) := by decide +kernel
theorem dX1_readsCompared_15 : decode cX1_readsCompared 15 = .ok (.if_icmp .ne 8, 3) := by decide +kernel
theorem dX1_readsCompared_18 : decode cX1_readsCompared 18 = .ok (.bipush 7, 2) := by decide +kernel
theorem dX1_readsCompared_20 : decode cX1_readsCompared 20 = .ok (.goto 32, 3) := by decide +kernel
theorem dX1_readsCompared_23 : decode cX1_readsCompared 23 = .ok (.aload_n 0, 1) := by decide +kernel
theorem dX1_readsCompared_24 : decode cX1_readsCompared 24 = .ok (.invokevirtual 354, 3) := by decide +kernel
theorem dX1_readsCompared_27 : decode cX1_readsCompared 27 = .ok (.bipush 62, 2) := by decide +kernel
theorem dX1_readsCompared_29 : decode cX1_readsCompared 29 = .ok (.if_icmp .ne 8, 3) := by decide +kernel
theorem dX1_readsCompared_32 : decode cX1_readsCompared 32 = .ok (.bipush 8, 2) := by decide +kernel
theorem dX1_readsCompared_34 : decode cX1_readsCompared 34 = .ok (.goto 18, 3) := by decide +kernel
theorem dX1_readsCompared_37 : decode cX1_readsCompared 37 = .ok (.aload_n 0, 1) := by decide +kernel
theorem dX1_readsCompared_38 : decode cX1_readsCompared 38 = .ok (.invokevirtual 354, 3) := by decide +kernel
theorem dX1_readsCompared_41 : decode cX1_readsCompared 41 = .ok (.bipush 61, 2) := by decide +kernel
theorem dX1_readsCompared_43 : decode cX1_readsCompared 43 = .ok (.if_icmp .ne 8, 3) := by decide +kernel
theorem dX1_readsCompared_46 : decode cX1_readsCompared 46 = .ok (.bipush 9, 2) := by decide +kernel
theorem dX1_readsCompared_48 : decode cX1_readsCompared 48 = .ok (.goto 4, 3) := by decide +kernel
theorem dX1_readsCompared_51 : decode cX1_readsCompared 51 = .ok (.iconst (-1), 1) := by decide +kernel
theorem dX1_readsCompared_52 : decode cX1_readsCompared 52 = .ok (.istore_n 1, 1) := by decide +kernel
theorem dX1_readsCompared_53 : decode cX1_readsCompared 53 = .ok (.iload_n 1, 1) := by decide +kernel
theorem dX1_readsCompared_54 : decode cX1_readsCompared 54 = .ok (.iconst (-1), 1) := by decide +kernel
theorem dX1_readsCompared_55 : decode cX1_readsCompared 55 = .ok (.if_icmp .ne 13, 3) := by decide +kernel
theorem dX1_readsCompared_58 : decode cX1_readsCompared 58 = .ok (.aload_n 0, 1) := by decide +kernel
theorem dX1_readsCompared_59 : decode cX1_readsCompared 59 = .ok (.iconst 1, 1) := by decide +kernel
theorem dX1_readsCompared_60 : decode cX1_readsCompared 60 = .ok (.aload_n 0, 1) := by decide +kernel
theorem dX1_readsCompared_61 : decode cX1_readsCompared 61 = .ok (.getfield 348, 3) := by decide +kernel
theorem dX1_readsCompared_64 : decode cX1_readsCompared 64 = .ok (.invokevirtual 361, 3) := by decide +kernel
theorem dX1_readsCompared_67 : decode cX1_readsCompared 67 = .ok (.ireturn, 1) := by decide +kernel
theorem dX1_readsCompared_68 : decode cX1_readsCompared 68 = .ok (.aload_n 0, 1) := by decide +kernel
theorem dX1_readsCompared_69 : decode cX1_readsCompared 69 = .ok (.aload_n 0, 1) := by decide +kernel
theorem dX1_readsCompared_70 : decode cX1_readsCompared 70 = .ok (.getfield 348, 3) := by decide +kernel
theorem dX1_readsCompared_73 : decode cX1_readsCompared 73 = .ok (.iconst 1, 1) := by decide +kernel
theorem dX1_readsCompared_74 : decode cX1_readsCompared 74 = .ok (.iadd, 1) := by decide +kernel
theorem dX1_readsCompared_75 : decode cX1_readsCompared 75 = .ok (.putfield 348, 3) := by decide +kernel
theorem dX1_readsCompared_78 : decode cX1_readsCompared 78 = .ok (.aload_n 0, 1) := by decide +kernel
theorem dX1_readsCompared_79 : decode cX1_readsCompared 79 = .ok (.invokevirtual 411, 3) := by decide +kernel
theorem dX1_readsCompared_82 : decode cX1_readsCompared 82 = .ok (.ifCond .ne 5, 3) := by decide +kernel
theorem dX1_readsCompared_85 : decode cX1_readsCompared 85 = .ok (.iconst 0, 1) := by decide +kernel
theorem dX1_readsCompared_86 : decode cX1_readsCompared 86 = .ok (.ireturn, 1) := by decide +kernel
theorem dX1_readsCompared_87 : decode cX1_readsCompared 87 = .ok (.aload_n 0, 1) := by decide +kernel
theorem dX1_readsCompared_88 : decode cX1_readsCompared 88 = .ok (.iload_n 1, 1) := by decide +kernel
theorem dX1_readsCompared_89 : decode cX1_readsCompared 89 = .ok (.iconst 0, 1) := by decide +kernel
theorem dX1_readsCompared_90 : decode cX1_readsCompared 90 = .ok (.invokevirtual 384, 3) := by decide +kernel
theorem dX1_readsCompared_93 : decode cX1_readsCompared 93 = .ok (.aload_n 0, 1) := by decide +kernel
theorem dX1_readsCompared_94 : decode cX1_readsCompared 94 = .ok (.invokevirtual 414, 3) := by decide +kernel
theorem dX1_readsCompared_97 : decode cX1_readsCompared 97 = .ok (.iconst 1, 1) := by decide +kernel
theorem dX1_readsCompared_98 : decode cX1_readsCompared 98 = .ok (.ireturn, 1) := by decide +kernel
section
variable {res : Int32 × MS}
noncomputable def m_readsCompared_52 (F : Nat) (s0 : Int32) (σ : MS) : Option (Int32 × MS) :=
  if s0 = ((-1)) then ((m_wrong F 1 (σ.1 29) σ).bind (fun r4 => if okB r4.1 = true then some (r4.1, r4.2) else none)) else (nx (sS σ 29 ((σ.1 29) + 1)) (fun σ1 => (m_readsSum F σ1).bind (fun r1 => if r1.1 = 0 then (some (0, r1.2)) else ((m_says F s0 0 r1.2).bind (fun r2 => (m_endsPiece F r2.2).bind (fun r3 => some (1, r3.2)))))))
theorem km_readsCompared_52 (M : MC γ cX1_readsCompared 2 G o 6 (some .boolean) (mQi G o res)) (s0 : Int32) (σ : MS) (hf : m_readsCompared_52 F s0 σ = some res) : J γ (MW G o σ) 0 0 52 [(0, .ref o)] [.int s0] := by
  unfold m_readsCompared_52 at hf
  refine j_istore_n (pc := 52) M.1 [(1, .int s0), (0, .ref o)] dX1_readsCompared_52 rfl rfl ?_
  refine j_iload_n (pc := 53) M.1 dX1_readsCompared_53 0 rfl ?_
  refine j_iconst (pc := 54) M.1 dX1_readsCompared_54 kc_iconst_m1 ?_
  refine j_icmp_ne (pc := 55) M.1 68 dX1_readsCompared_55 rfl (fun c1 => ?_) (fun c1 => ?_)
  · replace hf := o_neg c1 hf
    refine j_aload_n (pc := 68) M.1 dX1_readsCompared_68 1 rfl ?_
    refine j_aload_n (pc := 69) M.1 dX1_readsCompared_69 1 rfl ?_
    refine jm_getS (pc := 70) M fm_348 dX1_readsCompared_70 ?_
    refine j_iconst (pc := 73) M.1 dX1_readsCompared_73 kc_iconst_1 ?_
    refine j_iadd (pc := 74) M.1 dX1_readsCompared_74 ?_
    obtain ⟨σ1, e1, hf⟩ := o_nx hf
    refine jm_put (pc := 75) M fm_348 dX1_readsCompared_75 e1 ?_
    refine j_aload_n (pc := 78) M.1 dX1_readsCompared_78 1 rfl ?_
    obtain ⟨r1, g1, hf⟩ := o_bind hf
    refine jm_calli (pc := 79) (As := []) (rest := []) M cm_411 (met_readsSum g1) rfl rfl rfl rfl dX1_readsCompared_79 ?_
    refine j_if_ne (pc := 82) M.1 87 dX1_readsCompared_82 rfl (fun c2 => ?_) (fun c2 => ?_)
    · replace hf := o_neg c2 hf
      refine j_aload_n (pc := 87) M.1 dX1_readsCompared_87 1 rfl ?_
      refine j_iload_n (pc := 88) M.1 dX1_readsCompared_88 0 rfl ?_
      refine j_iconst (pc := 89) M.1 dX1_readsCompared_89 kc_iconst_0 ?_
      obtain ⟨r2, g2, hf⟩ := o_bind hf
      refine jm_callv (pc := 90) (As := [.int s0, .int 0]) (rest := []) M cm_384 (met_says g2) rfl rfl rfl rfl dX1_readsCompared_90 ?_
      refine j_aload_n (pc := 93) M.1 dX1_readsCompared_93 1 rfl ?_
      obtain ⟨r3, g3, hf⟩ := o_bind hf
      refine jm_callv (pc := 94) (As := []) (rest := []) M cm_414 (met_endsPiece g3) rfl rfl rfl rfl dX1_readsCompared_94 ?_
      refine j_iconst (pc := 97) M.1 dX1_readsCompared_97 kc_iconst_1 ?_
      exact jm_zret (pc := 98) M dX1_readsCompared_98 rfl hf
    · replace hf := o_pos c2 hf
      refine j_iconst (pc := 85) M.1 dX1_readsCompared_85 kc_iconst_0 ?_
      exact jm_zret (pc := 86) M dX1_readsCompared_86 rfl hf
  · replace hf := o_pos c1 hf
    refine j_aload_n (pc := 58) M.1 dX1_readsCompared_58 1 rfl ?_
    refine j_iconst (pc := 59) M.1 dX1_readsCompared_59 kc_iconst_1 ?_
    refine j_aload_n (pc := 60) M.1 dX1_readsCompared_60 1 rfl ?_
    refine jm_getS (pc := 61) M fm_348 dX1_readsCompared_61 ?_
    obtain ⟨r4, g4, hf⟩ := o_bind hf
    refine jm_calli (pc := 64) (As := [.int 1, .int (σ.1 29)]) (rest := []) M cm_361 (met_wrong g4) rfl rfl rfl rfl dX1_readsCompared_64 ?_
    obtain ⟨b1, hf⟩ := o_need hf
    exact jm_zret (pc := 67) M dX1_readsCompared_67 b1 hf
noncomputable def m_readsCompared (F : Nat) (σ : MS) : Option (Int32 × MS) :=
  (m_readsSum F σ).bind (fun r1 => if r1.1 = 0 then (some (0, r1.2)) else ((m_byteHere F r1.2).bind (fun r2 => if r2.1 = 60 then (m_readsCompared_52 F 7 r2.2) else ((m_byteHere F r2.2).bind (fun r3 => if r3.1 = 62 then (m_readsCompared_52 F 8 r3.2) else ((m_byteHere F r3.2).bind (fun r4 => if r4.1 = 61 then (m_readsCompared_52 F 9 r4.2) else (m_readsCompared_52 F ((-1)) r4.2))))))))
theorem met_readsCompared {l : Launch} {G : gG} {o F : Nat} {σ : MS} {res : Int32 × MS} (hf : m_readsCompared F σ = some res) : MetMi l G yX1_readsCompared cX1_readsCompared 2 (some .boolean) 6 o [] σ res := by
  refine metMi_of (by decide) rfl rfl (fun γ hγ M => ?_)
  subst hγ
  show J γ (MW G o σ) 0 0 0 [(0, .ref o)] []
  unfold m_readsCompared at hf
  refine j_aload_n (pc := 0) M.1 dX1_readsCompared_0 0 rfl ?_
  obtain ⟨r1, g1, hf⟩ := o_bind hf
  refine jm_calli (pc := 1) (As := []) (rest := []) M cm_411 (met_readsSum g1) rfl rfl rfl rfl dX1_readsCompared_1 ?_
  refine j_if_ne (pc := 4) M.1 9 dX1_readsCompared_4 rfl (fun c1 => ?_) (fun c1 => ?_)
  · replace hf := o_neg c1 hf
    refine j_aload_n (pc := 9) M.1 dX1_readsCompared_9 0 rfl ?_
    obtain ⟨r2, g2, hf⟩ := o_bind hf
    refine jm_calli (pc := 10) (As := []) (rest := []) M cm_354 (met_byteHere g2) rfl rfl rfl rfl dX1_readsCompared_10 ?_
    refine j_bipush (pc := 13) M.1 dX1_readsCompared_13 kc_bipush_60 ?_
    refine j_icmp_ne (pc := 15) M.1 23 dX1_readsCompared_15 rfl (fun c2 => ?_) (fun c2 => ?_)
    · replace hf := o_neg c2 hf
      refine j_aload_n (pc := 23) M.1 dX1_readsCompared_23 0 rfl ?_
      obtain ⟨r3, g3, hf⟩ := o_bind hf
      refine jm_calli (pc := 24) (As := []) (rest := []) M cm_354 (met_byteHere g3) rfl rfl rfl rfl dX1_readsCompared_24 ?_
      refine j_bipush (pc := 27) M.1 dX1_readsCompared_27 kc_bipush_62 ?_
      refine j_icmp_ne (pc := 29) M.1 37 dX1_readsCompared_29 rfl (fun c3 => ?_) (fun c3 => ?_)
      · replace hf := o_neg c3 hf
        refine j_aload_n (pc := 37) M.1 dX1_readsCompared_37 0 rfl ?_
        obtain ⟨r4, g4, hf⟩ := o_bind hf
        refine jm_calli (pc := 38) (As := []) (rest := []) M cm_354 (met_byteHere g4) rfl rfl rfl rfl dX1_readsCompared_38 ?_
        refine j_bipush (pc := 41) M.1 dX1_readsCompared_41 kc_bipush_61 ?_
        refine j_icmp_ne (pc := 43) M.1 51 dX1_readsCompared_43 rfl (fun c4 => ?_) (fun c4 => ?_)
        · replace hf := o_neg c4 hf
          refine j_iconst (pc := 51) M.1 dX1_readsCompared_51 kc_iconst_m1 ?_
          exact km_readsCompared_52 M ((-1)) r4.2 hf
        · replace hf := o_pos c4 hf
          refine j_bipush (pc := 46) M.1 dX1_readsCompared_46 kc_bipush_9 ?_
          refine j_goto (pc := 48) M.1 52 dX1_readsCompared_48 rfl ?_
          exact km_readsCompared_52 M 9 r4.2 hf
      · replace hf := o_pos c3 hf
        refine j_bipush (pc := 32) M.1 dX1_readsCompared_32 kc_bipush_8 ?_
        refine j_goto (pc := 34) M.1 52 dX1_readsCompared_34 rfl ?_
        exact km_readsCompared_52 M 8 r3.2 hf
    · replace hf := o_pos c2 hf
      refine j_bipush (pc := 18) M.1 dX1_readsCompared_18 kc_bipush_7 ?_
      refine j_goto (pc := 20) M.1 52 dX1_readsCompared_20 rfl ?_
      exact km_readsCompared_52 M 7 r2.2 hf
  · replace hf := o_pos c1 hf
    refine j_iconst (pc := 7) M.1 dX1_readsCompared_7 kc_iconst_0 ?_
    exact jm_zret (pc := 8) M dX1_readsCompared_8 rfl hf
end
theorem dX1_wouldHave_0 : decode cX1_wouldHave 0 = .ok (.iconst 0, 1) := by decide +kernel
theorem dX1_wouldHave_1 : decode cX1_wouldHave 1 = .ok (.istore_n 3, 1) := by decide +kernel
theorem dX1_wouldHave_2 : decode cX1_wouldHave 2 = .ok (.iload_n 3, 1) := by decide +kernel
theorem dX1_wouldHave_3 : decode cX1_wouldHave 3 = .ok (.aload_n 0, 1) := by decide +kernel
theorem dX1_wouldHave_4 : decode cX1_wouldHave 4 = .ok (.getfield 491, 3) := by decide +kernel
theorem dX1_wouldHave_7 : decode cX1_wouldHave 7 = .ok (.if_icmp .ge 30, 3) := by decide +kernel
theorem dX1_wouldHave_10 : decode cX1_wouldHave 10 = .ok (.aload_n 0, 1) := by decide +kernel
theorem dX1_wouldHave_11 : decode cX1_wouldHave 11 = .ok (.getfield 163, 3) := by decide +kernel
theorem dX1_wouldHave_14 : decode cX1_wouldHave 14 = .ok (.iload_n 3, 1) := by decide +kernel
theorem dX1_wouldHave_15 : decode cX1_wouldHave 15 = .ok (.iaload, 1) := by decide +kernel
theorem dX1_wouldHave_16 : decode cX1_wouldHave 16 = .ok (.iload_n 1, 1) := by decide +kernel
theorem dX1_wouldHave_17 : decode cX1_wouldHave 17 = .ok (.if_icmp .ne 14, 3) := by decide +kernel
theorem dX1_wouldHave_20 : decode cX1_wouldHave 20 = .ok (.aload_n 0, 1) := by decide +kernel
theorem dX1_wouldHave_21 : decode cX1_wouldHave 21 = .ok (.iload_n 2, 1) := by decide +kernel
theorem dX1_wouldHave_22 : decode cX1_wouldHave 22 = .ok (.iload_n 3, 1) := by decide +kernel
theorem dX1_wouldHave_23 : decode cX1_wouldHave 23 = .ok (.invokevirtual 500, 3) := by decide +kernel
theorem dX1_wouldHave_26 : decode cX1_wouldHave 26 = .ok (.ifCond .eq 5, 3) := by decide +kernel
theorem dX1_wouldHave_29 : decode cX1_wouldHave 29 = .ok (.iconst 1, 1) := by decide +kernel
theorem dX1_wouldHave_30 : decode cX1_wouldHave 30 = .ok (.ireturn, 1) := by decide +kernel
theorem dX1_wouldHave_31 : decode cX1_wouldHave 31 = .ok (.iinc 3 1, 3) := by decide +kernel
theorem dX1_wouldHave_34 : decode cX1_wouldHave 34 = .ok (.goto (-32), 3) := by decide +kernel
theorem dX1_wouldHave_37 : decode cX1_wouldHave 37 = .ok (.iconst 0, 1) := by decide +kernel
theorem dX1_wouldHave_38 : decode cX1_wouldHave 38 = .ok (.ireturn, 1) := by decide +kernel
section
variable {res : Int32 × MS}
noncomputable def m_wouldHave_B2 (F : Nat) (x1 x2 : Int32) (R : Int32 × MS → Option (Int32 × MS)) (a : Int32 × MS) : Option (Int32 × MS) :=
  if (a.2.1 68) ≤ a.1 then (some (0, a.2)) else (if okI a.1 60 = true then if (a.2.2 49 a.1.toNatClampNeg) = x1 then ((m_couldBe F x2 a.1 a.2).bind (fun r1 => if r1.1 = 0 then (R (a.1 + 1, r1.2)) else (some (1, r1.2)))) else (R (a.1 + 1, a.2)) else none)
theorem km_wouldHave_B2 (M : MC γ cX1_wouldHave 4 G o 6 (some .boolean) (mQi G o res)) (x1 x2 : Int32) : ∀ R : Int32 × MS → Option (Int32 × MS), (∀ a, R a = some res → J γ (MW G o a.2) 0 0 2 [(0, .ref o), (1, .int x1), (2, .int x2), (3, .int a.1)] []) → ∀ a, m_wouldHave_B2 F x1 x2 R a = some res → J γ (MW G o a.2) 0 0 2 [(0, .ref o), (1, .int x1), (2, .int x2), (3, .int a.1)] [] := by
  intro R hR a hf
  unfold m_wouldHave_B2 at hf
  refine j_iload_n (pc := 2) M.1 dX1_wouldHave_2 3 rfl ?_
  refine j_aload_n (pc := 3) M.1 dX1_wouldHave_3 0 rfl ?_
  refine jm_getS (pc := 4) M fm_491 dX1_wouldHave_4 ?_
  refine j_icmp_ge (pc := 7) M.1 37 dX1_wouldHave_7 rfl (fun c1 => ?_) (fun c1 => ?_)
  · replace hf := o_pos c1 hf
    refine j_iconst (pc := 37) M.1 dX1_wouldHave_37 kc_iconst_0 ?_
    exact jm_zret (pc := 38) M dX1_wouldHave_38 rfl hf
  · replace hf := o_neg c1 hf
    refine j_aload_n (pc := 10) M.1 dX1_wouldHave_10 0 rfl ?_
    refine jm_getA (pc := 11) M fa_163 dX1_wouldHave_11 ?_
    refine j_iload_n (pc := 14) M.1 dX1_wouldHave_14 3 rfl ?_
    obtain ⟨b1, hf⟩ := o_need hf
    refine jm_iald (pc := 15) M ax_49 b1 dX1_wouldHave_15 ?_
    refine j_iload_n (pc := 16) M.1 dX1_wouldHave_16 1 rfl ?_
    refine j_icmp_ne (pc := 17) M.1 31 dX1_wouldHave_17 rfl (fun c2 => ?_) (fun c2 => ?_)
    · replace hf := o_neg c2 hf
      refine j_iinc (pc := 31) M.1 [(3, .int (a.1 + 1)), (0, .ref o), (1, .int x1), (2, .int x2)] dX1_wouldHave_31 3 rfl (congrArg _ kc_iconst_1) rfl rfl ?_
      refine j_goto (pc := 34) M.1 2 dX1_wouldHave_34 rfl ?_
      refine j_sub [1, 2, 3, 0] (show lv_pick _ _ = [(0, .ref o), (1, .int x1), (2, .int x2), (3, .int (a.1 + 1))] from rfl) ?_
      have hy := hR _ hf
      exact hy
    · replace hf := o_pos c2 hf
      refine j_aload_n (pc := 20) M.1 dX1_wouldHave_20 0 rfl ?_
      refine j_iload_n (pc := 21) M.1 dX1_wouldHave_21 2 rfl ?_
      refine j_iload_n (pc := 22) M.1 dX1_wouldHave_22 3 rfl ?_
      obtain ⟨r1, g1, hf⟩ := o_bind hf
      refine jm_calli (pc := 23) (As := [.int x2, .int a.1]) (rest := []) M cm_500 (met_couldBe g1) rfl rfl rfl rfl dX1_wouldHave_23 ?_
      refine j_if_eq (pc := 26) M.1 31 dX1_wouldHave_26 rfl (fun c3 => ?_) (fun c3 => ?_)
      · replace hf := o_pos c3 hf
        refine j_iinc (pc := 31) M.1 [(3, .int (a.1 + 1)), (0, .ref o), (1, .int x1), (2, .int x2)] dX1_wouldHave_31 3 rfl (congrArg _ kc_iconst_1) rfl rfl ?_
        refine j_goto (pc := 34) M.1 2 dX1_wouldHave_34 rfl ?_
        refine j_sub [1, 2, 3, 0] (show lv_pick _ _ = [(0, .ref o), (1, .int x1), (2, .int x2), (3, .int (a.1 + 1))] from rfl) ?_
        have hy := hR _ hf
        exact hy
      · replace hf := o_neg c3 hf
        refine j_iconst (pc := 29) M.1 dX1_wouldHave_29 kc_iconst_1 ?_
        exact jm_zret (pc := 30) M dX1_wouldHave_30 rfl hf
noncomputable def m_wouldHave (F : Nat) (x1 x2 : Int32) (σ : MS) : Option (Int32 × MS) :=
  lp (m_wouldHave_B2 F x1 x2) F (0, σ)
theorem met_wouldHave {l : Launch} {G : gG} {o F : Nat} {x1 x2 : Int32} {σ : MS} {res : Int32 × MS} (hf : m_wouldHave F x1 x2 σ = some res) : MetMi l G yX1_wouldHave cX1_wouldHave 4 (some .boolean) 6 o [.int x1, .int x2] σ res := by
  refine metMi_of (by decide) rfl rfl (fun γ hγ M => ?_)
  subst hγ
  show J γ (MW G o σ) 0 0 0 [(0, .ref o), (1, .int x1), (2, .int x2)] []
  unfold m_wouldHave at hf
  refine j_iconst (pc := 0) M.1 dX1_wouldHave_0 kc_iconst_0 ?_
  refine j_istore_n (pc := 1) M.1 [(3, .int 0), (0, .ref o), (1, .int x1), (2, .int x2)] dX1_wouldHave_1 rfl rfl ?_
  refine j_sub [1, 2, 3, 0] (show lv_pick _ _ = [(0, .ref o), (1, .int x1), (2, .int x2), (3, .int 0)] from rfl) ?_
  refine lp_W (km_wouldHave_B2 M x1 x2) F (0, σ) hf
end
theorem dX1_isLost_0 : decode cX1_isLost 0 = .ok (.iconst 0, 1) := by decide +kernel
theorem dX1_isLost_1 : decode cX1_isLost 1 = .ok (.istore_n 2, 1) := by decide +kernel
theorem dX1_isLost_2 : decode cX1_isLost 2 = .ok (.iload_n 2, 1) := by decide +kernel
theorem dX1_isLost_3 : decode cX1_isLost 3 = .ok (.aload_n 0, 1) := by decide +kernel
theorem dX1_isLost_4 : decode cX1_isLost 4 = .ok (.getfield 491, 3) := by decide +kernel
theorem dX1_isLost_7 : decode cX1_isLost 7 = .ok (.if_icmp .ge 20, 3) := by decide +kernel
theorem dX1_isLost_10 : decode cX1_isLost 10 = .ok (.aload_n 0, 1) := by decide +kernel
theorem dX1_isLost_11 : decode cX1_isLost 11 = .ok (.iload_n 1, 1) := by decide +kernel
theorem dX1_isLost_12 : decode cX1_isLost 12 = .ok (.iload_n 2, 1) := by decide +kernel
theorem dX1_isLost_13 : decode cX1_isLost 13 = .ok (.invokevirtual 503, 3) := by decide +kernel
theorem dX1_isLost_16 : decode cX1_isLost 16 = .ok (.ifCond .eq 5, 3) := by decide +kernel
theorem dX1_isLost_19 : decode cX1_isLost 19 = .ok (.iconst 0, 1) := by decide +kernel
theorem dX1_isLost_20 : decode cX1_isLost 20 = .ok (.ireturn, 1) := by decide +kernel
theorem dX1_isLost_21 : decode cX1_isLost 21 = .ok (.iinc 2 1, 3) := by decide +kernel
theorem dX1_isLost_24 : decode cX1_isLost 24 = .ok (.goto (-22), 3) := by decide +kernel
theorem dX1_isLost_27 : decode cX1_isLost 27 = .ok (.iconst 1, 1) := by decide +kernel
theorem dX1_isLost_28 : decode cX1_isLost 28 = .ok (.ireturn, 1) := by decide +kernel
section
variable {res : Int32 × MS}
noncomputable def m_isLost_B2 (F : Nat) (x1 : Int32) (R : Int32 × MS → Option (Int32 × MS)) (a : Int32 × MS) : Option (Int32 × MS) :=
  if (a.2.1 68) ≤ a.1 then (some (1, a.2)) else ((m_isLike F x1 a.1 a.2).bind (fun r1 => if r1.1 = 0 then (R (a.1 + 1, r1.2)) else (some (0, r1.2))))
theorem km_isLost_B2 (M : MC γ cX1_isLost 3 G o 7 (some .boolean) (mQi G o res)) (x1 : Int32) : ∀ R : Int32 × MS → Option (Int32 × MS), (∀ a, R a = some res → J γ (MW G o a.2) 0 0 2 [(0, .ref o), (1, .int x1), (2, .int a.1)] []) → ∀ a, m_isLost_B2 F x1 R a = some res → J γ (MW G o a.2) 0 0 2 [(0, .ref o), (1, .int x1), (2, .int a.1)] [] := by
  intro R hR a hf
  unfold m_isLost_B2 at hf
  refine j_iload_n (pc := 2) M.1 dX1_isLost_2 2 rfl ?_
  refine j_aload_n (pc := 3) M.1 dX1_isLost_3 0 rfl ?_
  refine jm_getS (pc := 4) M fm_491 dX1_isLost_4 ?_
  refine j_icmp_ge (pc := 7) M.1 27 dX1_isLost_7 rfl (fun c1 => ?_) (fun c1 => ?_)
  · replace hf := o_pos c1 hf
    refine j_iconst (pc := 27) M.1 dX1_isLost_27 kc_iconst_1 ?_
    exact jm_zret (pc := 28) M dX1_isLost_28 rfl hf
  · replace hf := o_neg c1 hf
    refine j_aload_n (pc := 10) M.1 dX1_isLost_10 0 rfl ?_
    refine j_iload_n (pc := 11) M.1 dX1_isLost_11 1 rfl ?_
    refine j_iload_n (pc := 12) M.1 dX1_isLost_12 2 rfl ?_
    obtain ⟨r1, g1, hf⟩ := o_bind hf
    refine jm_calli (pc := 13) (As := [.int x1, .int a.1]) (rest := []) M cm_503 (met_isLike g1) rfl rfl rfl rfl dX1_isLost_13 ?_
    refine j_if_eq (pc := 16) M.1 21 dX1_isLost_16 rfl (fun c2 => ?_) (fun c2 => ?_)
    · replace hf := o_pos c2 hf
      refine j_iinc (pc := 21) M.1 [(2, .int (a.1 + 1)), (0, .ref o), (1, .int x1)] dX1_isLost_21 2 rfl (congrArg _ kc_iconst_1) rfl rfl ?_
      refine j_goto (pc := 24) M.1 2 dX1_isLost_24 rfl ?_
      refine j_sub [1, 2, 0] (show lv_pick _ _ = [(0, .ref o), (1, .int x1), (2, .int (a.1 + 1))] from rfl) ?_
      have hy := hR _ hf
      exact hy
    · replace hf := o_neg c2 hf
      refine j_iconst (pc := 19) M.1 dX1_isLost_19 kc_iconst_0 ?_
      exact jm_zret (pc := 20) M dX1_isLost_20 rfl hf
noncomputable def m_isLost (F : Nat) (x1 : Int32) (σ : MS) : Option (Int32 × MS) :=
  lp (m_isLost_B2 F x1) F (0, σ)
theorem met_isLost {l : Launch} {G : gG} {o F : Nat} {x1 : Int32} {σ : MS} {res : Int32 × MS} (hf : m_isLost F x1 σ = some res) : MetMi l G yX1_isLost cX1_isLost 3 (some .boolean) 7 o [.int x1] σ res := by
  refine metMi_of (by decide) rfl rfl (fun γ hγ M => ?_)
  subst hγ
  show J γ (MW G o σ) 0 0 0 [(0, .ref o), (1, .int x1)] []
  unfold m_isLost at hf
  refine j_iconst (pc := 0) M.1 dX1_isLost_0 kc_iconst_0 ?_
  refine j_istore_n (pc := 1) M.1 [(2, .int 0), (0, .ref o), (1, .int x1)] dX1_isLost_1 rfl rfl ?_
  refine j_sub [1, 2, 0] (show lv_pick _ _ = [(0, .ref o), (1, .int x1), (2, .int 0)] from rfl) ?_
  refine lp_W (km_isLost_B2 M x1) F (0, σ) hf
end
theorem dX1_join_0 : decode cX1_join 0 = .ok (.iload_n 1, 1) := by decide +kernel
theorem dX1_join_1 : decode cX1_join 1 = .ok (.iconst 0, 1) := by decide +kernel
theorem dX1_join_2 : decode cX1_join 2 = .ok (.bipush 8, 2) := by decide +kernel
theorem dX1_join_4 : decode cX1_join 4 = .ok (.invokestatic 278, 3) := by decide +kernel
theorem dX1_join_7 : decode cX1_join 7 = .ok (.ifCond .eq 11, 3) := by decide +kernel
theorem dX1_join_10 : decode cX1_join 10 = .ok (.iload_n 1, 1) := by decide +kernel
theorem dX1_join_11 : decode cX1_join 11 = .ok (.aload_n 0, 1) := by decide +kernel
theorem dX1_join_12 : decode cX1_join 12 = .ok (.getfield 341, 3) := by decide +kernel
theorem dX1_join_15 : decode cX1_join 15 = .ok (.if_icmp .le 5, 3) := by decide +kernel
theorem dX1_join_18 : decode cX1_join 18 = .ok (.iconst (-1), 1) := by decide +kernel
theorem dX1_join_19 : decode cX1_join 19 = .ok (.ireturn, 1) := by decide +kernel
theorem dX1_join_20 : decode cX1_join 20 = .ok (.aload_n 0, 1) := by decide +kernel
theorem dX1_join_21 : decode cX1_join 21 = .ok (.iconst 0, 1) := by decide +kernel
theorem dX1_join_22 : decode cX1_join 22 = .ok (.putfield 341, 3) := by decide +kernel
theorem dX1_join_25 : decode cX1_join 25 = .ok (.aload_n 0, 1) := by decide +kernel
theorem dX1_join_26 : decode cX1_join 26 = .ok (.iload_n 1, 1) := by decide +kernel
theorem dX1_join_27 : decode cX1_join 27 = .ok (.invokevirtual 506, 3) := by decide +kernel
theorem dX1_join_30 : decode cX1_join 30 = .ok (.ifCond .ne 6, 3) := by decide +kernel
theorem dX1_join_33 : decode cX1_join 33 = .ok (.bipush (-2), 2) := by decide +kernel
theorem dX1_join_35 : decode cX1_join 35 = .ok (.ireturn, 1) := by decide +kernel
theorem dX1_join_36 : decode cX1_join 36 = .ok (.iconst 0, 1) := by decide +kernel
theorem dX1_join_37 : decode cX1_join 37 = .ok (.istore_n 2, 1) := by decide +kernel
theorem dX1_join_38 : decode cX1_join 38 = .ok (.iload_n 2, 1) := by decide +kernel
theorem dX1_join_39 : decode cX1_join 39 = .ok (.iload_n 1, 1) := by decide +kernel
theorem dX1_join_40 : decode cX1_join 40 = .ok (.if_icmp .ge 65, 3) := by decide +kernel
theorem dX1_join_43 : decode cX1_join 43 = .ok (.iconst 0, 1) := by decide +kernel
theorem dX1_join_44 : decode cX1_join 44 = .ok (.istore_n 3, 1) := by decide +kernel
theorem dX1_join_45 : decode cX1_join 45 = .ok (.iload_n 3, 1) := by decide +kernel
theorem dX1_join_46 : decode cX1_join 46 = .ok (.aload_n 0, 1) := by decide +kernel
theorem dX1_join_47 : decode cX1_join 47 = .ok (.getfield 491, 3) := by decide +kernel
theorem dX1_join_50 : decode cX1_join 50 = .ok (.if_icmp .ge 49, 3) := by decide +kernel
theorem dX1_join_53 : decode cX1_join 53 = .ok (.aload_n 0, 1) := by decide +kernel
theorem dX1_join_54 : decode cX1_join 54 = .ok (.getfield 187, 3) := by decide +kernel
theorem dX1_join_57 : decode cX1_join 57 = .ok (.bipush 60, 2) := by decide +kernel
theorem dX1_join_59 : decode cX1_join 59 = .ok (.iload_n 2, 1) := by decide +kernel
theorem dX1_join_60 : decode cX1_join 60 = .ok (.imul, 1) := by decide +kernel
theorem dX1_join_61 : decode cX1_join 61 = .ok (.iload_n 3, 1) := by decide +kernel
theorem dX1_join_62 : decode cX1_join 62 = .ok (.iadd, 1) := by decide +kernel
theorem dX1_join_63 : decode cX1_join 63 = .ok (.aload_n 0, 1) := by decide +kernel
theorem dX1_join_64 : decode cX1_join 64 = .ok (.aload_n 0, 1) := by decide +kernel
theorem dX1_join_65 : decode cX1_join 65 = .ok (.getfield 172, 3) := by decide +kernel
theorem dX1_join_68 : decode cX1_join 68 = .ok (.iload_n 2, 1) := by decide +kernel
theorem dX1_join_69 : decode cX1_join 69 = .ok (.iaload, 1) := by decide +kernel
theorem dX1_join_70 : decode cX1_join 70 = .ok (.iload_n 3, 1) := by decide +kernel
theorem dX1_join_71 : decode cX1_join 71 = .ok (.invokevirtual 503, 3) := by decide +kernel
theorem dX1_join_74 : decode cX1_join 74 = .ok (.ifCond .eq 17, 3) := by decide +kernel
theorem dX1_join_77 : decode cX1_join 77 = .ok (.aload_n 0, 1) := by decide +kernel
theorem dX1_join_78 : decode cX1_join 78 = .ok (.aload_n 0, 1) := by decide +kernel
theorem dX1_join_79 : decode cX1_join 79 = .ok (.getfield 172, 3) := by decide +kernel
theorem dX1_join_82 : decode cX1_join 82 = .ok (.iload_n 2, 1) := by decide +kernel
theorem dX1_join_83 : decode cX1_join 83 = .ok (.iaload, 1) := by decide +kernel
theorem dX1_join_84 : decode cX1_join 84 = .ok (.iload_n 3, 1) := by decide +kernel
theorem dX1_join_85 : decode cX1_join 85 = .ok (.invokevirtual 497, 3) := by decide +kernel
theorem dX1_join_88 : decode cX1_join 88 = .ok (.goto 4, 3) := by decide +kernel
theorem dX1_join_91 : decode cX1_join 91 = .ok (.iconst (-1), 1) := by decide +kernel
theorem dX1_join_92 : decode cX1_join 92 = .ok (.iastore, 1) := by decide +kernel
theorem dX1_join_93 : decode cX1_join 93 = .ok (.iinc 3 1, 3) := by decide +kernel
theorem dX1_join_96 : decode cX1_join 96 = .ok (.goto (-51), 3) := by decide +kernel
theorem dX1_join_99 : decode cX1_join 99 = .ok (.iinc 2 1, 3) := by decide +kernel
theorem dX1_join_102 : decode cX1_join 102 = .ok (.goto (-64), 3) := by decide +kernel
theorem dX1_join_105 : decode cX1_join 105 = .ok (.iconst 0, 1) := by decide +kernel
theorem dX1_join_106 : decode cX1_join 106 = .ok (.istore_n 2, 1) := by decide +kernel
theorem dX1_join_107 : decode cX1_join 107 = .ok (.iload_n 2, 1) := by decide +kernel
theorem dX1_join_108 : decode cX1_join 108 = .ok (.bipush 60, 2) := by decide +kernel
theorem dX1_join_110 : decode cX1_join 110 = .ok (.if_icmp .ge 16, 3) := by decide +kernel
theorem dX1_join_113 : decode cX1_join 113 = .ok (.aload_n 0, 1) := by decide +kernel
theorem dX1_join_114 : decode cX1_join 114 = .ok (.getfield 184, 3) := by decide +kernel
theorem dX1_join_117 : decode cX1_join 117 = .ok (.iload_n 2, 1) := by decide +kernel
theorem dX1_join_118 : decode cX1_join 118 = .ok (.iconst 0, 1) := by decide +kernel
theorem dX1_join_119 : decode cX1_join 119 = .ok (.bastore, 1) := by decide +kernel
theorem dX1_join_120 : decode cX1_join 120 = .ok (.iinc 2 1, 3) := by decide +kernel
theorem dX1_join_123 : decode cX1_join 123 = .ok (.goto (-16), 3) := by decide +kernel
theorem dX1_join_126 : decode cX1_join 126 = .ok (.aload_n 0, 1) := by decide +kernel
theorem dX1_join_127 : decode cX1_join 127 = .ok (.iconst 0, 1) := by decide +kernel
theorem dX1_join_128 : decode cX1_join 128 = .ok (.iload_n 1, 1) := by decide +kernel
theorem dX1_join_129 : decode cX1_join 129 = .ok (.invokevirtual 509, 3) := by decide +kernel
theorem dX1_join_132 : decode cX1_join 132 = .ok (.istore_n 2, 1) := by decide +kernel
theorem dX1_join_133 : decode cX1_join 133 = .ok (.iload_n 2, 1) := by decide +kernel
theorem dX1_join_134 : decode cX1_join 134 = .ok (.sipush 1000, 3) := by decide +kernel
theorem dX1_join_137 : decode cX1_join 137 = .ok (.idiv, 1) := by decide +kernel
theorem dX1_join_138 : decode cX1_join 138 = .ok (.istore_n 3, 1) := by decide +kernel
theorem dX1_join_139 : decode cX1_join 139 = .ok (.aload_n 0, 1) := by decide +kernel
theorem dX1_join_140 : decode cX1_join 140 = .ok (.iload_n 1, 1) := by decide +kernel
theorem dX1_join_141 : decode cX1_join 141 = .ok (.putfield 512, 3) := by decide +kernel
theorem dX1_join_144 : decode cX1_join 144 = .ok (.iconst 0, 1) := by decide +kernel
theorem dX1_join_145 : decode cX1_join 145 = .ok (.istore 4, 2) := by decide +kernel
theorem dX1_join_147 : decode cX1_join 147 = .ok (.iload 4, 2) := by decide +kernel
theorem dX1_join_149 : decode cX1_join 149 = .ok (.iload_n 1, 1) := by decide +kernel
theorem dX1_join_150 : decode cX1_join 150 = .ok (.if_icmp .ge 155, 3) := by decide +kernel
theorem dX1_join_153 : decode cX1_join 153 = .ok (.bipush 60, 2) := by decide +kernel
theorem dX1_join_155 : decode cX1_join 155 = .ok (.istore 5, 2) := by decide +kernel
theorem dX1_join_157 : decode cX1_join 157 = .ok (.iconst 0, 1) := by decide +kernel
theorem dX1_join_158 : decode cX1_join 158 = .ok (.istore 6, 2) := by decide +kernel
theorem dX1_join_160 : decode cX1_join 160 = .ok (.iload 6, 2) := by decide +kernel
theorem dX1_join_162 : decode cX1_join 162 = .ok (.aload_n 0, 1) := by decide +kernel
theorem dX1_join_163 : decode cX1_join 163 = .ok (.getfield 491, 3) := by decide +kernel
theorem dX1_join_166 : decode cX1_join 166 = .ok (.if_icmp .ge 93, 3) := by decide +kernel
theorem dX1_join_169 : decode cX1_join 169 = .ok (.iload 5, 2) := by decide +kernel
theorem dX1_join_171 : decode cX1_join 171 = .ok (.bipush 60, 2) := by decide +kernel
theorem dX1_join_173 : decode cX1_join 173 = .ok (.if_icmp .ne 86, 3) := by decide +kernel
theorem dX1_join_176 : decode cX1_join 176 = .ok (.aload_n 0, 1) := by decide +kernel
theorem dX1_join_177 : decode cX1_join 177 = .ok (.getfield 187, 3) := by decide +kernel
theorem dX1_join_180 : decode cX1_join 180 = .ok (.bipush 60, 2) := by decide +kernel
theorem dX1_join_182 : decode cX1_join 182 = .ok (.iload 4, 2) := by decide +kernel
theorem dX1_join_184 : decode cX1_join 184 = .ok (.imul, 1) := by decide +kernel
theorem dX1_join_185 : decode cX1_join 185 = .ok (.iload 6, 2) := by decide +kernel
theorem dX1_join_187 : decode cX1_join 187 = .ok (.iadd, 1) := by decide +kernel
theorem dX1_join_188 : decode cX1_join 188 = .ok (.iaload, 1) := by decide +kernel
theorem dX1_join_189 : decode cX1_join 189 = .ok (.istore 7, 2) := by decide +kernel
theorem dX1_join_191 : decode cX1_join 191 = .ok (.aload_n 0, 1) := by decide +kernel
theorem dX1_join_192 : decode cX1_join 192 = .ok (.getfield 184, 3) := by decide +kernel
theorem dX1_join_195 : decode cX1_join 195 = .ok (.iload 6, 2) := by decide +kernel
theorem dX1_join_197 : decode cX1_join 197 = .ok (.baload, 1) := by decide +kernel
theorem dX1_join_198 : decode cX1_join 198 = .ok (.ifCond .ne 55, 3) := by decide +kernel
theorem dX1_join_201 : decode cX1_join 201 = .ok (.iload 7, 2) := by decide +kernel
theorem dX1_join_203 : decode cX1_join 203 = .ok (.iconst (-1), 1) := by decide +kernel
theorem dX1_join_204 : decode cX1_join 204 = .ok (.if_icmp .ne 6, 3) := by decide +kernel
theorem dX1_join_207 : decode cX1_join 207 = .ok (.goto 46, 3) := by decide +kernel
theorem dX1_join_210 : decode cX1_join 210 = .ok (.aload_n 0, 1) := by decide +kernel
theorem dX1_join_211 : decode cX1_join 211 = .ok (.getfield 184, 3) := by decide +kernel
theorem dX1_join_214 : decode cX1_join 214 = .ok (.iload 6, 2) := by decide +kernel
theorem dX1_join_216 : decode cX1_join 216 = .ok (.iconst 1, 1) := by decide +kernel
theorem dX1_join_217 : decode cX1_join 217 = .ok (.bastore, 1) := by decide +kernel
theorem dX1_join_218 : decode cX1_join 218 = .ok (.sipush 1000, 3) := by decide +kernel
theorem dX1_join_221 : decode cX1_join 221 = .ok (.iload 7, 2) := by decide +kernel
theorem dX1_join_223 : decode cX1_join 223 = .ok (.iadd, 1) := by decide +kernel
theorem dX1_join_224 : decode cX1_join 224 = .ok (.aload_n 0, 1) := by decide +kernel
theorem dX1_join_225 : decode cX1_join 225 = .ok (.iload 4, 2) := by decide +kernel
theorem dX1_join_227 : decode cX1_join 227 = .ok (.iconst 1, 1) := by decide +kernel
theorem dX1_join_228 : decode cX1_join 228 = .ok (.iadd, 1) := by decide +kernel
theorem dX1_join_229 : decode cX1_join 229 = .ok (.iload_n 1, 1) := by decide +kernel
theorem dX1_join_230 : decode cX1_join 230 = .ok (.invokevirtual 509, 3) := by decide +kernel
theorem dX1_join_233 : decode cX1_join 233 = .ok (.iadd, 1) := by decide +kernel
theorem dX1_join_234 : decode cX1_join 234 = .ok (.iload_n 2, 1) := by decide +kernel
theorem dX1_join_235 : decode cX1_join 235 = .ok (.if_icmp .ne 10, 3) := by decide +kernel
theorem dX1_join_238 : decode cX1_join 238 = .ok (.iload 6, 2) := by decide +kernel
theorem dX1_join_240 : decode cX1_join 240 = .ok (.istore 5, 2) := by decide +kernel
theorem dX1_join_242 : decode cX1_join 242 = .ok (.goto 11, 3) := by decide +kernel
theorem dX1_join_245 : decode cX1_join 245 = .ok (.aload_n 0, 1) := by decide +kernel
theorem dX1_join_246 : decode cX1_join 246 = .ok (.getfield 184, 3) := by decide +kernel
theorem dX1_join_249 : decode cX1_join 249 = .ok (.iload 6, 2) := by decide +kernel
theorem dX1_join_251 : decode cX1_join 251 = .ok (.iconst 0, 1) := by decide +kernel
theorem dX1_join_252 : decode cX1_join 252 = .ok (.bastore, 1) := by decide +kernel
theorem dX1_join_253 : decode cX1_join 253 = .ok (.iinc 6 1, 3) := by decide +kernel
theorem dX1_join_256 : decode cX1_join 256 = .ok (.goto (-96), 3) := by decide +kernel
theorem dX1_join_259 : decode cX1_join 259 = .ok (.aload_n 0, 1) := by decide +kernel
theorem dX1_join_260 : decode cX1_join 260 = .ok (.getfield 175, 3) := by decide +kernel
theorem dX1_join_263 : decode cX1_join 263 = .ok (.iload 4, 2) := by decide +kernel
theorem dX1_join_265 : decode cX1_join 265 = .ok (.iload 5, 2) := by decide +kernel
theorem dX1_join_267 : decode cX1_join 267 = .ok (.iastore, 1) := by decide +kernel
theorem dX1_join_268 : decode cX1_join 268 = .ok (.iload 5, 2) := by decide +kernel
theorem dX1_join_270 : decode cX1_join 270 = .ok (.bipush 60, 2) := by decide +kernel
theorem dX1_join_272 : decode cX1_join 272 = .ok (.if_icmp .ne 7, 3) := by decide +kernel
theorem dX1_join_275 : decode cX1_join 275 = .ok (.iload_n 2, 1) := by decide +kernel
theorem dX1_join_276 : decode cX1_join 276 = .ok (.goto 22, 3) := by decide +kernel
theorem dX1_join_279 : decode cX1_join 279 = .ok (.iload_n 2, 1) := by decide +kernel
theorem dX1_join_280 : decode cX1_join 280 = .ok (.sipush 1000, 3) := by decide +kernel
theorem dX1_join_283 : decode cX1_join 283 = .ok (.isub, 1) := by decide +kernel
theorem dX1_join_284 : decode cX1_join 284 = .ok (.aload_n 0, 1) := by decide +kernel
theorem dX1_join_285 : decode cX1_join 285 = .ok (.getfield 187, 3) := by decide +kernel
theorem dX1_join_288 : decode cX1_join 288 = .ok (.bipush 60, 2) := by decide +kernel
theorem dX1_join_290 : decode cX1_join 290 = .ok (.iload 4, 2) := by decide +kernel
theorem dX1_join_292 : decode cX1_join 292 = .ok (.imul, 1) := by decide +kernel
theorem dX1_join_293 : decode cX1_join 293 = .ok (.iload 5, 2) := by decide +kernel
theorem dX1_join_295 : decode cX1_join 295 = .ok (.iadd, 1) := by decide +kernel
theorem dX1_join_296 : decode cX1_join 296 = .ok (.iaload, 1) := by decide +kernel
theorem dX1_join_297 : decode cX1_join 297 = .ok (.isub, 1) := by decide +kernel
theorem dX1_join_298 : decode cX1_join 298 = .ok (.istore_n 2, 1) := by decide +kernel
theorem dX1_join_299 : decode cX1_join 299 = .ok (.iinc 4 1, 3) := by decide +kernel
theorem dX1_join_302 : decode cX1_join 302 = .ok (.goto (-155), 3) := by decide +kernel
theorem dX1_join_305 : decode cX1_join 305 = .ok (.iload_n 3, 1) := by decide +kernel
theorem dX1_join_306 : decode cX1_join 306 = .ok (.ireturn, 1) := by decide +kernel
section
variable {res : Int32 × MS}
noncomputable def m_join_B45 (F : Nat) (K99 : Int32 × MS → Option (Int32 × MS)) (x1 x2 : Int32) (R : Int32 × MS → Option (Int32 × MS)) (a : Int32 × MS) : Option (Int32 × MS) :=
  if (a.2.1 68) ≤ a.1 then (K99 (a.1, a.2)) else (if okI x2 100 = true then (m_isLike F (a.2.2 52 x2.toNatClampNeg) a.1 a.2).bind (fun r1 => if r1.1 = 0 then (if okI ((60 * x2) + a.1) 480 = true then nx (sA r1.2 57 ((60 * x2) + a.1).toNatClampNeg ((-1))) (fun σ1 => R (a.1 + 1, σ1)) else none) else (if okI x2 100 = true then (m_agreeing F (r1.2.2 52 x2.toNatClampNeg) a.1 r1.2).bind (fun r2 => if okI ((60 * x2) + a.1) 480 = true then nx (sA r2.2 57 ((60 * x2) + a.1).toNatClampNeg r2.1) (fun σ2 => R (a.1 + 1, σ2)) else none) else none)) else none)
theorem km_join_B45 (M : MC γ cX1_join 8 G o 7 (some .int) (mQi G o res)) (x1 x2 : Int32) (K99 : Int32 × MS → Option (Int32 × MS)) (hK99 : ∀ a, K99 a = some res → J γ (MW G o a.2) 0 0 99 [(0, .ref o), (1, .int x1), (2, .int x2)] []) : ∀ R : Int32 × MS → Option (Int32 × MS), (∀ a, R a = some res → J γ (MW G o a.2) 0 0 45 [(0, .ref o), (1, .int x1), (2, .int x2), (3, .int a.1)] []) → ∀ a, m_join_B45 F K99 x1 x2 R a = some res → J γ (MW G o a.2) 0 0 45 [(0, .ref o), (1, .int x1), (2, .int x2), (3, .int a.1)] [] := by
  intro R hR a hf
  unfold m_join_B45 at hf
  refine j_iload_n (pc := 45) M.1 dX1_join_45 3 rfl ?_
  refine j_aload_n (pc := 46) M.1 dX1_join_46 0 rfl ?_
  refine jm_getS (pc := 47) M fm_491 dX1_join_47 ?_
  refine j_icmp_ge (pc := 50) M.1 99 dX1_join_50 rfl (fun c1 => ?_) (fun c1 => ?_)
  · replace hf := o_pos c1 hf
    refine j_sub [0, 1, 2] (show lv_pick _ _ = [(0, .ref o), (1, .int x1), (2, .int x2)] from rfl) ?_
    have hy := hK99 _ hf
    exact hy
  · replace hf := o_neg c1 hf
    refine j_aload_n (pc := 53) M.1 dX1_join_53 0 rfl ?_
    refine jm_getA (pc := 54) M fa_187 dX1_join_54 ?_
    refine j_bipush (pc := 57) M.1 dX1_join_57 kc_bipush_60 ?_
    refine j_iload_n (pc := 59) M.1 dX1_join_59 2 rfl ?_
    refine j_imul (pc := 60) M.1 dX1_join_60 ?_
    refine j_iload_n (pc := 61) M.1 dX1_join_61 3 rfl ?_
    refine j_iadd (pc := 62) M.1 dX1_join_62 ?_
    refine j_aload_n (pc := 63) M.1 dX1_join_63 0 rfl ?_
    refine j_aload_n (pc := 64) M.1 dX1_join_64 0 rfl ?_
    refine jm_getA (pc := 65) M fa_172 dX1_join_65 ?_
    refine j_iload_n (pc := 68) M.1 dX1_join_68 2 rfl ?_
    obtain ⟨b1, hf⟩ := o_need hf
    refine jm_iald (pc := 69) M ax_52 b1 dX1_join_69 ?_
    refine j_iload_n (pc := 70) M.1 dX1_join_70 3 rfl ?_
    obtain ⟨r1, g1, hf⟩ := o_bind hf
    refine jm_calli (pc := 71) (As := [.int (a.2.2 52 x2.toNatClampNeg), .int a.1]) (rest := [.int ((60 * x2) + a.1), .ref (o + 1 + 57)]) M cm_503 (met_isLike g1) rfl rfl rfl rfl dX1_join_71 ?_
    refine j_if_eq (pc := 74) M.1 91 dX1_join_74 rfl (fun c2 => ?_) (fun c2 => ?_)
    · replace hf := o_pos c2 hf
      refine j_iconst (pc := 91) M.1 dX1_join_91 kc_iconst_m1 ?_
      obtain ⟨b2, hf⟩ := o_need hf
      obtain ⟨σ1, e1, hf⟩ := o_nx hf
      refine jm_iast (pc := 92) M ax_57 b2 dX1_join_92 e1 ?_
      refine j_iinc (pc := 93) M.1 [(3, .int (a.1 + 1)), (0, .ref o), (1, .int x1), (2, .int x2)] dX1_join_93 3 rfl (congrArg _ kc_iconst_1) rfl rfl ?_
      refine j_goto (pc := 96) M.1 45 dX1_join_96 rfl ?_
      refine j_sub [1, 2, 3, 0] (show lv_pick _ _ = [(0, .ref o), (1, .int x1), (2, .int x2), (3, .int (a.1 + 1))] from rfl) ?_
      have hy := hR _ hf
      exact hy
    · replace hf := o_neg c2 hf
      refine j_aload_n (pc := 77) M.1 dX1_join_77 0 rfl ?_
      refine j_aload_n (pc := 78) M.1 dX1_join_78 0 rfl ?_
      refine jm_getA (pc := 79) M fa_172 dX1_join_79 ?_
      refine j_iload_n (pc := 82) M.1 dX1_join_82 2 rfl ?_
      obtain ⟨b3, hf⟩ := o_need hf
      refine jm_iald (pc := 83) M ax_52 b3 dX1_join_83 ?_
      refine j_iload_n (pc := 84) M.1 dX1_join_84 3 rfl ?_
      obtain ⟨r2, g2, hf⟩ := o_bind hf
      refine jm_calli (pc := 85) (As := [.int (r1.2.2 52 x2.toNatClampNeg), .int a.1]) (rest := [.int ((60 * x2) + a.1), .ref (o + 1 + 57)]) M cm_497 (met_agreeing g2) rfl rfl rfl rfl dX1_join_85 ?_
      refine j_goto (pc := 88) M.1 92 dX1_join_88 rfl ?_
      obtain ⟨b4, hf⟩ := o_need hf
      obtain ⟨σ2, e2, hf⟩ := o_nx hf
      refine jm_iast (pc := 92) M ax_57 b4 dX1_join_92 e2 ?_
      refine j_iinc (pc := 93) M.1 [(3, .int (a.1 + 1)), (0, .ref o), (1, .int x1), (2, .int x2)] dX1_join_93 3 rfl (congrArg _ kc_iconst_1) rfl rfl ?_
      refine j_goto (pc := 96) M.1 45 dX1_join_96 rfl ?_
      refine j_sub [1, 2, 3, 0] (show lv_pick _ _ = [(0, .ref o), (1, .int x1), (2, .int x2), (3, .int (a.1 + 1))] from rfl) ?_
      have hy := hR _ hf
      exact hy
noncomputable def m_join_B38 (F : Nat) (K105 : Int32 × MS → Option (Int32 × MS)) (x1 : Int32) (R : Int32 × MS → Option (Int32 × MS)) (a : Int32 × MS) : Option (Int32 × MS) :=
  if x1 ≤ a.1 then (K105 (a.1, a.2)) else (lp (m_join_B45 F (fun a1 => R (a.1 + 1, a1.2)) x1 a.1) F (0, a.2))
theorem km_join_B38 (M : MC γ cX1_join 8 G o 7 (some .int) (mQi G o res)) (x1 : Int32) (K105 : Int32 × MS → Option (Int32 × MS)) (hK105 : ∀ a, K105 a = some res → J γ (MW G o a.2) 0 0 105 [(0, .ref o), (1, .int x1)] []) : ∀ R : Int32 × MS → Option (Int32 × MS), (∀ a, R a = some res → J γ (MW G o a.2) 0 0 38 [(0, .ref o), (1, .int x1), (2, .int a.1)] []) → ∀ a, m_join_B38 F K105 x1 R a = some res → J γ (MW G o a.2) 0 0 38 [(0, .ref o), (1, .int x1), (2, .int a.1)] [] := by
  intro R hR a hf
  unfold m_join_B38 at hf
  refine j_iload_n (pc := 38) M.1 dX1_join_38 2 rfl ?_
  refine j_iload_n (pc := 39) M.1 dX1_join_39 1 rfl ?_
  refine j_icmp_ge (pc := 40) M.1 105 dX1_join_40 rfl (fun c1 => ?_) (fun c1 => ?_)
  · replace hf := o_pos c1 hf
    refine j_sub [0, 1] (show lv_pick _ _ = [(0, .ref o), (1, .int x1)] from rfl) ?_
    have hy := hK105 _ hf
    exact hy
  · replace hf := o_neg c1 hf
    refine j_iconst (pc := 43) M.1 dX1_join_43 kc_iconst_0 ?_
    refine j_istore_n (pc := 44) M.1 [(3, .int 0), (0, .ref o), (1, .int x1), (2, .int a.1)] dX1_join_44 rfl rfl ?_
    refine j_sub [1, 2, 3, 0] (show lv_pick _ _ = [(0, .ref o), (1, .int x1), (2, .int a.1), (3, .int 0)] from rfl) ?_
    refine lp_W (km_join_B45 M x1 a.1 _ ?_) F (0, a.2) hf
    · intro a1 hf
      refine j_iinc (pc := 99) M.1 [(2, .int (a.1 + 1)), (0, .ref o), (1, .int x1)] dX1_join_99 2 rfl (congrArg _ kc_iconst_1) rfl rfl ?_
      refine j_goto (pc := 102) M.1 38 dX1_join_102 rfl ?_
      refine j_sub [1, 2, 0] (show lv_pick _ _ = [(0, .ref o), (1, .int x1), (2, .int (a.1 + 1))] from rfl) ?_
      have hy := hR _ hf
      exact hy
noncomputable def m_join_B107 (F : Nat) (K126 : Int32 × MS → Option (Int32 × MS)) (x1 : Int32) (R : Int32 × MS → Option (Int32 × MS)) (a : Int32 × MS) : Option (Int32 × MS) :=
  if 60 ≤ a.1 then (K126 (a.1, a.2)) else (if okI a.1 60 = true then nx (sA a.2 56 a.1.toNatClampNeg (vp_nar .boolean 0)) (fun σ1 => R (a.1 + 1, σ1)) else none)
theorem km_join_B107 (M : MC γ cX1_join 8 G o 7 (some .int) (mQi G o res)) (x1 : Int32) (K126 : Int32 × MS → Option (Int32 × MS)) (hK126 : ∀ a, K126 a = some res → J γ (MW G o a.2) 0 0 126 [(0, .ref o), (1, .int x1)] []) : ∀ R : Int32 × MS → Option (Int32 × MS), (∀ a, R a = some res → J γ (MW G o a.2) 0 0 107 [(0, .ref o), (1, .int x1), (2, .int a.1)] []) → ∀ a, m_join_B107 F K126 x1 R a = some res → J γ (MW G o a.2) 0 0 107 [(0, .ref o), (1, .int x1), (2, .int a.1)] [] := by
  intro R hR a hf
  unfold m_join_B107 at hf
  refine j_iload_n (pc := 107) M.1 dX1_join_107 2 rfl ?_
  refine j_bipush (pc := 108) M.1 dX1_join_108 kc_bipush_60 ?_
  refine j_icmp_ge (pc := 110) M.1 126 dX1_join_110 rfl (fun c1 => ?_) (fun c1 => ?_)
  · replace hf := o_pos c1 hf
    refine j_sub [0, 1] (show lv_pick _ _ = [(0, .ref o), (1, .int x1)] from rfl) ?_
    have hy := hK126 _ hf
    exact hy
  · replace hf := o_neg c1 hf
    refine j_aload_n (pc := 113) M.1 dX1_join_113 0 rfl ?_
    refine jm_getA (pc := 114) M fa_184 dX1_join_114 ?_
    refine j_iload_n (pc := 117) M.1 dX1_join_117 2 rfl ?_
    refine j_iconst (pc := 118) M.1 dX1_join_118 kc_iconst_0 ?_
    obtain ⟨b1, hf⟩ := o_need hf
    obtain ⟨σ1, e1, hf⟩ := o_nx hf
    refine jm_zast (pc := 119) M ax_56 b1 dX1_join_119 e1 ?_
    refine j_iinc (pc := 120) M.1 [(2, .int (a.1 + 1)), (0, .ref o), (1, .int x1)] dX1_join_120 2 rfl (congrArg _ kc_iconst_1) rfl rfl ?_
    refine j_goto (pc := 123) M.1 107 dX1_join_123 rfl ?_
    refine j_sub [1, 2, 0] (show lv_pick _ _ = [(0, .ref o), (1, .int x1), (2, .int (a.1 + 1))] from rfl) ?_
    have hy := hR _ hf
    exact hy
noncomputable def m_join_B160 (F : Nat) (K259 : Int32 × Int32 × MS → Option (Int32 × MS)) (x1 x2 x3 x4 : Int32) (R : Int32 × Int32 × MS → Option (Int32 × MS)) (a : Int32 × Int32 × MS) : Option (Int32 × MS) :=
  if (a.2.2.1 68) ≤ a.2.1 then (K259 (a.1, a.2.1, a.2.2)) else (if a.1 = 60 then (if okI ((60 * x4) + a.2.1) 480 = true then nx (a.2.2.2 57 ((60 * x4) + a.2.1).toNatClampNeg : Int32) (fun y1 => if okI a.2.1 60 = true then if (a.2.2.2 56 a.2.1.toNatClampNeg) = 0 then (if y1 = ((-1)) then (R (a.1, a.2.1 + 1, a.2.2)) else (if okI a.2.1 60 = true then nx (sA a.2.2 56 a.2.1.toNatClampNeg (vp_nar .boolean 1)) (fun σ1 => (m_bestFrom F (x4 + 1) x1 σ1).bind (fun r1 => if ((1000 + y1) + r1.1) = x2 then (R (a.2.1, a.2.1 + 1, r1.2)) else (if okI a.2.1 60 = true then nx (sA r1.2 56 a.2.1.toNatClampNeg (vp_nar .boolean 0)) (fun σ2 => R (a.1, a.2.1 + 1, σ2)) else none))) else none)) else (R (a.1, a.2.1 + 1, a.2.2)) else none) else none) else (K259 (a.1, a.2.1, a.2.2)))
theorem km_join_B160 (M : MC γ cX1_join 8 G o 7 (some .int) (mQi G o res)) (x1 x2 x3 x4 : Int32) (K259 : Int32 × Int32 × MS → Option (Int32 × MS)) (hK259 : ∀ a, K259 a = some res → J γ (MW G o a.2.2) 0 0 259 [(0, .ref o), (1, .int x1), (2, .int x2), (3, .int x3), (4, .int x4), (5, .int a.1)] []) : ∀ R : Int32 × Int32 × MS → Option (Int32 × MS), (∀ a, R a = some res → J γ (MW G o a.2.2) 0 0 160 [(0, .ref o), (1, .int x1), (2, .int x2), (3, .int x3), (4, .int x4), (5, .int a.1), (6, .int a.2.1)] []) → ∀ a, m_join_B160 F K259 x1 x2 x3 x4 R a = some res → J γ (MW G o a.2.2) 0 0 160 [(0, .ref o), (1, .int x1), (2, .int x2), (3, .int x3), (4, .int x4), (5, .int a.1), (6, .int a.2.1)] [] := by
  intro R hR a hf
  unfold m_join_B160 at hf
  refine j_iload (pc := 160) M.1 dX1_join_160 6 rfl ?_
  refine j_aload_n (pc := 162) M.1 dX1_join_162 0 rfl ?_
  refine jm_getS (pc := 163) M fm_491 dX1_join_163 ?_
  refine j_icmp_ge (pc := 166) M.1 259 dX1_join_166 rfl (fun c1 => ?_) (fun c1 => ?_)
  · replace hf := o_pos c1 hf
    refine j_sub [0, 1, 2, 3, 4, 5] (show lv_pick _ _ = [(0, .ref o), (1, .int x1), (2, .int x2), (3, .int x3), (4, .int x4), (5, .int a.1)] from rfl) ?_
    have hy := hK259 _ hf
    exact hy
  · replace hf := o_neg c1 hf
    refine j_iload (pc := 169) M.1 dX1_join_169 5 rfl ?_
    refine j_bipush (pc := 171) M.1 dX1_join_171 kc_bipush_60 ?_
    refine j_icmp_ne (pc := 173) M.1 259 dX1_join_173 rfl (fun c2 => ?_) (fun c2 => ?_)
    · replace hf := o_neg c2 hf
      refine j_sub [0, 1, 2, 3, 4, 5] (show lv_pick _ _ = [(0, .ref o), (1, .int x1), (2, .int x2), (3, .int x3), (4, .int x4), (5, .int a.1)] from rfl) ?_
      have hy := hK259 _ hf
      exact hy
    · replace hf := o_pos c2 hf
      refine j_aload_n (pc := 176) M.1 dX1_join_176 0 rfl ?_
      refine jm_getA (pc := 177) M fa_187 dX1_join_177 ?_
      refine j_bipush (pc := 180) M.1 dX1_join_180 kc_bipush_60 ?_
      refine j_iload (pc := 182) M.1 dX1_join_182 4 rfl ?_
      refine j_imul (pc := 184) M.1 dX1_join_184 ?_
      refine j_iload (pc := 185) M.1 dX1_join_185 6 rfl ?_
      refine j_iadd (pc := 187) M.1 dX1_join_187 ?_
      obtain ⟨b1, hf⟩ := o_need hf
      refine jm_iald (pc := 188) M ax_57 b1 dX1_join_188 ?_
      obtain ⟨y1, e1, hf⟩ := o_nx hf
      refine j_top e1 ?_
      refine j_istore (pc := 189) M.1 [(7, .int y1), (0, .ref o), (1, .int x1), (2, .int x2), (3, .int x3), (4, .int x4), (5, .int a.1), (6, .int a.2.1)] dX1_join_189 rfl rfl ?_
      refine j_aload_n (pc := 191) M.1 dX1_join_191 1 rfl ?_
      refine jm_getA (pc := 192) M fa_184 dX1_join_192 ?_
      refine j_iload (pc := 195) M.1 dX1_join_195 7 rfl ?_
      obtain ⟨b2, hf⟩ := o_need hf
      refine jm_zald (pc := 197) M ax_56 b2 dX1_join_197 ?_
      refine j_if_ne (pc := 198) M.1 253 dX1_join_198 rfl (fun c3 => ?_) (fun c3 => ?_)
      · replace hf := o_neg c3 hf
        refine j_iinc (pc := 253) M.1 [(6, .int (a.2.1 + 1)), (7, .int y1), (0, .ref o), (1, .int x1), (2, .int x2), (3, .int x3), (4, .int x4), (5, .int a.1)] dX1_join_253 7 rfl (congrArg _ kc_iconst_1) rfl rfl ?_
        refine j_goto (pc := 256) M.1 160 dX1_join_256 rfl ?_
        refine j_sub [2, 3, 4, 5, 6, 7, 0] (show lv_pick _ _ = [(0, .ref o), (1, .int x1), (2, .int x2), (3, .int x3), (4, .int x4), (5, .int a.1), (6, .int (a.2.1 + 1))] from rfl) ?_
        have hy := hR _ hf
        exact hy
      · replace hf := o_pos c3 hf
        refine j_iload (pc := 201) M.1 dX1_join_201 0 rfl ?_
        refine j_iconst (pc := 203) M.1 dX1_join_203 kc_iconst_m1 ?_
        refine j_icmp_ne (pc := 204) M.1 210 dX1_join_204 rfl (fun c4 => ?_) (fun c4 => ?_)
        · replace hf := o_neg c4 hf
          refine j_aload_n (pc := 210) M.1 dX1_join_210 1 rfl ?_
          refine jm_getA (pc := 211) M fa_184 dX1_join_211 ?_
          refine j_iload (pc := 214) M.1 dX1_join_214 7 rfl ?_
          refine j_iconst (pc := 216) M.1 dX1_join_216 kc_iconst_1 ?_
          obtain ⟨b3, hf⟩ := o_need hf
          obtain ⟨σ1, e2, hf⟩ := o_nx hf
          refine jm_zast (pc := 217) M ax_56 b3 dX1_join_217 e2 ?_
          refine j_sipush (pc := 218) M.1 dX1_join_218 kc_sipush_1000 ?_
          refine j_iload (pc := 221) M.1 dX1_join_221 0 rfl ?_
          refine j_iadd (pc := 223) M.1 dX1_join_223 ?_
          refine j_aload_n (pc := 224) M.1 dX1_join_224 1 rfl ?_
          refine j_iload (pc := 225) M.1 dX1_join_225 5 rfl ?_
          refine j_iconst (pc := 227) M.1 dX1_join_227 kc_iconst_1 ?_
          refine j_iadd (pc := 228) M.1 dX1_join_228 ?_
          refine j_iload_n (pc := 229) M.1 dX1_join_229 2 rfl ?_
          obtain ⟨r1, g1, hf⟩ := o_bind hf
          refine jm_calli (pc := 230) (As := [.int (x4 + 1), .int x1]) (rest := [.int (1000 + y1)]) M cm_509 (met_bestFrom g1) rfl rfl rfl rfl dX1_join_230 ?_
          refine j_iadd (pc := 233) M.1 dX1_join_233 ?_
          refine j_iload_n (pc := 234) M.1 dX1_join_234 3 rfl ?_
          refine j_icmp_ne (pc := 235) M.1 245 dX1_join_235 rfl (fun c5 => ?_) (fun c5 => ?_)
          · replace hf := o_neg c5 hf
            refine j_aload_n (pc := 245) M.1 dX1_join_245 1 rfl ?_
            refine jm_getA (pc := 246) M fa_184 dX1_join_246 ?_
            refine j_iload (pc := 249) M.1 dX1_join_249 7 rfl ?_
            refine j_iconst (pc := 251) M.1 dX1_join_251 kc_iconst_0 ?_
            obtain ⟨b4, hf⟩ := o_need hf
            obtain ⟨σ2, e3, hf⟩ := o_nx hf
            refine jm_zast (pc := 252) M ax_56 b4 dX1_join_252 e3 ?_
            refine j_iinc (pc := 253) M.1 [(6, .int (a.2.1 + 1)), (7, .int y1), (0, .ref o), (1, .int x1), (2, .int x2), (3, .int x3), (4, .int x4), (5, .int a.1)] dX1_join_253 7 rfl (congrArg _ kc_iconst_1) rfl rfl ?_
            refine j_goto (pc := 256) M.1 160 dX1_join_256 rfl ?_
            refine j_sub [2, 3, 4, 5, 6, 7, 0] (show lv_pick _ _ = [(0, .ref o), (1, .int x1), (2, .int x2), (3, .int x3), (4, .int x4), (5, .int a.1), (6, .int (a.2.1 + 1))] from rfl) ?_
            have hy := hR _ hf
            exact hy
          · replace hf := o_pos c5 hf
            refine j_iload (pc := 238) M.1 dX1_join_238 7 rfl ?_
            refine j_istore (pc := 240) M.1 [(5, .int a.2.1), (7, .int y1), (0, .ref o), (1, .int x1), (2, .int x2), (3, .int x3), (4, .int x4), (6, .int a.2.1)] dX1_join_240 rfl rfl ?_
            refine j_goto (pc := 242) M.1 253 dX1_join_242 rfl ?_
            refine j_iinc (pc := 253) M.1 [(6, .int (a.2.1 + 1)), (5, .int a.2.1), (7, .int y1), (0, .ref o), (1, .int x1), (2, .int x2), (3, .int x3), (4, .int x4)] dX1_join_253 7 rfl (congrArg _ kc_iconst_1) rfl rfl ?_
            refine j_goto (pc := 256) M.1 160 dX1_join_256 rfl ?_
            refine j_sub [3, 4, 5, 6, 7, 1, 0] (show lv_pick _ _ = [(0, .ref o), (1, .int x1), (2, .int x2), (3, .int x3), (4, .int x4), (5, .int a.2.1), (6, .int (a.2.1 + 1))] from rfl) ?_
            have hy := hR _ hf
            exact hy
        · replace hf := o_pos c4 hf
          refine j_goto (pc := 207) M.1 253 dX1_join_207 rfl ?_
          refine j_iinc (pc := 253) M.1 [(6, .int (a.2.1 + 1)), (7, .int y1), (0, .ref o), (1, .int x1), (2, .int x2), (3, .int x3), (4, .int x4), (5, .int a.1)] dX1_join_253 7 rfl (congrArg _ kc_iconst_1) rfl rfl ?_
          refine j_goto (pc := 256) M.1 160 dX1_join_256 rfl ?_
          refine j_sub [2, 3, 4, 5, 6, 7, 0] (show lv_pick _ _ = [(0, .ref o), (1, .int x1), (2, .int x2), (3, .int x3), (4, .int x4), (5, .int a.1), (6, .int (a.2.1 + 1))] from rfl) ?_
          have hy := hR _ hf
          exact hy
noncomputable def m_join_259 (F : Nat) (R : Int32 × Int32 × MS → Option (Int32 × MS)) (x1 x2 x3 x4 x5 : Int32) (σ : MS) : Option (Int32 × MS) :=
  if okI x4 8 = true then nx (sA σ 53 x4.toNatClampNeg x5) (fun σ1 => if x5 = 60 then (R (x2, x4 + 1, σ1)) else (if okI ((60 * x4) + x5) 480 = true then nx ((x2 - 1000) - (σ1.2 57 ((60 * x4) + x5).toNatClampNeg) : Int32) (fun y1 => R (y1, x4 + 1, σ1)) else none)) else none
theorem km_join_259 (M : MC γ cX1_join 8 G o 7 (some .int) (mQi G o res)) (x1 x3 x2 x4 x5 : Int32) (R : Int32 × Int32 × MS → Option (Int32 × MS)) (hR : ∀ a, R a = some res → J γ (MW G o a.2.2) 0 0 147 [(0, .ref o), (1, .int x1), (2, .int a.1), (3, .int x3), (4, .int a.2.1)] []) (σ : MS) (hf : m_join_259 F R x1 x2 x3 x4 x5 σ = some res) : J γ (MW G o σ) 0 0 259 [(0, .ref o), (1, .int x1), (2, .int x2), (3, .int x3), (4, .int x4), (5, .int x5)] [] := by
  unfold m_join_259 at hf
  refine j_aload_n (pc := 259) M.1 dX1_join_259 0 rfl ?_
  refine jm_getA (pc := 260) M fa_175 dX1_join_260 ?_
  refine j_iload (pc := 263) M.1 dX1_join_263 4 rfl ?_
  refine j_iload (pc := 265) M.1 dX1_join_265 5 rfl ?_
  obtain ⟨b1, hf⟩ := o_need hf
  obtain ⟨σ1, e1, hf⟩ := o_nx hf
  refine jm_iast (pc := 267) M ax_53 b1 dX1_join_267 e1 ?_
  refine j_iload (pc := 268) M.1 dX1_join_268 5 rfl ?_
  refine j_bipush (pc := 270) M.1 dX1_join_270 kc_bipush_60 ?_
  refine j_icmp_ne (pc := 272) M.1 279 dX1_join_272 rfl (fun c1 => ?_) (fun c1 => ?_)
  · replace hf := o_neg c1 hf
    refine j_iload_n (pc := 279) M.1 dX1_join_279 2 rfl ?_
    refine j_sipush (pc := 280) M.1 dX1_join_280 kc_sipush_1000 ?_
    refine j_isub (pc := 283) M.1 dX1_join_283 ?_
    refine j_aload_n (pc := 284) M.1 dX1_join_284 0 rfl ?_
    refine jm_getA (pc := 285) M fa_187 dX1_join_285 ?_
    refine j_bipush (pc := 288) M.1 dX1_join_288 kc_bipush_60 ?_
    refine j_iload (pc := 290) M.1 dX1_join_290 4 rfl ?_
    refine j_imul (pc := 292) M.1 dX1_join_292 ?_
    refine j_iload (pc := 293) M.1 dX1_join_293 5 rfl ?_
    refine j_iadd (pc := 295) M.1 dX1_join_295 ?_
    obtain ⟨b2, hf⟩ := o_need hf
    refine jm_iald (pc := 296) M ax_57 b2 dX1_join_296 ?_
    refine j_isub (pc := 297) M.1 dX1_join_297 ?_
    obtain ⟨y1, e2, hf⟩ := o_nx hf
    refine j_top e2 ?_
    refine j_istore_n (pc := 298) M.1 [(2, .int y1), (0, .ref o), (1, .int x1), (3, .int x3), (4, .int x4), (5, .int x5)] dX1_join_298 rfl rfl ?_
    refine j_iinc (pc := 299) M.1 [(4, .int (x4 + 1)), (2, .int y1), (0, .ref o), (1, .int x1), (3, .int x3), (5, .int x5)] dX1_join_299 4 rfl (congrArg _ kc_iconst_1) rfl rfl ?_
    refine j_goto (pc := 302) M.1 147 dX1_join_302 rfl ?_
    refine j_sub [2, 3, 1, 4, 0] (show lv_pick _ _ = [(0, .ref o), (1, .int x1), (2, .int y1), (3, .int x3), (4, .int (x4 + 1))] from rfl) ?_
    have hy := hR _ hf
    exact hy
  · replace hf := o_pos c1 hf
    refine j_iload_n (pc := 275) M.1 dX1_join_275 2 rfl ?_
    refine j_goto (pc := 276) M.1 298 dX1_join_276 rfl ?_
    refine j_istore_n (pc := 298) M.1 [(2, .int x2), (0, .ref o), (1, .int x1), (3, .int x3), (4, .int x4), (5, .int x5)] dX1_join_298 rfl rfl ?_
    refine j_iinc (pc := 299) M.1 [(4, .int (x4 + 1)), (2, .int x2), (0, .ref o), (1, .int x1), (3, .int x3), (5, .int x5)] dX1_join_299 4 rfl (congrArg _ kc_iconst_1) rfl rfl ?_
    refine j_goto (pc := 302) M.1 147 dX1_join_302 rfl ?_
    refine j_sub [2, 3, 1, 4, 0] (show lv_pick _ _ = [(0, .ref o), (1, .int x1), (2, .int x2), (3, .int x3), (4, .int (x4 + 1))] from rfl) ?_
    have hy := hR _ hf
    exact hy
noncomputable def m_join_B147 (F : Nat) (x1 x3 : Int32) (R : Int32 × Int32 × MS → Option (Int32 × MS)) (a : Int32 × Int32 × MS) : Option (Int32 × MS) :=
  if x1 ≤ a.2.1 then (some (x3, a.2.2)) else (lp (m_join_B160 F (fun a1 => m_join_259 F R x1 a.1 x3 a.2.1 a1.1 a1.2.2) x1 a.1 x3 a.2.1) F (60, 0, a.2.2))
theorem km_join_B147 (M : MC γ cX1_join 8 G o 7 (some .int) (mQi G o res)) (x1 x3 : Int32) : ∀ R : Int32 × Int32 × MS → Option (Int32 × MS), (∀ a, R a = some res → J γ (MW G o a.2.2) 0 0 147 [(0, .ref o), (1, .int x1), (2, .int a.1), (3, .int x3), (4, .int a.2.1)] []) → ∀ a, m_join_B147 F x1 x3 R a = some res → J γ (MW G o a.2.2) 0 0 147 [(0, .ref o), (1, .int x1), (2, .int a.1), (3, .int x3), (4, .int a.2.1)] [] := by
  intro R hR a hf
  unfold m_join_B147 at hf
  refine j_iload (pc := 147) M.1 dX1_join_147 4 rfl ?_
  refine j_iload_n (pc := 149) M.1 dX1_join_149 1 rfl ?_
  refine j_icmp_ge (pc := 150) M.1 305 dX1_join_150 rfl (fun c1 => ?_) (fun c1 => ?_)
  · replace hf := o_pos c1 hf
    refine j_iload_n (pc := 305) M.1 dX1_join_305 3 rfl ?_
    exact jm_iret (pc := 306) M dX1_join_306 hf
  · replace hf := o_neg c1 hf
    refine j_bipush (pc := 153) M.1 dX1_join_153 kc_bipush_60 ?_
    refine j_istore (pc := 155) M.1 [(5, .int 60), (0, .ref o), (1, .int x1), (2, .int a.1), (3, .int x3), (4, .int a.2.1)] dX1_join_155 rfl rfl ?_
    refine j_iconst (pc := 157) M.1 dX1_join_157 kc_iconst_0 ?_
    refine j_istore (pc := 158) M.1 [(6, .int 0), (5, .int 60), (0, .ref o), (1, .int x1), (2, .int a.1), (3, .int x3), (4, .int a.2.1)] dX1_join_158 rfl rfl ?_
    refine j_sub [2, 3, 4, 5, 6, 1, 0] (show lv_pick _ _ = [(0, .ref o), (1, .int x1), (2, .int a.1), (3, .int x3), (4, .int a.2.1), (5, .int 60), (6, .int 0)] from rfl) ?_
    refine lp_W (km_join_B160 M x1 a.1 x3 a.2.1 _ ?_) F (60, 0, a.2.2) hf
    · intro a1 hf
      exact km_join_259 M x1 x3 a.1 a.2.1 a1.1 R hR a1.2.2 hf
noncomputable def m_join (F : Nat) (x1 : Int32) (σ : MS) : Option (Int32 × MS) :=
  (m_in F x1 0 8).bind (fun r1 => if r1 = 0 then (some ((-1), σ)) else (if x1 ≤ (σ.1 28) then (nx (sS σ 28 0) (fun σ1 => (m_hearsFinds F x1 σ1).bind (fun r2 => if r2.1 = 0 then (some ((-2), r2.2)) else (lp (m_join_B38 F (fun a1 => lp (m_join_B107 F (fun a2 => (m_bestFrom F 0 x1 a2.2).bind (fun r3 => nx (sS r3.2 69 x1) (fun σ2 => lp (m_join_B147 F x1 (r3.1 / 1000)) F (r3.1, 0, σ2)))) x1) F (0, a1.2)) x1) F (0, r2.2))))) else (some ((-1), σ))))
theorem met_join {l : Launch} {G : gG} {o F : Nat} {x1 : Int32} {σ : MS} {res : Int32 × MS} (hf : m_join F x1 σ = some res) : MetMi l G yX1_join cX1_join 8 (some .int) 7 o [.int x1] σ res := by
  refine metMi_of (by decide) rfl rfl (fun γ hγ M => ?_)
  subst hγ
  show J γ (MW G o σ) 0 0 0 [(0, .ref o), (1, .int x1)] []
  unfold m_join at hf
  refine j_iload_n (pc := 0) M.1 dX1_join_0 1 rfl ?_
  refine j_iconst (pc := 1) M.1 dX1_join_1 kc_iconst_0 ?_
  refine j_bipush (pc := 2) M.1 dX1_join_2 kc_bipush_8 ?_
  obtain ⟨r1, g1, hf⟩ := o_bind hf
  refine jm_calls (pc := 4) (As := [.int x1, .int 0, .int 8]) (rest := []) M cs_X1_278 (met_in g1) rfl rfl rfl rfl dX1_join_4 ?_
  refine j_if_eq (pc := 7) M.1 18 dX1_join_7 rfl (fun c1 => ?_) (fun c1 => ?_)
  · replace hf := o_pos c1 hf
    refine j_iconst (pc := 18) M.1 dX1_join_18 kc_iconst_m1 ?_
    exact jm_iret (pc := 19) M dX1_join_19 hf
  · replace hf := o_neg c1 hf
    refine j_iload_n (pc := 10) M.1 dX1_join_10 1 rfl ?_
    refine j_aload_n (pc := 11) M.1 dX1_join_11 0 rfl ?_
    refine jm_getS (pc := 12) M fm_341 dX1_join_12 ?_
    refine j_icmp_le (pc := 15) M.1 20 dX1_join_15 rfl (fun c2 => ?_) (fun c2 => ?_)
    · replace hf := o_pos c2 hf
      refine j_aload_n (pc := 20) M.1 dX1_join_20 0 rfl ?_
      refine j_iconst (pc := 21) M.1 dX1_join_21 kc_iconst_0 ?_
      obtain ⟨σ1, e1, hf⟩ := o_nx hf
      refine jm_put (pc := 22) M fm_341 dX1_join_22 e1 ?_
      refine j_aload_n (pc := 25) M.1 dX1_join_25 0 rfl ?_
      refine j_iload_n (pc := 26) M.1 dX1_join_26 1 rfl ?_
      obtain ⟨r2, g2, hf⟩ := o_bind hf
      refine jm_calli (pc := 27) (As := [.int x1]) (rest := []) M cm_506 (met_hearsFinds g2) rfl rfl rfl rfl dX1_join_27 ?_
      refine j_if_ne (pc := 30) M.1 36 dX1_join_30 rfl (fun c3 => ?_) (fun c3 => ?_)
      · replace hf := o_neg c3 hf
        refine j_iconst (pc := 36) M.1 dX1_join_36 kc_iconst_0 ?_
        refine j_istore_n (pc := 37) M.1 [(2, .int 0), (0, .ref o), (1, .int x1)] dX1_join_37 rfl rfl ?_
        refine j_sub [1, 2, 0] (show lv_pick _ _ = [(0, .ref o), (1, .int x1), (2, .int 0)] from rfl) ?_
        refine lp_W (km_join_B38 M x1 _ ?_) F (0, r2.2) hf
        · intro a1 hf
          refine j_iconst (pc := 105) M.1 dX1_join_105 kc_iconst_0 ?_
          refine j_istore_n (pc := 106) M.1 [(2, .int 0), (0, .ref o), (1, .int x1)] dX1_join_106 rfl rfl ?_
          refine j_sub [1, 2, 0] (show lv_pick _ _ = [(0, .ref o), (1, .int x1), (2, .int 0)] from rfl) ?_
          refine lp_W (km_join_B107 M x1 _ ?_) F (0, a1.2) hf
          · intro a2 hf
            refine j_aload_n (pc := 126) M.1 dX1_join_126 0 rfl ?_
            refine j_iconst (pc := 127) M.1 dX1_join_127 kc_iconst_0 ?_
            refine j_iload_n (pc := 128) M.1 dX1_join_128 1 rfl ?_
            obtain ⟨r3, g3, hf⟩ := o_bind hf
            refine jm_calli (pc := 129) (As := [.int 0, .int x1]) (rest := []) M cm_509 (met_bestFrom g3) rfl rfl rfl rfl dX1_join_129 ?_
            refine j_istore_n (pc := 132) M.1 [(2, .int r3.1), (0, .ref o), (1, .int x1)] dX1_join_132 rfl rfl ?_
            refine j_iload_n (pc := 133) M.1 dX1_join_133 0 rfl ?_
            refine j_sipush (pc := 134) M.1 dX1_join_134 kc_sipush_1000 ?_
            refine j_idiv (pc := 137) M.1 dX1_join_137 (by decide) ?_
            refine j_istore_n (pc := 138) M.1 [(3, .int (r3.1 / 1000)), (2, .int r3.1), (0, .ref o), (1, .int x1)] dX1_join_138 rfl rfl ?_
            refine j_aload_n (pc := 139) M.1 dX1_join_139 2 rfl ?_
            refine j_iload_n (pc := 140) M.1 dX1_join_140 3 rfl ?_
            obtain ⟨σ2, e2, hf⟩ := o_nx hf
            refine jm_put (pc := 141) M fm_512 dX1_join_141 e2 ?_
            refine j_iconst (pc := 144) M.1 dX1_join_144 kc_iconst_0 ?_
            refine j_istore (pc := 145) M.1 [(4, .int 0), (3, .int (r3.1 / 1000)), (2, .int r3.1), (0, .ref o), (1, .int x1)] dX1_join_145 rfl rfl ?_
            refine j_sub [3, 4, 2, 1, 0] (show lv_pick _ _ = [(0, .ref o), (1, .int x1), (2, .int r3.1), (3, .int (r3.1 / 1000)), (4, .int 0)] from rfl) ?_
            refine lp_W (km_join_B147 M x1 (r3.1 / 1000)) F (r3.1, 0, σ2) hf
      · replace hf := o_pos c3 hf
        refine j_bipush (pc := 33) M.1 dX1_join_33 kc_bipush_m2 ?_
        exact jm_iret (pc := 35) M dX1_join_35 hf
    · replace hf := o_neg c2 hf
      refine j_iconst (pc := 18) M.1 dX1_join_18 kc_iconst_m1 ?_
      exact jm_iret (pc := 19) M dX1_join_19 hf
end
theorem dX1_like_0 : decode cX1_like 0 = .ok (.aload_n 0, 1) := by decide +kernel
theorem dX1_like_1 : decode cX1_like 1 = .ok (.iload_n 1, 1) := by decide +kernel
theorem dX1_like_2 : decode cX1_like 2 = .ok (.invokevirtual 482, 3) := by decide +kernel
theorem dX1_like_5 : decode cX1_like 5 = .ok (.ifCond .eq 11, 3) := by decide +kernel
theorem dX1_like_8 : decode cX1_like 8 = .ok (.aload_n 0, 1) := by decide +kernel
theorem dX1_like_9 : decode cX1_like 9 = .ok (.iload_n 2, 1) := by decide +kernel
theorem dX1_like_10 : decode cX1_like 10 = .ok (.invokevirtual 494, 3) := by decide +kernel
theorem dX1_like_13 : decode cX1_like 13 = .ok (.ifCond .ne 5, 3) := by decide +kernel
theorem dX1_like_16 : decode cX1_like 16 = .ok (.iconst (-1), 1) := by decide +kernel
theorem dX1_like_17 : decode cX1_like 17 = .ok (.ireturn, 1) := by decide +kernel
theorem dX1_like_18 : decode cX1_like 18 = .ok (.aload_n 0, 1) := by decide +kernel
theorem dX1_like_19 : decode cX1_like 19 = .ok (.iload_n 1, 1) := by decide +kernel
theorem dX1_like_20 : decode cX1_like 20 = .ok (.iload_n 2, 1) := by decide +kernel
theorem dX1_like_21 : decode cX1_like 21 = .ok (.invokevirtual 503, 3) := by decide +kernel
theorem dX1_like_24 : decode cX1_like 24 = .ok (.ifCond .eq 7, 3) := by decide +kernel
theorem dX1_like_27 : decode cX1_like 27 = .ok (.iconst 1, 1) := by decide +kernel
theorem dX1_like_28 : decode cX1_like 28 = .ok (.goto 4, 3) := by decide +kernel
theorem dX1_like_31 : decode cX1_like 31 = .ok (.iconst 0, 1) := by decide +kernel
theorem dX1_like_32 : decode cX1_like 32 = .ok (.ireturn, 1) := by decide +kernel
section
variable {res : Int32 × MS}
noncomputable def m_like (F : Nat) (x1 x2 : Int32) (σ : MS) : Option (Int32 × MS) :=
  (m_isFind F x1 σ).bind (fun r1 => if r1.1 = 0 then (some ((-1), r1.2)) else ((m_isThing F x2 r1.2).bind (fun r2 => if r2.1 = 0 then (some ((-1), r2.2)) else ((m_isLike F x1 x2 r2.2).bind (fun r3 => if r3.1 = 0 then (some (0, r3.2)) else (some (1, r3.2)))))))
theorem met_like {l : Launch} {G : gG} {o F : Nat} {x1 x2 : Int32} {σ : MS} {res : Int32 × MS} (hf : m_like F x1 x2 σ = some res) : MetMi l G yX1_like cX1_like 3 (some .int) 7 o [.int x1, .int x2] σ res := by
  refine metMi_of (by decide) rfl rfl (fun γ hγ M => ?_)
  subst hγ
  show J γ (MW G o σ) 0 0 0 [(0, .ref o), (1, .int x1), (2, .int x2)] []
  unfold m_like at hf
  refine j_aload_n (pc := 0) M.1 dX1_like_0 0 rfl ?_
  refine j_iload_n (pc := 1) M.1 dX1_like_1 1 rfl ?_
  obtain ⟨r1, g1, hf⟩ := o_bind hf
  refine jm_calli (pc := 2) (As := [.int x1]) (rest := []) M cm_482 (met_isFind g1) rfl rfl rfl rfl dX1_like_2 ?_
  refine j_if_eq (pc := 5) M.1 16 dX1_like_5 rfl (fun c1 => ?_) (fun c1 => ?_)
  · replace hf := o_pos c1 hf
    refine j_iconst (pc := 16) M.1 dX1_like_16 kc_iconst_m1 ?_
    exact jm_iret (pc := 17) M dX1_like_17 hf
  · replace hf := o_neg c1 hf
    refine j_aload_n (pc := 8) M.1 dX1_like_8 0 rfl ?_
    refine j_iload_n (pc := 9) M.1 dX1_like_9 2 rfl ?_
    obtain ⟨r2, g2, hf⟩ := o_bind hf
    refine jm_calli (pc := 10) (As := [.int x2]) (rest := []) M cm_494 (met_isThing g2) rfl rfl rfl rfl dX1_like_10 ?_
    refine j_if_ne (pc := 13) M.1 18 dX1_like_13 rfl (fun c2 => ?_) (fun c2 => ?_)
    · replace hf := o_neg c2 hf
      refine j_aload_n (pc := 18) M.1 dX1_like_18 0 rfl ?_
      refine j_iload_n (pc := 19) M.1 dX1_like_19 1 rfl ?_
      refine j_iload_n (pc := 20) M.1 dX1_like_20 2 rfl ?_
      obtain ⟨r3, g3, hf⟩ := o_bind hf
      refine jm_calli (pc := 21) (As := [.int x1, .int x2]) (rest := []) M cm_503 (met_isLike g3) rfl rfl rfl rfl dX1_like_21 ?_
      refine j_if_eq (pc := 24) M.1 31 dX1_like_24 rfl (fun c3 => ?_) (fun c3 => ?_)
      · replace hf := o_pos c3 hf
        refine j_iconst (pc := 31) M.1 dX1_like_31 kc_iconst_0 ?_
        exact jm_iret (pc := 32) M dX1_like_32 hf
      · replace hf := o_neg c3 hf
        refine j_iconst (pc := 27) M.1 dX1_like_27 kc_iconst_1 ?_
        refine j_goto (pc := 28) M.1 32 dX1_like_28 rfl ?_
        exact jm_iret (pc := 32) M dX1_like_32 hf
    · replace hf := o_pos c2 hf
      refine j_iconst (pc := 16) M.1 dX1_like_16 kc_iconst_m1 ?_
      exact jm_iret (pc := 17) M dX1_like_17 hf
end
theorem dX1_may_0 : decode cX1_may 0 = .ok (.aload_n 0, 1) := by decide +kernel
theorem dX1_may_1 : decode cX1_may 1 = .ok (.iload_n 1, 1) := by decide +kernel
theorem dX1_may_2 : decode cX1_may 2 = .ok (.invokevirtual 482, 3) := by decide +kernel
theorem dX1_may_5 : decode cX1_may 5 = .ok (.ifCond .eq 29, 3) := by decide +kernel
theorem dX1_may_8 : decode cX1_may 8 = .ok (.iload_n 2, 1) := by decide +kernel
theorem dX1_may_9 : decode cX1_may 9 = .ok (.invokestatic 320, 3) := by decide +kernel
theorem dX1_may_12 : decode cX1_may 12 = .ok (.ifCond .eq 22, 3) := by decide +kernel
theorem dX1_may_15 : decode cX1_may 15 = .ok (.aload_n 0, 1) := by decide +kernel
theorem dX1_may_16 : decode cX1_may 16 = .ok (.getfield 160, 3) := by decide +kernel
theorem dX1_may_19 : decode cX1_may 19 = .ok (.iload_n 1, 1) := by decide +kernel
theorem dX1_may_20 : decode cX1_may 20 = .ok (.iaload, 1) := by decide +kernel
theorem dX1_may_21 : decode cX1_may 21 = .ok (.iload_n 2, 1) := by decide +kernel
theorem dX1_may_22 : decode cX1_may 22 = .ok (.if_icmp .gt 12, 3) := by decide +kernel
theorem dX1_may_25 : decode cX1_may 25 = .ok (.aload_n 0, 1) := by decide +kernel
theorem dX1_may_26 : decode cX1_may 26 = .ok (.iload_n 1, 1) := by decide +kernel
theorem dX1_may_27 : decode cX1_may 27 = .ok (.iload_n 2, 1) := by decide +kernel
theorem dX1_may_28 : decode cX1_may 28 = .ok (.invokevirtual 485, 3) := by decide +kernel
theorem dX1_may_31 : decode cX1_may 31 = .ok (.goto 4, 3) := by decide +kernel
theorem dX1_may_34 : decode cX1_may 34 = .ok (.iconst (-1), 1) := by decide +kernel
theorem dX1_may_35 : decode cX1_may 35 = .ok (.ireturn, 1) := by decide +kernel
section
variable {res : Int32 × MS}
noncomputable def m_may (F : Nat) (x1 x2 : Int32) (σ : MS) : Option (Int32 × MS) :=
  (m_isFind F x1 σ).bind (fun r1 => if r1.1 = 0 then (some ((-1), r1.2)) else ((m_isWeek F x2).bind (fun r2 => if r2 = 0 then (some ((-1), r1.2)) else (if okI x1 150 = true then if x2 < (r1.2.2 48 x1.toNatClampNeg) then (some ((-1), r1.2)) else ((m_mayBe F x1 x2 r1.2).bind (fun r3 => some (r3.1, r3.2))) else none))))
theorem met_may {l : Launch} {G : gG} {o F : Nat} {x1 x2 : Int32} {σ : MS} {res : Int32 × MS} (hf : m_may F x1 x2 σ = some res) : MetMi l G yX1_may cX1_may 3 (some .int) 7 o [.int x1, .int x2] σ res := by
  refine metMi_of (by decide) rfl rfl (fun γ hγ M => ?_)
  subst hγ
  show J γ (MW G o σ) 0 0 0 [(0, .ref o), (1, .int x1), (2, .int x2)] []
  unfold m_may at hf
  refine j_aload_n (pc := 0) M.1 dX1_may_0 0 rfl ?_
  refine j_iload_n (pc := 1) M.1 dX1_may_1 1 rfl ?_
  obtain ⟨r1, g1, hf⟩ := o_bind hf
  refine jm_calli (pc := 2) (As := [.int x1]) (rest := []) M cm_482 (met_isFind g1) rfl rfl rfl rfl dX1_may_2 ?_
  refine j_if_eq (pc := 5) M.1 34 dX1_may_5 rfl (fun c1 => ?_) (fun c1 => ?_)
  · replace hf := o_pos c1 hf
    refine j_iconst (pc := 34) M.1 dX1_may_34 kc_iconst_m1 ?_
    exact jm_iret (pc := 35) M dX1_may_35 hf
  · replace hf := o_neg c1 hf
    refine j_iload_n (pc := 8) M.1 dX1_may_8 2 rfl ?_
    obtain ⟨r2, g2, hf⟩ := o_bind hf
    refine jm_calls (pc := 9) (As := [.int x2]) (rest := []) M cs_X1_320 (met_isWeek g2) rfl rfl rfl rfl dX1_may_9 ?_
    refine j_if_eq (pc := 12) M.1 34 dX1_may_12 rfl (fun c2 => ?_) (fun c2 => ?_)
    · replace hf := o_pos c2 hf
      refine j_iconst (pc := 34) M.1 dX1_may_34 kc_iconst_m1 ?_
      exact jm_iret (pc := 35) M dX1_may_35 hf
    · replace hf := o_neg c2 hf
      refine j_aload_n (pc := 15) M.1 dX1_may_15 0 rfl ?_
      refine jm_getA (pc := 16) M fa_160 dX1_may_16 ?_
      refine j_iload_n (pc := 19) M.1 dX1_may_19 1 rfl ?_
      obtain ⟨b1, hf⟩ := o_need hf
      refine jm_iald (pc := 20) M ax_48 b1 dX1_may_20 ?_
      refine j_iload_n (pc := 21) M.1 dX1_may_21 2 rfl ?_
      refine j_icmp_gt (pc := 22) M.1 34 dX1_may_22 rfl (fun c3 => ?_) (fun c3 => ?_)
      · replace hf := o_pos c3 hf
        refine j_iconst (pc := 34) M.1 dX1_may_34 kc_iconst_m1 ?_
        exact jm_iret (pc := 35) M dX1_may_35 hf
      · replace hf := o_neg c3 hf
        refine j_aload_n (pc := 25) M.1 dX1_may_25 0 rfl ?_
        refine j_iload_n (pc := 26) M.1 dX1_may_26 1 rfl ?_
        refine j_iload_n (pc := 27) M.1 dX1_may_27 2 rfl ?_
        obtain ⟨r3, g3, hf⟩ := o_bind hf
        refine jm_calli (pc := 28) (As := [.int x1, .int x2]) (rest := []) M cm_485 (met_mayBe g3) rfl rfl rfl rfl dX1_may_28 ?_
        refine j_goto (pc := 31) M.1 35 dX1_may_31 rfl ?_
        exact jm_iret (pc := 35) M dX1_may_35 hf
end
