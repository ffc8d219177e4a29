set_option maxRecDepth 100000
variable {γ : jG} {G : gG} {o F : Nat}
theorem dX1_nowhere_0 : decode cX1_nowhere 0 = .ok (.iload_n 1, 1) := by decide +kernel
theorem dX1_nowhere_1 : decode cX1_nowhere 1 = .ok (.ifCond .lt 10, 3) := by decide +kernel
theorem dX1_nowhere_4 : decode cX1_nowhere 4 = .ok (.iload_n 2, 1) := by decide +kernel
theorem dX1_nowhere_5 : decode cX1_nowhere 5 = .ok (.invokestatic 320, 3) := by decide +kernel
theorem dX1_nowhere_8 : decode cX1_nowhere 8 = .ok (.ifCond .ne 5, 3) := by decide +kernel
theorem dX1_nowhere_11 : decode cX1_nowhere 11 = .ok (.iconst (-1), 1) := by decide +kernel
theorem dX1_nowhere_12 : decode cX1_nowhere 12 = .ok (.ireturn, 1) := by decide +kernel
theorem dX1_nowhere_13 : decode cX1_nowhere 13 = .ok (.iconst 0, 1) := by decide +kernel
theorem dX1_nowhere_14 : decode cX1_nowhere 14 = .ok (.istore_n 3, 1) := by decide +kernel
theorem dX1_nowhere_15 : decode cX1_nowhere 15 = .ok (.iconst 0, 1) := by decide +kernel
theorem dX1_nowhere_16 : decode cX1_nowhere 16 = .ok (.istore 4, 2) := by decide +kernel
theorem dX1_nowhere_18 : decode cX1_nowhere 18 = .ok (.iload 4, 2) := by decide +kernel
theorem dX1_nowhere_20 : decode cX1_nowhere 20 = .ok (.aload_n 0, 1) := by decide +kernel
theorem dX1_nowhere_21 : decode cX1_nowhere 21 = .ok (.getfield 470, 3) := by decide +kernel
theorem dX1_nowhere_24 : decode cX1_nowhere 24 = .ok (.if_icmp .ge 45, 3) := by decide +kernel
theorem dX1_nowhere_27 : decode cX1_nowhere 27 = .ok (.aload_n 0, 1) := by decide +kernel
theorem dX1_nowhere_28 : decode cX1_nowhere 28 = .ok (.getfield 160, 3) := by decide +kernel
theorem dX1_nowhere_31 : decode cX1_nowhere 31 = .ok (.iload 4, 2) := by decide +kernel
theorem dX1_nowhere_33 : decode cX1_nowhere 33 = .ok (.iaload, 1) := by decide +kernel
theorem dX1_nowhere_34 : decode cX1_nowhere 34 = .ok (.iload_n 2, 1) := by decide +kernel
theorem dX1_nowhere_35 : decode cX1_nowhere 35 = .ok (.if_icmp .gt 28, 3) := by decide +kernel
theorem dX1_nowhere_38 : decode cX1_nowhere 38 = .ok (.aload_n 0, 1) := by decide +kernel
theorem dX1_nowhere_39 : decode cX1_nowhere 39 = .ok (.iload 4, 2) := by decide +kernel
theorem dX1_nowhere_41 : decode cX1_nowhere 41 = .ok (.iload_n 2, 1) := by decide +kernel
theorem dX1_nowhere_42 : decode cX1_nowhere 42 = .ok (.invokevirtual 485, 3) := by decide +kernel
theorem dX1_nowhere_45 : decode cX1_nowhere 45 = .ok (.ifCond .eq 6, 3) := by decide +kernel
theorem dX1_nowhere_48 : decode cX1_nowhere 48 = .ok (.goto 15, 3) := by decide +kernel
theorem dX1_nowhere_51 : decode cX1_nowhere 51 = .ok (.iload_n 3, 1) := by decide +kernel
theorem dX1_nowhere_52 : decode cX1_nowhere 52 = .ok (.iload_n 1, 1) := by decide +kernel
theorem dX1_nowhere_53 : decode cX1_nowhere 53 = .ok (.if_icmp .ne 6, 3) := by decide +kernel
theorem dX1_nowhere_56 : decode cX1_nowhere 56 = .ok (.iload 4, 2) := by decide +kernel
theorem dX1_nowhere_58 : decode cX1_nowhere 58 = .ok (.ireturn, 1) := by decide +kernel
theorem dX1_nowhere_59 : decode cX1_nowhere 59 = .ok (.iload_n 3, 1) := by decide +kernel
theorem dX1_nowhere_60 : decode cX1_nowhere 60 = .ok (.iconst 1, 1) := by decide +kernel
theorem dX1_nowhere_61 : decode cX1_nowhere 61 = .ok (.iadd, 1) := by decide +kernel
theorem dX1_nowhere_62 : decode cX1_nowhere 62 = .ok (.istore_n 3, 1) := by decide +kernel
theorem dX1_nowhere_63 : decode cX1_nowhere 63 = .ok (.iinc 4 1, 3) := by decide +kernel
theorem dX1_nowhere_66 : decode cX1_nowhere 66 = .ok (.goto (-48), 3) := by decide +kernel
theorem dX1_nowhere_69 : decode cX1_nowhere 69 = .ok (.iconst (-1), 1) := by decide +kernel
theorem dX1_nowhere_70 : decode cX1_nowhere 70 = .ok (.ireturn, 1) := by decide +kernel
section
variable {res : Int32 × MS}
noncomputable def m_nowhere_B18 (F : Nat) (x1 x2 : Int32) (R : Int32 × Int32 × MS → Option (Int32 × MS)) (a : Int32 × Int32 × MS) : Option (Int32 × MS) :=
  if (a.2.2.1 57) ≤ a.2.1 then (some ((-1), a.2.2)) else (if okI a.2.1 150 = true then if x2 < (a.2.2.2 48 a.2.1.toNatClampNeg) then (R (a.1, a.2.1 + 1, a.2.2)) else ((m_mayBe F a.2.1 x2 a.2.2).bind (fun r1 => if r1.1 = 0 then (if a.1 = x1 then (some (a.2.1, r1.2)) else (R (a.1 + 1, a.2.1 + 1, r1.2))) else (R (a.1, a.2.1 + 1, r1.2)))) else none)
theorem km_nowhere_B18 (M : MC γ cX1_nowhere 5 G o 7 (some .int) (mQi G o res)) (x1 x2 : Int32) : ∀ R : Int32 × Int32 × MS → Option (Int32 × MS), (∀ a, R a = some res → J γ (MW G o a.2.2) 0 0 18 [(0, .ref o), (1, .int x1), (2, .int x2), (3, .int a.1), (4, .int a.2.1)] []) → ∀ a, m_nowhere_B18 F x1 x2 R a = some res → J γ (MW G o a.2.2) 0 0 18 [(0, .ref o), (1, .int x1), (2, .int x2), (3, .int a.1), (4, .int a.2.1)] [] := by
  intro R hR a hf
  unfold m_nowhere_B18 at hf
  refine j_iload (pc := 18) M.1 dX1_nowhere_18 4 rfl ?_
  refine j_aload_n (pc := 20) M.1 dX1_nowhere_20 0 rfl ?_
  refine jm_getS (pc := 21) M fm_470 dX1_nowhere_21 ?_
  refine j_icmp_ge (pc := 24) M.1 69 dX1_nowhere_24 rfl (fun c1 => ?_) (fun c1 => ?_)
  · replace hf := o_pos c1 hf
    refine j_iconst (pc := 69) M.1 dX1_nowhere_69 kc_iconst_m1 ?_
    exact jm_iret (pc := 70) M dX1_nowhere_70 hf
  · replace hf := o_neg c1 hf
    refine j_aload_n (pc := 27) M.1 dX1_nowhere_27 0 rfl ?_
    refine jm_getA (pc := 28) M fa_160 dX1_nowhere_28 ?_
    refine j_iload (pc := 31) M.1 dX1_nowhere_31 4 rfl ?_
    obtain ⟨b1, hf⟩ := o_need hf
    refine jm_iald (pc := 33) M ax_48 b1 dX1_nowhere_33 ?_
    refine j_iload_n (pc := 34) M.1 dX1_nowhere_34 2 rfl ?_
    refine j_icmp_gt (pc := 35) M.1 63 dX1_nowhere_35 rfl (fun c2 => ?_) (fun c2 => ?_)
    · replace hf := o_pos c2 hf
      refine j_iinc (pc := 63) M.1 [(4, .int (a.2.1 + 1)), (0, .ref o), (1, .int x1), (2, .int x2), (3, .int a.1)] dX1_nowhere_63 4 rfl (congrArg _ kc_iconst_1) rfl rfl ?_
      refine j_goto (pc := 66) M.1 18 dX1_nowhere_66 rfl ?_
      refine j_sub [1, 2, 3, 4, 0] (show lv_pick _ _ = [(0, .ref o), (1, .int x1), (2, .int x2), (3, .int a.1), (4, .int (a.2.1 + 1))] from rfl) ?_
      have hy := hR _ hf
      exact hy
    · replace hf := o_neg c2 hf
      refine j_aload_n (pc := 38) M.1 dX1_nowhere_38 0 rfl ?_
      refine j_iload (pc := 39) M.1 dX1_nowhere_39 4 rfl ?_
      refine j_iload_n (pc := 41) M.1 dX1_nowhere_41 2 rfl ?_
      obtain ⟨r1, g1, hf⟩ := o_bind hf
      refine jm_calli (pc := 42) (As := [.int a.2.1, .int x2]) (rest := []) M cm_485 (met_mayBe g1) rfl rfl rfl rfl dX1_nowhere_42 ?_
      refine j_if_eq (pc := 45) M.1 51 dX1_nowhere_45 rfl (fun c3 => ?_) (fun c3 => ?_)
      · replace hf := o_pos c3 hf
        refine j_iload_n (pc := 51) M.1 dX1_nowhere_51 3 rfl ?_
        refine j_iload_n (pc := 52) M.1 dX1_nowhere_52 1 rfl ?_
        refine j_icmp_ne (pc := 53) M.1 59 dX1_nowhere_53 rfl (fun c4 => ?_) (fun c4 => ?_)
        · replace hf := o_neg c4 hf
          refine j_iload_n (pc := 59) M.1 dX1_nowhere_59 3 rfl ?_
          refine j_iconst (pc := 60) M.1 dX1_nowhere_60 kc_iconst_1 ?_
          refine j_iadd (pc := 61) M.1 dX1_nowhere_61 ?_
          refine j_istore_n (pc := 62) M.1 [(3, .int (a.1 + 1)), (0, .ref o), (1, .int x1), (2, .int x2), (4, .int a.2.1)] dX1_nowhere_62 rfl rfl ?_
          refine j_iinc (pc := 63) M.1 [(4, .int (a.2.1 + 1)), (3, .int (a.1 + 1)), (0, .ref o), (1, .int x1), (2, .int x2)] dX1_nowhere_63 4 rfl (congrArg _ kc_iconst_1) rfl rfl ?_
          refine j_goto (pc := 66) M.1 18 dX1_nowhere_66 rfl ?_
          refine j_sub [2, 3, 4, 1, 0] (show lv_pick _ _ = [(0, .ref o), (1, .int x1), (2, .int x2), (3, .int (a.1 + 1)), (4, .int (a.2.1 + 1))] from rfl) ?_
          have hy := hR _ hf
          exact hy
        · replace hf := o_pos c4 hf
          refine j_iload (pc := 56) M.1 dX1_nowhere_56 4 rfl ?_
          exact jm_iret (pc := 58) M dX1_nowhere_58 hf
      · replace hf := o_neg c3 hf
        refine j_goto (pc := 48) M.1 63 dX1_nowhere_48 rfl ?_
        refine j_iinc (pc := 63) M.1 [(4, .int (a.2.1 + 1)), (0, .ref o), (1, .int x1), (2, .int x2), (3, .int a.1)] dX1_nowhere_63 4 rfl (congrArg _ kc_iconst_1) rfl rfl ?_
        refine j_goto (pc := 66) M.1 18 dX1_nowhere_66 rfl ?_
        refine j_sub [1, 2, 3, 4, 0] (show lv_pick _ _ = [(0, .ref o), (1, .int x1), (2, .int x2), (3, .int a.1), (4, .int (a.2.1 + 1))] from rfl) ?_
        have hy := hR _ hf
        exact hy
noncomputable def m_nowhere (F : Nat) (x1 x2 : Int32) (σ : MS) : Option (Int32 × MS) :=
  if x1 < 0 then (some ((-1), σ)) else ((m_isWeek F x2).bind (fun r1 => if r1 = 0 then (some ((-1), σ)) else (lp (m_nowhere_B18 F x1 x2) F (0, 0, σ))))
theorem met_nowhere {l : Launch} {G : gG} {o F : Nat} {x1 x2 : Int32} {σ : MS} {res : Int32 × MS} (hf : m_nowhere F x1 x2 σ = some res) : MetMi l G yX1_nowhere cX1_nowhere 5 (some .int) 7 o [.int x1, .int x2] σ res := by
  refine metMi_of (by decide) rfl rfl (fun γ hγ M => ?_)
  subst hγ
  show J γ (MW G o σ) 0 0 0 [(0, .ref o), (1, .int x1), (2, .int x2)] []
  unfold m_nowhere at hf
  refine j_iload_n (pc := 0) M.1 dX1_nowhere_0 1 rfl ?_
  refine j_if_lt (pc := 1) M.1 11 dX1_nowhere_1 rfl (fun c1 => ?_) (fun c1 => ?_)
  · replace hf := o_pos c1 hf
    refine j_iconst (pc := 11) M.1 dX1_nowhere_11 kc_iconst_m1 ?_
    exact jm_iret (pc := 12) M dX1_nowhere_12 hf
  · replace hf := o_neg c1 hf
    refine j_iload_n (pc := 4) M.1 dX1_nowhere_4 2 rfl ?_
    obtain ⟨r1, g1, hf⟩ := o_bind hf
    refine jm_calls (pc := 5) (As := [.int x2]) (rest := []) M cs_X1_320 (met_isWeek g1) rfl rfl rfl rfl dX1_nowhere_5 ?_
    refine j_if_ne (pc := 8) M.1 13 dX1_nowhere_8 rfl (fun c2 => ?_) (fun c2 => ?_)
    · replace hf := o_neg c2 hf
      refine j_iconst (pc := 13) M.1 dX1_nowhere_13 kc_iconst_0 ?_
      refine j_istore_n (pc := 14) M.1 [(3, .int 0), (0, .ref o), (1, .int x1), (2, .int x2)] dX1_nowhere_14 rfl rfl ?_
      refine j_iconst (pc := 15) M.1 dX1_nowhere_15 kc_iconst_0 ?_
      refine j_istore (pc := 16) M.1 [(4, .int 0), (3, .int 0), (0, .ref o), (1, .int x1), (2, .int x2)] dX1_nowhere_16 rfl rfl ?_
      refine j_sub [2, 3, 4, 1, 0] (show lv_pick _ _ = [(0, .ref o), (1, .int x1), (2, .int x2), (3, .int 0), (4, .int 0)] from rfl) ?_
      refine lp_W (km_nowhere_B18 M x1 x2) F (0, 0, σ) hf
    · replace hf := o_pos c2 hf
      refine j_iconst (pc := 11) M.1 dX1_nowhere_11 kc_iconst_m1 ?_
      exact jm_iret (pc := 12) M dX1_nowhere_12 hf
end
theorem dX1_readsCondition_0 : decode cX1_readsCondition 0 = .ok (.aload_n 0, 1) := by decide +kernel
theorem dX1_readsCondition_1 : decode cX1_readsCondition 1 = .ok (.iconst 0, 1) := by decide +kernel
theorem dX1_readsCondition_2 : decode cX1_readsCondition 2 = .ok (.putfield 375, 3) := by decide +kernel
theorem dX1_readsCondition_5 : decode cX1_readsCondition 5 = .ok (.aload_n 0, 1) := by decide +kernel
theorem dX1_readsCondition_6 : decode cX1_readsCondition 6 = .ok (.iconst 0, 1) := by decide +kernel
theorem dX1_readsCondition_7 : decode cX1_readsCondition 7 = .ok (.putfield 378, 3) := by decide +kernel
theorem dX1_readsCondition_10 : decode cX1_readsCondition 10 = .ok (.aload_n 0, 1) := by decide +kernel
theorem dX1_readsCondition_11 : decode cX1_readsCondition 11 = .ok (.bipush 13, 2) := by decide +kernel
theorem dX1_readsCondition_13 : decode cX1_readsCondition 13 = .ok (.invokevirtual 387, 3) := by decide +kernel
theorem dX1_readsCondition_16 : decode cX1_readsCondition 16 = .ok (.ifCond .ne 5, 3) := by decide +kernel
theorem dX1_readsCondition_19 : decode cX1_readsCondition 19 = .ok (.iconst 0, 1) := by decide +kernel
theorem dX1_readsCondition_20 : decode cX1_readsCondition 20 = .ok (.ireturn, 1) := by decide +kernel
theorem dX1_readsCondition_21 : decode cX1_readsCondition 21 = .ok (.aload_n 0, 1) := by decide +kernel
theorem dX1_readsCondition_22 : decode cX1_readsCondition 22 = .ok (.invokevirtual 354, 3) := by decide +kernel
theorem dX1_readsCondition_25 : decode cX1_readsCondition 25 = .ok (.bipush 33, 2) := by decide +kernel
theorem dX1_readsCondition_27 : decode cX1_readsCondition 27 = .ok (.if_icmp .eq 12, 3) := by decide +kernel
theorem dX1_readsCondition_30 : decode cX1_readsCondition 30 = .ok (.aload_n 0, 1) := by decide +kernel
theorem dX1_readsCondition_31 : decode cX1_readsCondition 31 = .ok (.invokevirtual 354, 3) := by decide +kernel
theorem dX1_readsCondition_34 : decode cX1_readsCondition 34 = .ok (.bipush 40, 2) := by decide +kernel
theorem dX1_readsCondition_36 : decode cX1_readsCondition 36 = .ok (.if_icmp .ne 28, 3) := by decide +kernel
theorem dX1_readsCondition_39 : decode cX1_readsCondition 39 = .ok (.aload_n 0, 1) := by decide +kernel
theorem dX1_readsCondition_40 : decode cX1_readsCondition 40 = .ok (.aload_n 0, 1) := by decide +kernel
theorem dX1_readsCondition_41 : decode cX1_readsCondition 41 = .ok (.invokevirtual 354, 3) := by decide +kernel
theorem dX1_readsCondition_44 : decode cX1_readsCondition 44 = .ok (.bipush 33, 2) := by decide +kernel
theorem dX1_readsCondition_46 : decode cX1_readsCondition 46 = .ok (.if_icmp .ne 8, 3) := by decide +kernel
theorem dX1_readsCondition_49 : decode cX1_readsCondition 49 = .ok (.bipush 10, 2) := by decide +kernel
theorem dX1_readsCondition_51 : decode cX1_readsCondition 51 = .ok (.goto 5, 3) := by decide +kernel
theorem dX1_readsCondition_54 : decode cX1_readsCondition 54 = .ok (.bipush 13, 2) := by decide +kernel
theorem dX1_readsCondition_56 : decode cX1_readsCondition 56 = .ok (.invokevirtual 387, 3) := by decide +kernel
theorem dX1_readsCondition_59 : decode cX1_readsCondition 59 = .ok (.ifCond .ne (-38), 3) := by decide +kernel
theorem dX1_readsCondition_62 : decode cX1_readsCondition 62 = .ok (.iconst 0, 1) := by decide +kernel
theorem dX1_readsCondition_63 : decode cX1_readsCondition 63 = .ok (.ireturn, 1) := by decide +kernel
theorem dX1_readsCondition_64 : decode cX1_readsCondition 64 = .ok (.aload_n 0, 1) := by decide +kernel
theorem dX1_readsCondition_65 : decode cX1_readsCondition 65 = .ok (.invokevirtual 417, 3) := by decide +kernel
theorem dX1_readsCondition_68 : decode cX1_readsCondition 68 = .ok (.ifCond .ne 5, 3) := by decide +kernel
theorem dX1_readsCondition_71 : decode cX1_readsCondition 71 = .ok (.iconst 0, 1) := by decide +kernel
theorem dX1_readsCondition_72 : decode cX1_readsCondition 72 = .ok (.ireturn, 1) := by decide +kernel
theorem dX1_readsCondition_73 : decode cX1_readsCondition 73 = .ok (.aload_n 0, 1) := by decide +kernel
theorem dX1_readsCondition_74 : decode cX1_readsCondition 74 = .ok (.invokevirtual 354, 3) := by decide +kernel
theorem dX1_readsCondition_77 : decode cX1_readsCondition 77 = .ok (.bipush 41, 2) := by decide +kernel
theorem dX1_readsCondition_79 : decode cX1_readsCondition 79 = .ok (.if_icmp .ne 54, 3) := by decide +kernel
theorem dX1_readsCondition_82 : decode cX1_readsCondition 82 = .ok (.aload_n 0, 1) := by decide +kernel
theorem dX1_readsCondition_83 : decode cX1_readsCondition 83 = .ok (.iconst 1, 1) := by decide +kernel
theorem dX1_readsCondition_84 : decode cX1_readsCondition 84 = .ok (.invokevirtual 420, 3) := by decide +kernel
theorem dX1_readsCondition_87 : decode cX1_readsCondition 87 = .ok (.aload_n 0, 1) := by decide +kernel
theorem dX1_readsCondition_88 : decode cX1_readsCondition 88 = .ok (.aload_n 0, 1) := by decide +kernel
theorem dX1_readsCondition_89 : decode cX1_readsCondition 89 = .ok (.getfield 378, 3) := by decide +kernel
theorem dX1_readsCondition_92 : decode cX1_readsCondition 92 = .ok (.iconst 1, 1) := by decide +kernel
theorem dX1_readsCondition_93 : decode cX1_readsCondition 93 = .ok (.isub, 1) := by decide +kernel
theorem dX1_readsCondition_94 : decode cX1_readsCondition 94 = .ok (.putfield 378, 3) := by decide +kernel
theorem dX1_readsCondition_97 : decode cX1_readsCondition 97 = .ok (.aload_n 0, 1) := by decide +kernel
theorem dX1_readsCondition_98 : decode cX1_readsCondition 98 = .ok (.aload_n 0, 1) := by decide +kernel
theorem dX1_readsCondition_99 : decode cX1_readsCondition 99 = .ok (.getfield 375, 3) := by decide +kernel
theorem dX1_readsCondition_102 : decode cX1_readsCondition 102 = .ok (.iconst 1, 1) := by decide +kernel
theorem dX1_readsCondition_103 : decode cX1_readsCondition 103 = .ok (.isub, 1) := by decide +kernel
theorem dX1_readsCondition_104 : decode cX1_readsCondition 104 = .ok (.putfield 375, 3) := by decide +kernel
theorem dX1_readsCondition_107 : decode cX1_readsCondition 107 = .ok (.aload_n 0, 1) := by decide +kernel
theorem dX1_readsCondition_108 : decode cX1_readsCondition 108 = .ok (.aload_n 0, 1) := by decide +kernel
theorem dX1_readsCondition_109 : decode cX1_readsCondition 109 = .ok (.getfield 348, 3) := by decide +kernel
theorem dX1_readsCondition_112 : decode cX1_readsCondition 112 = .ok (.iconst 1, 1) := by decide +kernel
theorem dX1_readsCondition_113 : decode cX1_readsCondition 113 = .ok (.iadd, 1) := by decide +kernel
theorem dX1_readsCondition_114 : decode cX1_readsCondition 114 = .ok (.putfield 348, 3) := by decide +kernel
theorem dX1_readsCondition_117 : decode cX1_readsCondition 117 = .ok (.aload_n 0, 1) := by decide +kernel
theorem dX1_readsCondition_118 : decode cX1_readsCondition 118 = .ok (.getfield 378, 3) := by decide +kernel
theorem dX1_readsCondition_121 : decode cX1_readsCondition 121 = .ok (.ifCond .ne 5, 3) := by decide +kernel
theorem dX1_readsCondition_124 : decode cX1_readsCondition 124 = .ok (.iconst 1, 1) := by decide +kernel
theorem dX1_readsCondition_125 : decode cX1_readsCondition 125 = .ok (.ireturn, 1) := by decide +kernel
theorem dX1_readsCondition_126 : decode cX1_readsCondition 126 = .ok (.aload_n 0, 1) := by decide +kernel
theorem dX1_readsCondition_127 : decode cX1_readsCondition 127 = .ok (.invokevirtual 414, 3) := by decide +kernel
theorem dX1_readsCondition_130 : decode cX1_readsCondition 130 = .ok (.goto (-57), 3) := by decide +kernel
theorem dX1_readsCondition_133 : decode cX1_readsCondition 133 = .ok (.aload_n 0, 1) := by decide +kernel
theorem dX1_readsCondition_134 : decode cX1_readsCondition 134 = .ok (.invokevirtual 354, 3) := by decide +kernel
theorem dX1_readsCondition_137 : decode cX1_readsCondition 137 = .ok (.bipush 38, 2) := by decide +kernel
theorem dX1_readsCondition_139 : decode cX1_readsCondition 139 = .ok (.if_icmp .eq 22, 3) := by decide +kernel
theorem dX1_readsCondition_142 : decode cX1_readsCondition 142 = .ok (.aload_n 0, 1) := by decide +kernel
theorem dX1_readsCondition_143 : decode cX1_readsCondition 143 = .ok (.invokevirtual 354, 3) := by decide +kernel
theorem dX1_readsCondition_146 : decode cX1_readsCondition 146 = .ok (.bipush 124, 2) := by decide +kernel
theorem dX1_readsCondition_148 : decode cX1_readsCondition 148 = .ok (.if_icmp .eq 13, 3) := by decide +kernel
theorem dX1_readsCondition_151 : decode cX1_readsCondition 151 = .ok (.aload_n 0, 1) := by decide +kernel
theorem dX1_readsCondition_152 : decode cX1_readsCondition 152 = .ok (.iconst 1, 1) := by decide +kernel
theorem dX1_readsCondition_153 : decode cX1_readsCondition 153 = .ok (.aload_n 0, 1) := by decide +kernel
theorem dX1_readsCondition_154 : decode cX1_readsCondition 154 = .ok (.getfield 348, 3) := by decide +kernel
theorem dX1_readsCondition_157 : decode cX1_readsCondition 157 = .ok (.invokevirtual 361, 3) := by decide +kernel
theorem dX1_readsCondition_160 : decode cX1_readsCondition 160 = .ok (.ireturn, 1) := by decide +kernel
theorem dX1_readsCondition_161 : decode cX1_readsCondition 161 = .ok (.aload_n 0, 1) := by decide +kernel
theorem dX1_readsCondition_162 : decode cX1_readsCondition 162 = .ok (.aload_n 0, 1) := by decide +kernel
theorem dX1_readsCondition_163 : decode cX1_readsCondition 163 = .ok (.invokevirtual 354, 3) := by decide +kernel
theorem dX1_readsCondition_166 : decode cX1_readsCondition 166 = .ok (.bipush 124, 2) := by decide +kernel
theorem dX1_readsCondition_168 : decode cX1_readsCondition 168 = .ok (.if_icmp .ne 7, 3) := by decide +kernel
theorem dX1_readsCondition_171 : decode cX1_readsCondition 171 = .ok (.iconst 1, 1) := by decide +kernel
theorem dX1_readsCondition_172 : decode cX1_readsCondition 172 = .ok (.goto 4, 3) := by decide +kernel
theorem dX1_readsCondition_175 : decode cX1_readsCondition 175 = .ok (.iconst 0, 1) := by decide +kernel
theorem dX1_readsCondition_176 : decode cX1_readsCondition 176 = .ok (.invokevirtual 420, 3) := by decide +kernel
theorem dX1_readsCondition_179 : decode cX1_readsCondition 179 = .ok (.aload_n 0, 1) := by decide +kernel
theorem dX1_readsCondition_180 : decode cX1_readsCondition 180 = .ok (.aload_n 0, 1) := by decide +kernel
theorem dX1_readsCondition_181 : decode cX1_readsCondition 181 = .ok (.invokevirtual 354, 3) := by decide +kernel
theorem dX1_readsCondition_184 : decode cX1_readsCondition 184 = .ok (.bipush 38, 2) := by decide +kernel
theorem dX1_readsCondition_186 : decode cX1_readsCondition 186 = .ok (.if_icmp .ne 8, 3) := by decide +kernel
theorem dX1_readsCondition_189 : decode cX1_readsCondition 189 = .ok (.bipush 11, 2) := by decide +kernel
theorem dX1_readsCondition_191 : decode cX1_readsCondition 191 = .ok (.goto 5, 3) := by decide +kernel
theorem dX1_readsCondition_194 : decode cX1_readsCondition 194 = .ok (.bipush 12, 2) := by decide +kernel
theorem dX1_readsCondition_196 : decode cX1_readsCondition 196 = .ok (.invokevirtual 423, 3) := by decide +kernel
theorem dX1_readsCondition_199 : decode cX1_readsCondition 199 = .ok (.goto (-178), 3) := by decide +kernel
section
variable {res : Int32 × MS}
noncomputable def m_readsCondition_56 (F : Nat) (K151 : MS → Option (Int32 × MS)) (R : MS → Option (Int32 × MS)) (s0 : Int32) (σ : MS) : Option (Int32 × MS) :=
  (m_opens F s0 σ).bind (fun r1 => if r1.1 = 0 then (some (0, r1.2)) else (R r1.2))
theorem km_readsCondition_56 (M : MC γ cX1_readsCondition 1 G o 7 (some .boolean) (mQi G o res)) (s0 : Int32) (K151 : MS → Option (Int32 × MS)) (hK151 : ∀ a, K151 a = some res → J γ (MW G o a) 0 0 151 [(0, .ref o)] []) (R : MS → Option (Int32 × MS)) (hR : ∀ a, R a = some res → J γ (MW G o a) 0 0 21 [(0, .ref o)] []) (σ : MS) (hf : m_readsCondition_56 F K151 R s0 σ = some res) : J γ (MW G o σ) 0 0 56 [(0, .ref o)] [.int s0, .ref o] := by
  unfold m_readsCondition_56 at hf
  obtain ⟨r1, g1, hf⟩ := o_bind hf
  refine jm_calli (pc := 56) (As := [.int s0]) (rest := []) M cm_387 (met_opens g1) rfl rfl rfl rfl dX1_readsCondition_56 ?_
  refine j_if_ne (pc := 59) M.1 21 dX1_readsCondition_59 rfl (fun c1 => ?_) (fun c1 => ?_)
  · replace hf := o_neg c1 hf
    have hy := hR _ hf
    exact hy
  · replace hf := o_pos c1 hf
    refine j_iconst (pc := 62) M.1 dX1_readsCondition_62 kc_iconst_0 ?_
    exact jm_zret (pc := 63) M dX1_readsCondition_63 rfl hf
noncomputable def m_readsCondition_39 (F : Nat) (K151 : MS → Option (Int32 × MS)) (R : MS → Option (Int32 × MS)) (σ : MS) : Option (Int32 × MS) :=
  (m_byteHere F σ).bind (fun r1 => if r1.1 = 33 then (m_readsCondition_56 F K151 R 10 r1.2) else (m_readsCondition_56 F K151 R 13 r1.2))
theorem km_readsCondition_39 (M : MC γ cX1_readsCondition 1 G o 7 (some .boolean) (mQi G o res)) (K151 : MS → Option (Int32 × MS)) (hK151 : ∀ a, K151 a = some res → J γ (MW G o a) 0 0 151 [(0, .ref o)] []) (R : MS → Option (Int32 × MS)) (hR : ∀ a, R a = some res → J γ (MW G o a) 0 0 21 [(0, .ref o)] []) (σ : MS) (hf : m_readsCondition_39 F K151 R σ = some res) : J γ (MW G o σ) 0 0 39 [(0, .ref o)] [] := by
  unfold m_readsCondition_39 at hf
  refine j_aload_n (pc := 39) M.1 dX1_readsCondition_39 0 rfl ?_
  refine j_aload_n (pc := 40) M.1 dX1_readsCondition_40 0 rfl ?_
  obtain ⟨r1, g1, hf⟩ := o_bind hf
  refine jm_calli (pc := 41) (As := []) (rest := [.ref o]) M cm_354 (met_byteHere g1) rfl rfl rfl rfl dX1_readsCondition_41 ?_
  refine j_bipush (pc := 44) M.1 dX1_readsCondition_44 kc_bipush_33 ?_
  refine j_icmp_ne (pc := 46) M.1 54 dX1_readsCondition_46 rfl (fun c1 => ?_) (fun c1 => ?_)
  · replace hf := o_neg c1 hf
    refine j_bipush (pc := 54) M.1 dX1_readsCondition_54 kc_bipush_13 ?_
    exact km_readsCondition_56 M 13 K151 hK151 R hR r1.2 hf
  · replace hf := o_pos c1 hf
    refine j_bipush (pc := 49) M.1 dX1_readsCondition_49 kc_bipush_10 ?_
    refine j_goto (pc := 51) M.1 56 dX1_readsCondition_51 rfl ?_
    exact km_readsCondition_56 M 10 K151 hK151 R hR r1.2 hf
noncomputable def m_readsCondition_B73 (F : Nat) (K133 : MS → Option (Int32 × MS)) (R : MS → Option (Int32 × MS)) (a : MS) : Option (Int32 × MS) :=
  (m_byteHere F a).bind (fun r1 => if r1.1 = 41 then ((m_lands F 1 r1.2).bind (fun r2 => nx (sS r2.2 35 ((r2.2.1 35) - 1)) (fun σ1 => nx (sS σ1 33 ((σ1.1 33) - 1)) (fun σ2 => nx (sS σ2 29 ((σ2.1 29) + 1)) (fun σ3 => if (σ3.1 35) = 0 then (some (1, σ3)) else ((m_endsPiece F σ3).bind (fun r3 => R r3.2))))))) else (K133 r1.2))
theorem km_readsCondition_B73 (M : MC γ cX1_readsCondition 1 G o 7 (some .boolean) (mQi G o res)) (K133 : MS → Option (Int32 × MS)) (hK133 : ∀ a, K133 a = some res → J γ (MW G o a) 0 0 133 [(0, .ref o)] []) : ∀ R : MS → Option (Int32 × MS), (∀ a, R a = some res → J γ (MW G o a) 0 0 73 [(0, .ref o)] []) → ∀ a, m_readsCondition_B73 F K133 R a = some res → J γ (MW G o a) 0 0 73 [(0, .ref o)] [] := by
  intro R hR a hf
  unfold m_readsCondition_B73 at hf
  refine j_aload_n (pc := 73) M.1 dX1_readsCondition_73 0 rfl ?_
  obtain ⟨r1, g1, hf⟩ := o_bind hf
  refine jm_calli (pc := 74) (As := []) (rest := []) M cm_354 (met_byteHere g1) rfl rfl rfl rfl dX1_readsCondition_74 ?_
  refine j_bipush (pc := 77) M.1 dX1_readsCondition_77 kc_bipush_41 ?_
  refine j_icmp_ne (pc := 79) M.1 133 dX1_readsCondition_79 rfl (fun c1 => ?_) (fun c1 => ?_)
  · replace hf := o_neg c1 hf
    have hy := hK133 _ hf
    exact hy
  · replace hf := o_pos c1 hf
    refine j_aload_n (pc := 82) M.1 dX1_readsCondition_82 0 rfl ?_
    refine j_iconst (pc := 83) M.1 dX1_readsCondition_83 kc_iconst_1 ?_
    obtain ⟨r2, g2, hf⟩ := o_bind hf
    refine jm_callv (pc := 84) (As := [.int 1]) (rest := []) M cm_420 (met_lands g2) rfl rfl rfl rfl dX1_readsCondition_84 ?_
    refine j_aload_n (pc := 87) M.1 dX1_readsCondition_87 0 rfl ?_
    refine j_aload_n (pc := 88) M.1 dX1_readsCondition_88 0 rfl ?_
    refine jm_getS (pc := 89) M fm_378 dX1_readsCondition_89 ?_
    refine j_iconst (pc := 92) M.1 dX1_readsCondition_92 kc_iconst_1 ?_
    refine j_isub (pc := 93) M.1 dX1_readsCondition_93 ?_
    obtain ⟨σ1, e1, hf⟩ := o_nx hf
    refine jm_put (pc := 94) M fm_378 dX1_readsCondition_94 e1 ?_
    refine j_aload_n (pc := 97) M.1 dX1_readsCondition_97 0 rfl ?_
    refine j_aload_n (pc := 98) M.1 dX1_readsCondition_98 0 rfl ?_
    refine jm_getS (pc := 99) M fm_375 dX1_readsCondition_99 ?_
    refine j_iconst (pc := 102) M.1 dX1_readsCondition_102 kc_iconst_1 ?_
    refine j_isub (pc := 103) M.1 dX1_readsCondition_103 ?_
    obtain ⟨σ2, e2, hf⟩ := o_nx hf
    refine jm_put (pc := 104) M fm_375 dX1_readsCondition_104 e2 ?_
    refine j_aload_n (pc := 107) M.1 dX1_readsCondition_107 0 rfl ?_
    refine j_aload_n (pc := 108) M.1 dX1_readsCondition_108 0 rfl ?_
    refine jm_getS (pc := 109) M fm_348 dX1_readsCondition_109 ?_
    refine j_iconst (pc := 112) M.1 dX1_readsCondition_112 kc_iconst_1 ?_
    refine j_iadd (pc := 113) M.1 dX1_readsCondition_113 ?_
    obtain ⟨σ3, e3, hf⟩ := o_nx hf
    refine jm_put (pc := 114) M fm_348 dX1_readsCondition_114 e3 ?_
    refine j_aload_n (pc := 117) M.1 dX1_readsCondition_117 0 rfl ?_
    refine jm_getS (pc := 118) M fm_378 dX1_readsCondition_118 ?_
    refine j_if_ne (pc := 121) M.1 126 dX1_readsCondition_121 rfl (fun c2 => ?_) (fun c2 => ?_)
    · replace hf := o_neg c2 hf
      refine j_aload_n (pc := 126) M.1 dX1_readsCondition_126 0 rfl ?_
      obtain ⟨r3, g3, hf⟩ := o_bind hf
      refine jm_callv (pc := 127) (As := []) (rest := []) M cm_414 (met_endsPiece g3) rfl rfl rfl rfl dX1_readsCondition_127 ?_
      refine j_goto (pc := 130) M.1 73 dX1_readsCondition_130 rfl ?_
      have hy := hR _ hf
      exact hy
    · replace hf := o_pos c2 hf
      refine j_iconst (pc := 124) M.1 dX1_readsCondition_124 kc_iconst_1 ?_
      exact jm_zret (pc := 125) M dX1_readsCondition_125 rfl hf
noncomputable def m_readsCondition_176 (F : Nat) (K151 : MS → Option (Int32 × MS)) (R : MS → Option (Int32 × MS)) (s0 : Int32) (σ : MS) : Option (Int32 × MS) :=
  (m_lands F s0 σ).bind (fun r1 => (m_byteHere F r1.2).bind (fun r2 => if r2.1 = 38 then ((m_jumps F 11 r2.2).bind (fun r4 => R r4.2)) else ((m_jumps F 12 r2.2).bind (fun r3 => R r3.2))))
theorem km_readsCondition_176 (M : MC γ cX1_readsCondition 1 G o 7 (some .boolean) (mQi G o res)) (s0 : Int32) (K151 : MS → Option (Int32 × MS)) (hK151 : ∀ a, K151 a = some res → J γ (MW G o a) 0 0 151 [(0, .ref o)] []) (R : MS → Option (Int32 × MS)) (hR : ∀ a, R a = some res → J γ (MW G o a) 0 0 21 [(0, .ref o)] []) (σ : MS) (hf : m_readsCondition_176 F K151 R s0 σ = some res) : J γ (MW G o σ) 0 0 176 [(0, .ref o)] [.int s0, .ref o] := by
  unfold m_readsCondition_176 at hf
  obtain ⟨r1, g1, hf⟩ := o_bind hf
  refine jm_callv (pc := 176) (As := [.int s0]) (rest := []) M cm_420 (met_lands g1) rfl rfl rfl rfl dX1_readsCondition_176 ?_
  refine j_aload_n (pc := 179) M.1 dX1_readsCondition_179 0 rfl ?_
  refine j_aload_n (pc := 180) M.1 dX1_readsCondition_180 0 rfl ?_
  obtain ⟨r2, g2, hf⟩ := o_bind hf
  refine jm_calli (pc := 181) (As := []) (rest := [.ref o]) M cm_354 (met_byteHere g2) rfl rfl rfl rfl dX1_readsCondition_181 ?_
  refine j_bipush (pc := 184) M.1 dX1_readsCondition_184 kc_bipush_38 ?_
  refine j_icmp_ne (pc := 186) M.1 194 dX1_readsCondition_186 rfl (fun c1 => ?_) (fun c1 => ?_)
  · replace hf := o_neg c1 hf
    refine j_bipush (pc := 194) M.1 dX1_readsCondition_194 kc_bipush_12 ?_
    obtain ⟨r3, g3, hf⟩ := o_bind hf
    refine jm_callv (pc := 196) (As := [.int 12]) (rest := []) M cm_423 (met_jumps g3) rfl rfl rfl rfl dX1_readsCondition_196 ?_
    refine j_goto (pc := 199) M.1 21 dX1_readsCondition_199 rfl ?_
    have hy := hR _ hf
    exact hy
  · replace hf := o_pos c1 hf
    refine j_bipush (pc := 189) M.1 dX1_readsCondition_189 kc_bipush_11 ?_
    refine j_goto (pc := 191) M.1 196 dX1_readsCondition_191 rfl ?_
    obtain ⟨r4, g4, hf⟩ := o_bind hf
    refine jm_callv (pc := 196) (As := [.int 11]) (rest := []) M cm_423 (met_jumps g4) rfl rfl rfl rfl dX1_readsCondition_196 ?_
    refine j_goto (pc := 199) M.1 21 dX1_readsCondition_199 rfl ?_
    have hy := hR _ hf
    exact hy
noncomputable def m_readsCondition_161 (F : Nat) (K151 : MS → Option (Int32 × MS)) (R : MS → Option (Int32 × MS)) (σ : MS) : Option (Int32 × MS) :=
  (m_byteHere F σ).bind (fun r1 => if r1.1 = 124 then (m_readsCondition_176 F K151 R 1 r1.2) else (m_readsCondition_176 F K151 R 0 r1.2))
theorem km_readsCondition_161 (M : MC γ cX1_readsCondition 1 G o 7 (some .boolean) (mQi G o res)) (K151 : MS → Option (Int32 × MS)) (hK151 : ∀ a, K151 a = some res → J γ (MW G o a) 0 0 151 [(0, .ref o)] []) (R : MS → Option (Int32 × MS)) (hR : ∀ a, R a = some res → J γ (MW G o a) 0 0 21 [(0, .ref o)] []) (σ : MS) (hf : m_readsCondition_161 F K151 R σ = some res) : J γ (MW G o σ) 0 0 161 [(0, .ref o)] [] := by
  unfold m_readsCondition_161 at hf
  refine j_aload_n (pc := 161) M.1 dX1_readsCondition_161 0 rfl ?_
  refine j_aload_n (pc := 162) M.1 dX1_readsCondition_162 0 rfl ?_
  obtain ⟨r1, g1, hf⟩ := o_bind hf
  refine jm_calli (pc := 163) (As := []) (rest := [.ref o]) M cm_354 (met_byteHere g1) rfl rfl rfl rfl dX1_readsCondition_163 ?_
  refine j_bipush (pc := 166) M.1 dX1_readsCondition_166 kc_bipush_124 ?_
  refine j_icmp_ne (pc := 168) M.1 175 dX1_readsCondition_168 rfl (fun c1 => ?_) (fun c1 => ?_)
  · replace hf := o_neg c1 hf
    refine j_iconst (pc := 175) M.1 dX1_readsCondition_175 kc_iconst_0 ?_
    exact km_readsCondition_176 M 0 K151 hK151 R hR r1.2 hf
  · replace hf := o_pos c1 hf
    refine j_iconst (pc := 171) M.1 dX1_readsCondition_171 kc_iconst_1 ?_
    refine j_goto (pc := 172) M.1 176 dX1_readsCondition_172 rfl ?_
    exact km_readsCondition_176 M 1 K151 hK151 R hR r1.2 hf
noncomputable def m_readsCondition_B21 (F : Nat) (K151 : MS → Option (Int32 × MS)) (R : MS → Option (Int32 × MS)) (a : MS) : Option (Int32 × MS) :=
  (m_byteHere F a).bind (fun r1 => if r1.1 = 33 then (m_readsCondition_39 F K151 R r1.2) else ((m_byteHere F r1.2).bind (fun r2 => if r2.1 = 40 then (m_readsCondition_39 F K151 R r2.2) else ((m_readsCompared F r2.2).bind (fun r3 => if r3.1 = 0 then (some (0, r3.2)) else (lp (m_readsCondition_B73 F (fun a1 => (m_byteHere F a1).bind (fun r4 => if r4.1 = 38 then (m_readsCondition_161 F K151 R r4.2) else ((m_byteHere F r4.2).bind (fun r5 => if r5.1 = 124 then (m_readsCondition_161 F K151 R r5.2) else (K151 r5.2)))))) F r3.2))))))
theorem km_readsCondition_B21 (M : MC γ cX1_readsCondition 1 G o 7 (some .boolean) (mQi G o res)) (K151 : MS → Option (Int32 × MS)) (hK151 : ∀ a, K151 a = some res → J γ (MW G o a) 0 0 151 [(0, .ref o)] []) : ∀ R : MS → Option (Int32 × MS), (∀ a, R a = some res → J γ (MW G o a) 0 0 21 [(0, .ref o)] []) → ∀ a, m_readsCondition_B21 F K151 R a = some res → J γ (MW G o a) 0 0 21 [(0, .ref o)] [] := by
  intro R hR a hf
  unfold m_readsCondition_B21 at hf
  refine j_aload_n (pc := 21) M.1 dX1_readsCondition_21 0 rfl ?_
  obtain ⟨r1, g1, hf⟩ := o_bind hf
  refine jm_calli (pc := 22) (As := []) (rest := []) M cm_354 (met_byteHere g1) rfl rfl rfl rfl dX1_readsCondition_22 ?_
  refine j_bipush (pc := 25) M.1 dX1_readsCondition_25 kc_bipush_33 ?_
  refine j_icmp_eq (pc := 27) M.1 39 dX1_readsCondition_27 rfl (fun c1 => ?_) (fun c1 => ?_)
  · replace hf := o_pos c1 hf
    exact km_readsCondition_39 M K151 hK151 R hR r1.2 hf
  · replace hf := o_neg c1 hf
    refine j_aload_n (pc := 30) M.1 dX1_readsCondition_30 0 rfl ?_
    obtain ⟨r2, g2, hf⟩ := o_bind hf
    refine jm_calli (pc := 31) (As := []) (rest := []) M cm_354 (met_byteHere g2) rfl rfl rfl rfl dX1_readsCondition_31 ?_
    refine j_bipush (pc := 34) M.1 dX1_readsCondition_34 kc_bipush_40 ?_
    refine j_icmp_ne (pc := 36) M.1 64 dX1_readsCondition_36 rfl (fun c2 => ?_) (fun c2 => ?_)
    · replace hf := o_neg c2 hf
      refine j_aload_n (pc := 64) M.1 dX1_readsCondition_64 0 rfl ?_
      obtain ⟨r3, g3, hf⟩ := o_bind hf
      refine jm_calli (pc := 65) (As := []) (rest := []) M cm_417 (met_readsCompared g3) rfl rfl rfl rfl dX1_readsCondition_65 ?_
      refine j_if_ne (pc := 68) M.1 73 dX1_readsCondition_68 rfl (fun c3 => ?_) (fun c3 => ?_)
      · replace hf := o_neg c3 hf
        refine lp_W (km_readsCondition_B73 M _ ?_) F r3.2 hf
        · intro a1 hf
          refine j_aload_n (pc := 133) M.1 dX1_readsCondition_133 0 rfl ?_
          obtain ⟨r4, g4, hf⟩ := o_bind hf
          refine jm_calli (pc := 134) (As := []) (rest := []) M cm_354 (met_byteHere g4) rfl rfl rfl rfl dX1_readsCondition_134 ?_
          refine j_bipush (pc := 137) M.1 dX1_readsCondition_137 kc_bipush_38 ?_
          refine j_icmp_eq (pc := 139) M.1 161 dX1_readsCondition_139 rfl (fun c4 => ?_) (fun c4 => ?_)
          · replace hf := o_pos c4 hf
            exact km_readsCondition_161 M K151 hK151 R hR r4.2 hf
          · replace hf := o_neg c4 hf
            refine j_aload_n (pc := 142) M.1 dX1_readsCondition_142 0 rfl ?_
            obtain ⟨r5, g5, hf⟩ := o_bind hf
            refine jm_calli (pc := 143) (As := []) (rest := []) M cm_354 (met_byteHere g5) rfl rfl rfl rfl dX1_readsCondition_143 ?_
            refine j_bipush (pc := 146) M.1 dX1_readsCondition_146 kc_bipush_124 ?_
            refine j_icmp_eq (pc := 148) M.1 161 dX1_readsCondition_148 rfl (fun c5 => ?_) (fun c5 => ?_)
            · replace hf := o_pos c5 hf
              exact km_readsCondition_161 M K151 hK151 R hR r5.2 hf
            · replace hf := o_neg c5 hf
              have hy := hK151 _ hf
              exact hy
      · replace hf := o_pos c3 hf
        refine j_iconst (pc := 71) M.1 dX1_readsCondition_71 kc_iconst_0 ?_
        exact jm_zret (pc := 72) M dX1_readsCondition_72 rfl hf
    · replace hf := o_pos c2 hf
      exact km_readsCondition_39 M K151 hK151 R hR r2.2 hf
noncomputable def m_readsCondition (F : Nat) (σ : MS) : Option (Int32 × MS) :=
  nx (sS σ 33 0) (fun σ1 => nx (sS σ1 35 0) (fun σ2 => (m_opens F 13 σ2).bind (fun r1 => if r1.1 = 0 then (some (0, r1.2)) else (lp (m_readsCondition_B21 F (fun a1 => (m_wrong F 1 (a1.1 29) a1).bind (fun r2 => if okB r2.1 = true then some (r2.1, r2.2) else none))) F r1.2))))
theorem met_readsCondition {l : Launch} {G : gG} {o F : Nat} {σ : MS} {res : Int32 × MS} (hf : m_readsCondition F σ = some res) : MetMi l G yX1_readsCondition cX1_readsCondition 1 (some .boolean) 7 o [] σ res := by
  refine metMi_of (by decide) rfl rfl (fun γ hγ M => ?_)
  subst hγ
  show J γ (MW G o σ) 0 0 0 [(0, .ref o)] []
  unfold m_readsCondition at hf
  refine j_aload_n (pc := 0) M.1 dX1_readsCondition_0 0 rfl ?_
  refine j_iconst (pc := 1) M.1 dX1_readsCondition_1 kc_iconst_0 ?_
  obtain ⟨σ1, e1, hf⟩ := o_nx hf
  refine jm_put (pc := 2) M fm_375 dX1_readsCondition_2 e1 ?_
  refine j_aload_n (pc := 5) M.1 dX1_readsCondition_5 0 rfl ?_
  refine j_iconst (pc := 6) M.1 dX1_readsCondition_6 kc_iconst_0 ?_
  obtain ⟨σ2, e2, hf⟩ := o_nx hf
  refine jm_put (pc := 7) M fm_378 dX1_readsCondition_7 e2 ?_
  refine j_aload_n (pc := 10) M.1 dX1_readsCondition_10 0 rfl ?_
  refine j_bipush (pc := 11) M.1 dX1_readsCondition_11 kc_bipush_13 ?_
  obtain ⟨r1, g1, hf⟩ := o_bind hf
  refine jm_calli (pc := 13) (As := [.int 13]) (rest := []) M cm_387 (met_opens g1) rfl rfl rfl rfl dX1_readsCondition_13 ?_
  refine j_if_ne (pc := 16) M.1 21 dX1_readsCondition_16 rfl (fun c1 => ?_) (fun c1 => ?_)
  · replace hf := o_neg c1 hf
    refine lp_W (km_readsCondition_B21 M _ ?_) F r1.2 hf
    · intro a1 hf
      refine j_aload_n (pc := 151) M.1 dX1_readsCondition_151 0 rfl ?_
      refine j_iconst (pc := 152) M.1 dX1_readsCondition_152 kc_iconst_1 ?_
      refine j_aload_n (pc := 153) M.1 dX1_readsCondition_153 0 rfl ?_
      refine jm_getS (pc := 154) M fm_348 dX1_readsCondition_154 ?_
      obtain ⟨r2, g2, hf⟩ := o_bind hf
      refine jm_calli (pc := 157) (As := [.int 1, .int (a1.1 29)]) (rest := []) M cm_361 (met_wrong g2) rfl rfl rfl rfl dX1_readsCondition_157 ?_
      obtain ⟨b1, hf⟩ := o_need hf
      exact jm_zret (pc := 160) M dX1_readsCondition_160 b1 hf
  · replace hf := o_pos c1 hf
    refine j_iconst (pc := 19) M.1 dX1_readsCondition_19 kc_iconst_0 ?_
    exact jm_zret (pc := 20) M dX1_readsCondition_20 rfl hf
end
theorem dX1_sureOf_0 : decode cX1_sureOf 0 = .ok (.iconst 0, 1) := by decide +kernel
theorem dX1_sureOf_1 : decode cX1_sureOf 1 = .ok (.istore_n 2, 1) := by decide +kernel
theorem dX1_sureOf_2 : decode cX1_sureOf 2 = .ok (.iconst 0, 1) := by decide +kernel
theorem dX1_sureOf_3 : decode cX1_sureOf 3 = .ok (.istore_n 3, 1) := by decide +kernel
theorem dX1_sureOf_4 : decode cX1_sureOf 4 = .ok (.iload_n 3, 1) := by decide +kernel
theorem dX1_sureOf_5 : decode cX1_sureOf 5 = .ok (.aload_n 0, 1) := by decide +kernel
theorem dX1_sureOf_6 : decode cX1_sureOf 6 = .ok (.getfield 470, 3) := by decide +kernel
theorem dX1_sureOf_9 : decode cX1_sureOf 9 = .ok (.if_icmp .ge 53, 3) := by decide +kernel
theorem dX1_sureOf_12 : decode cX1_sureOf 12 = .ok (.aload_n 0, 1) := by decide +kernel
theorem dX1_sureOf_13 : decode cX1_sureOf 13 = .ok (.getfield 160, 3) := by decide +kernel
theorem dX1_sureOf_16 : decode cX1_sureOf 16 = .ok (.iload_n 3, 1) := by decide +kernel
theorem dX1_sureOf_17 : decode cX1_sureOf 17 = .ok (.iaload, 1) := by decide +kernel
theorem dX1_sureOf_18 : decode cX1_sureOf 18 = .ok (.iload_n 1, 1) := by decide +kernel
theorem dX1_sureOf_19 : decode cX1_sureOf 19 = .ok (.if_icmp .le 6, 3) := by decide +kernel
theorem dX1_sureOf_22 : decode cX1_sureOf 22 = .ok (.goto 34, 3) := by decide +kernel
theorem dX1_sureOf_25 : decode cX1_sureOf 25 = .ok (.aload_n 0, 1) := by decide +kernel
theorem dX1_sureOf_26 : decode cX1_sureOf 26 = .ok (.iload_n 3, 1) := by decide +kernel
theorem dX1_sureOf_27 : decode cX1_sureOf 27 = .ok (.iload_n 1, 1) := by decide +kernel
theorem dX1_sureOf_28 : decode cX1_sureOf 28 = .ok (.invokevirtual 485, 3) := by decide +kernel
theorem dX1_sureOf_31 : decode cX1_sureOf 31 = .ok (.istore 4, 2) := by decide +kernel
theorem dX1_sureOf_33 : decode cX1_sureOf 33 = .ok (.iload_n 2, 1) := by decide +kernel
theorem dX1_sureOf_34 : decode cX1_sureOf 34 = .ok (.iload 4, 2) := by decide +kernel
theorem dX1_sureOf_36 : decode cX1_sureOf 36 = .ok (.ifCond .eq 17, 3) := by decide +kernel
theorem dX1_sureOf_39 : decode cX1_sureOf 39 = .ok (.iload 4, 2) := by decide +kernel
theorem dX1_sureOf_41 : decode cX1_sureOf 41 = .ok (.iload 4, 2) := by decide +kernel
theorem dX1_sureOf_43 : decode cX1_sureOf 43 = .ok (.iconst 1, 1) := by decide +kernel
theorem dX1_sureOf_44 : decode cX1_sureOf 44 = .ok (.isub, 1) := by decide +kernel
theorem dX1_sureOf_45 : decode cX1_sureOf 45 = .ok (.iand, 1) := by decide +kernel
theorem dX1_sureOf_46 : decode cX1_sureOf 46 = .ok (.ifCond .ne 7, 3) := by decide +kernel
theorem dX1_sureOf_49 : decode cX1_sureOf 49 = .ok (.iconst 1, 1) := by decide +kernel
theorem dX1_sureOf_50 : decode cX1_sureOf 50 = .ok (.goto 4, 3) := by decide +kernel
theorem dX1_sureOf_53 : decode cX1_sureOf 53 = .ok (.iconst 0, 1) := by decide +kernel
theorem dX1_sureOf_54 : decode cX1_sureOf 54 = .ok (.iadd, 1) := by decide +kernel
theorem dX1_sureOf_55 : decode cX1_sureOf 55 = .ok (.istore_n 2, 1) := by decide +kernel
theorem dX1_sureOf_56 : decode cX1_sureOf 56 = .ok (.iinc 3 1, 3) := by decide +kernel
theorem dX1_sureOf_59 : decode cX1_sureOf 59 = .ok (.goto (-55), 3) := by decide +kernel
theorem dX1_sureOf_62 : decode cX1_sureOf 62 = .ok (.iload_n 2, 1) := by decide +kernel
theorem dX1_sureOf_63 : decode cX1_sureOf 63 = .ok (.ireturn, 1) := by decide +kernel
section
variable {res : Int32 × MS}
noncomputable def m_sureOf_B4 (F : Nat) (x1 : Int32) (R : Int32 × Int32 × MS → Option (Int32 × MS)) (a : Int32 × Int32 × MS) : Option (Int32 × MS) :=
  if (a.2.2.1 57) ≤ a.2.1 then (some (a.1, a.2.2)) else (if okI a.2.1 150 = true then if (a.2.2.2 48 a.2.1.toNatClampNeg) ≤ x1 then ((m_mayBe F a.2.1 x1 a.2.2).bind (fun r1 => if r1.1 = 0 then (R (a.1 + 0, a.2.1 + 1, r1.2)) else (if (r1.1 &&& (r1.1 - 1)) = 0 then (R (a.1 + 1, a.2.1 + 1, r1.2)) else (R (a.1 + 0, a.2.1 + 1, r1.2))))) else (R (a.1, a.2.1 + 1, a.2.2)) else none)
theorem km_sureOf_B4 (M : MC γ cX1_sureOf 5 G o 7 (some .int) (mQi G o res)) (x1 : Int32) : ∀ R : Int32 × Int32 × MS → Option (Int32 × MS), (∀ a, R a = some res → J γ (MW G o a.2.2) 0 0 4 [(0, .ref o), (1, .int x1), (2, .int a.1), (3, .int a.2.1)] []) → ∀ a, m_sureOf_B4 F x1 R a = some res → J γ (MW G o a.2.2) 0 0 4 [(0, .ref o), (1, .int x1), (2, .int a.1), (3, .int a.2.1)] [] := by
  intro R hR a hf
  unfold m_sureOf_B4 at hf
  refine j_iload_n (pc := 4) M.1 dX1_sureOf_4 3 rfl ?_
  refine j_aload_n (pc := 5) M.1 dX1_sureOf_5 0 rfl ?_
  refine jm_getS (pc := 6) M fm_470 dX1_sureOf_6 ?_
  refine j_icmp_ge (pc := 9) M.1 62 dX1_sureOf_9 rfl (fun c1 => ?_) (fun c1 => ?_)
  · replace hf := o_pos c1 hf
    refine j_iload_n (pc := 62) M.1 dX1_sureOf_62 2 rfl ?_
    exact jm_iret (pc := 63) M dX1_sureOf_63 hf
  · replace hf := o_neg c1 hf
    refine j_aload_n (pc := 12) M.1 dX1_sureOf_12 0 rfl ?_
    refine jm_getA (pc := 13) M fa_160 dX1_sureOf_13 ?_
    refine j_iload_n (pc := 16) M.1 dX1_sureOf_16 3 rfl ?_
    obtain ⟨b1, hf⟩ := o_need hf
    refine jm_iald (pc := 17) M ax_48 b1 dX1_sureOf_17 ?_
    refine j_iload_n (pc := 18) M.1 dX1_sureOf_18 1 rfl ?_
    refine j_icmp_le (pc := 19) M.1 25 dX1_sureOf_19 rfl (fun c2 => ?_) (fun c2 => ?_)
    · replace hf := o_pos c2 hf
      refine j_aload_n (pc := 25) M.1 dX1_sureOf_25 0 rfl ?_
      refine j_iload_n (pc := 26) M.1 dX1_sureOf_26 3 rfl ?_
      refine j_iload_n (pc := 27) M.1 dX1_sureOf_27 1 rfl ?_
      obtain ⟨r1, g1, hf⟩ := o_bind hf
      refine jm_calli (pc := 28) (As := [.int a.2.1, .int x1]) (rest := []) M cm_485 (met_mayBe g1) rfl rfl rfl rfl dX1_sureOf_28 ?_
      refine j_istore (pc := 31) M.1 [(4, .int r1.1), (0, .ref o), (1, .int x1), (2, .int a.1), (3, .int a.2.1)] dX1_sureOf_31 rfl rfl ?_
      refine j_iload_n (pc := 33) M.1 dX1_sureOf_33 3 rfl ?_
      refine j_iload (pc := 34) M.1 dX1_sureOf_34 0 rfl ?_
      refine j_if_eq (pc := 36) M.1 53 dX1_sureOf_36 rfl (fun c3 => ?_) (fun c3 => ?_)
      · replace hf := o_pos c3 hf
        refine j_iconst (pc := 53) M.1 dX1_sureOf_53 kc_iconst_0 ?_
        refine j_iadd (pc := 54) M.1 dX1_sureOf_54 ?_
        refine j_istore_n (pc := 55) M.1 [(2, .int (a.1 + 0)), (4, .int r1.1), (0, .ref o), (1, .int x1), (3, .int a.2.1)] dX1_sureOf_55 rfl rfl ?_
        refine j_iinc (pc := 56) M.1 [(3, .int (a.2.1 + 1)), (2, .int (a.1 + 0)), (4, .int r1.1), (0, .ref o), (1, .int x1)] dX1_sureOf_56 4 rfl (congrArg _ kc_iconst_1) rfl rfl ?_
        refine j_goto (pc := 59) M.1 4 dX1_sureOf_59 rfl ?_
        refine j_sub [3, 4, 1, 0] (show lv_pick _ _ = [(0, .ref o), (1, .int x1), (2, .int (a.1 + 0)), (3, .int (a.2.1 + 1))] from rfl) ?_
        have hy := hR _ hf
        exact hy
      · replace hf := o_neg c3 hf
        refine j_iload (pc := 39) M.1 dX1_sureOf_39 0 rfl ?_
        refine j_iload (pc := 41) M.1 dX1_sureOf_41 0 rfl ?_
        refine j_iconst (pc := 43) M.1 dX1_sureOf_43 kc_iconst_1 ?_
        refine j_isub (pc := 44) M.1 dX1_sureOf_44 ?_
        refine j_iand (pc := 45) M.1 dX1_sureOf_45 ?_
        refine j_if_ne (pc := 46) M.1 53 dX1_sureOf_46 rfl (fun c4 => ?_) (fun c4 => ?_)
        · replace hf := o_neg c4 hf
          refine j_iconst (pc := 53) M.1 dX1_sureOf_53 kc_iconst_0 ?_
          refine j_iadd (pc := 54) M.1 dX1_sureOf_54 ?_
          refine j_istore_n (pc := 55) M.1 [(2, .int (a.1 + 0)), (4, .int r1.1), (0, .ref o), (1, .int x1), (3, .int a.2.1)] dX1_sureOf_55 rfl rfl ?_
          refine j_iinc (pc := 56) M.1 [(3, .int (a.2.1 + 1)), (2, .int (a.1 + 0)), (4, .int r1.1), (0, .ref o), (1, .int x1)] dX1_sureOf_56 4 rfl (congrArg _ kc_iconst_1) rfl rfl ?_
          refine j_goto (pc := 59) M.1 4 dX1_sureOf_59 rfl ?_
          refine j_sub [3, 4, 1, 0] (show lv_pick _ _ = [(0, .ref o), (1, .int x1), (2, .int (a.1 + 0)), (3, .int (a.2.1 + 1))] from rfl) ?_
          have hy := hR _ hf
          exact hy
        · replace hf := o_pos c4 hf
          refine j_iconst (pc := 49) M.1 dX1_sureOf_49 kc_iconst_1 ?_
          refine j_goto (pc := 50) M.1 54 dX1_sureOf_50 rfl ?_
          refine j_iadd (pc := 54) M.1 dX1_sureOf_54 ?_
          refine j_istore_n (pc := 55) M.1 [(2, .int (a.1 + 1)), (4, .int r1.1), (0, .ref o), (1, .int x1), (3, .int a.2.1)] dX1_sureOf_55 rfl rfl ?_
          refine j_iinc (pc := 56) M.1 [(3, .int (a.2.1 + 1)), (2, .int (a.1 + 1)), (4, .int r1.1), (0, .ref o), (1, .int x1)] dX1_sureOf_56 4 rfl (congrArg _ kc_iconst_1) rfl rfl ?_
          refine j_goto (pc := 59) M.1 4 dX1_sureOf_59 rfl ?_
          refine j_sub [3, 4, 1, 0] (show lv_pick _ _ = [(0, .ref o), (1, .int x1), (2, .int (a.1 + 1)), (3, .int (a.2.1 + 1))] from rfl) ?_
          have hy := hR _ hf
          exact hy
    · replace hf := o_neg c2 hf
      refine j_goto (pc := 22) M.1 56 dX1_sureOf_22 rfl ?_
      refine j_iinc (pc := 56) M.1 [(3, .int (a.2.1 + 1)), (0, .ref o), (1, .int x1), (2, .int a.1)] dX1_sureOf_56 3 rfl (congrArg _ kc_iconst_1) rfl rfl ?_
      refine j_goto (pc := 59) M.1 4 dX1_sureOf_59 rfl ?_
      refine j_sub [1, 2, 3, 0] (show lv_pick _ _ = [(0, .ref o), (1, .int x1), (2, .int a.1), (3, .int (a.2.1 + 1))] from rfl) ?_
      have hy := hR _ hf
      exact hy
noncomputable def m_sureOf (F : Nat) (x1 : Int32) (σ : MS) : Option (Int32 × MS) :=
  lp (m_sureOf_B4 F x1) F (0, 0, σ)
theorem met_sureOf {l : Launch} {G : gG} {o F : Nat} {x1 : Int32} {σ : MS} {res : Int32 × MS} (hf : m_sureOf F x1 σ = some res) : MetMi l G yX1_sureOf cX1_sureOf 5 (some .int) 7 o [.int x1] σ res := by
  refine metMi_of (by decide) rfl rfl (fun γ hγ M => ?_)
  subst hγ
  show J γ (MW G o σ) 0 0 0 [(0, .ref o), (1, .int x1)] []
  unfold m_sureOf at hf
  refine j_iconst (pc := 0) M.1 dX1_sureOf_0 kc_iconst_0 ?_
  refine j_istore_n (pc := 1) M.1 [(2, .int 0), (0, .ref o), (1, .int x1)] dX1_sureOf_1 rfl rfl ?_
  refine j_iconst (pc := 2) M.1 dX1_sureOf_2 kc_iconst_0 ?_
  refine j_istore_n (pc := 3) M.1 [(3, .int 0), (2, .int 0), (0, .ref o), (1, .int x1)] dX1_sureOf_3 rfl rfl ?_
  refine j_sub [2, 3, 1, 0] (show lv_pick _ _ = [(0, .ref o), (1, .int x1), (2, .int 0), (3, .int 0)] from rfl) ?_
  refine lp_W (km_sureOf_B4 M x1) F (0, 0, σ) hf
end
theorem dX1_beside_0 : decode cX1_beside 0 = .ok (.iload_n 1, 1) := by decide +kernel
theorem dX1_beside_1 : decode cX1_beside 1 = .ok (.iconst 0, 1) := by decide +kernel
theorem dX1_beside_2 : decode cX1_beside 2 = .ok (.bipush 7, 2) := by decide +kernel
theorem dX1_beside_4 : decode cX1_beside 4 = .ok (.invokestatic 278, 3) := by decide +kernel
theorem dX1_beside_7 : decode cX1_beside 7 = .ok (.ifCond .ne 5, 3) := by decide +kernel
theorem dX1_beside_10 : decode cX1_beside 10 = .ok (.iconst (-1), 1) := by decide +kernel
theorem dX1_beside_11 : decode cX1_beside 11 = .ok (.ireturn, 1) := by decide +kernel
theorem dX1_beside_12 : decode cX1_beside 12 = .ok (.aload_n 0, 1) := by decide +kernel
theorem dX1_beside_13 : decode cX1_beside 13 = .ok (.iload_n 1, 1) := by decide +kernel
theorem dX1_beside_14 : decode cX1_beside 14 = .ok (.putfield 132, 3) := by decide +kernel
theorem dX1_beside_17 : decode cX1_beside 17 = .ok (.aload_n 0, 1) := by decide +kernel
theorem dX1_beside_18 : decode cX1_beside 18 = .ok (.aload_n 0, 1) := by decide +kernel
theorem dX1_beside_19 : decode cX1_beside 19 = .ok (.getfield 291, 3) := by decide +kernel
theorem dX1_beside_22 : decode cX1_beside 22 = .ok (.invokevirtual 488, 3) := by decide +kernel
theorem dX1_beside_25 : decode cX1_beside 25 = .ok (.istore_n 2, 1) := by decide +kernel
theorem dX1_beside_26 : decode cX1_beside 26 = .ok (.aload_n 0, 1) := by decide +kernel
theorem dX1_beside_27 : decode cX1_beside 27 = .ok (.iconst (-1), 1) := by decide +kernel
theorem dX1_beside_28 : decode cX1_beside 28 = .ok (.putfield 132, 3) := by decide +kernel
theorem dX1_beside_31 : decode cX1_beside 31 = .ok (.iload_n 2, 1) := by decide +kernel
theorem dX1_beside_32 : decode cX1_beside 32 = .ok (.ireturn, 1) := by decide +kernel
section
variable {res : Int32 × MS}
noncomputable def m_beside (F : Nat) (x1 : Int32) (σ : MS) : Option (Int32 × MS) :=
  (m_in F x1 0 7).bind (fun r1 => if r1 = 0 then (some ((-1), σ)) else (nx (sS σ 58 x1) (fun σ1 => (m_sureOf F (σ1.1 2) σ1).bind (fun r2 => nx (sS r2.2 58 ((-1))) (fun σ2 => some (r2.1, σ2))))))
theorem met_beside {l : Launch} {G : gG} {o F : Nat} {x1 : Int32} {σ : MS} {res : Int32 × MS} (hf : m_beside F x1 σ = some res) : MetMi l G yX1_beside cX1_beside 3 (some .int) 8 o [.int x1] σ res := by
  refine metMi_of (by decide) rfl rfl (fun γ hγ M => ?_)
  subst hγ
  show J γ (MW G o σ) 0 0 0 [(0, .ref o), (1, .int x1)] []
  unfold m_beside at hf
  refine j_iload_n (pc := 0) M.1 dX1_beside_0 1 rfl ?_
  refine j_iconst (pc := 1) M.1 dX1_beside_1 kc_iconst_0 ?_
  refine j_bipush (pc := 2) M.1 dX1_beside_2 kc_bipush_7 ?_
  obtain ⟨r1, g1, hf⟩ := o_bind hf
  refine jm_calls (pc := 4) (As := [.int x1, .int 0, .int 7]) (rest := []) M cs_X1_278 (met_in g1) rfl rfl rfl rfl dX1_beside_4 ?_
  refine j_if_ne (pc := 7) M.1 12 dX1_beside_7 rfl (fun c1 => ?_) (fun c1 => ?_)
  · replace hf := o_neg c1 hf
    refine j_aload_n (pc := 12) M.1 dX1_beside_12 0 rfl ?_
    refine j_iload_n (pc := 13) M.1 dX1_beside_13 1 rfl ?_
    obtain ⟨σ1, e1, hf⟩ := o_nx hf
    refine jm_put (pc := 14) M fm_132 dX1_beside_14 e1 ?_
    refine j_aload_n (pc := 17) M.1 dX1_beside_17 0 rfl ?_
    refine j_aload_n (pc := 18) M.1 dX1_beside_18 0 rfl ?_
    refine jm_getS (pc := 19) M fm_291 dX1_beside_19 ?_
    obtain ⟨r2, g2, hf⟩ := o_bind hf
    refine jm_calli (pc := 22) (As := [.int (σ1.1 2)]) (rest := []) M cm_488 (met_sureOf g2) rfl rfl rfl rfl dX1_beside_22 ?_
    refine j_istore_n (pc := 25) M.1 [(2, .int r2.1), (0, .ref o), (1, .int x1)] dX1_beside_25 rfl rfl ?_
    refine j_aload_n (pc := 26) M.1 dX1_beside_26 1 rfl ?_
    refine j_iconst (pc := 27) M.1 dX1_beside_27 kc_iconst_m1 ?_
    obtain ⟨σ2, e2, hf⟩ := o_nx hf
    refine jm_put (pc := 28) M fm_132 dX1_beside_28 e2 ?_
    refine j_iload_n (pc := 31) M.1 dX1_beside_31 0 rfl ?_
    exact jm_iret (pc := 32) M dX1_beside_32 hf
  · replace hf := o_pos c1 hf
    refine j_iconst (pc := 10) M.1 dX1_beside_10 kc_iconst_m1 ?_
    exact jm_iret (pc := 11) M dX1_beside_11 hf
end
theorem dX1_lost_0 : decode cX1_lost 0 = .ok (.iload_n 1, 1) := by decide +kernel
theorem dX1_lost_1 : decode cX1_lost 1 = .ok (.iconst 0, 1) := by decide +kernel
theorem dX1_lost_2 : decode cX1_lost 2 = .ok (.bipush 100, 2) := by decide +kernel
theorem dX1_lost_4 : decode cX1_lost 4 = .ok (.invokestatic 278, 3) := by decide +kernel
theorem dX1_lost_7 : decode cX1_lost 7 = .ok (.ifCond .eq 20, 3) := by decide +kernel
theorem dX1_lost_10 : decode cX1_lost 10 = .ok (.iload_n 2, 1) := by decide +kernel
theorem dX1_lost_11 : decode cX1_lost 11 = .ok (.iconst 0, 1) := by decide +kernel
theorem dX1_lost_12 : decode cX1_lost 12 = .ok (.iconst 1, 1) := by decide +kernel
theorem dX1_lost_13 : decode cX1_lost 13 = .ok (.invokestatic 278, 3) := by decide +kernel
theorem dX1_lost_16 : decode cX1_lost 16 = .ok (.ifCond .eq 11, 3) := by decide +kernel
theorem dX1_lost_19 : decode cX1_lost 19 = .ok (.iload_n 1, 1) := by decide +kernel
theorem dX1_lost_20 : decode cX1_lost 20 = .ok (.aload_n 0, 1) := by decide +kernel
theorem dX1_lost_21 : decode cX1_lost 21 = .ok (.getfield 341, 3) := by decide +kernel
theorem dX1_lost_24 : decode cX1_lost 24 = .ok (.if_icmp .le 5, 3) := by decide +kernel
theorem dX1_lost_27 : decode cX1_lost 27 = .ok (.iconst (-1), 1) := by decide +kernel
theorem dX1_lost_28 : decode cX1_lost 28 = .ok (.ireturn, 1) := by decide +kernel
theorem dX1_lost_29 : decode cX1_lost 29 = .ok (.aload_n 0, 1) := by decide +kernel
theorem dX1_lost_30 : decode cX1_lost 30 = .ok (.iconst 0, 1) := by decide +kernel
theorem dX1_lost_31 : decode cX1_lost 31 = .ok (.putfield 341, 3) := by decide +kernel
theorem dX1_lost_34 : decode cX1_lost 34 = .ok (.aload_n 0, 1) := by decide +kernel
theorem dX1_lost_35 : decode cX1_lost 35 = .ok (.iload_n 1, 1) := by decide +kernel
theorem dX1_lost_36 : decode cX1_lost 36 = .ok (.invokevirtual 506, 3) := by decide +kernel
theorem dX1_lost_39 : decode cX1_lost 39 = .ok (.ifCond .ne 6, 3) := by decide +kernel
theorem dX1_lost_42 : decode cX1_lost 42 = .ok (.bipush (-2), 2) := by decide +kernel
theorem dX1_lost_44 : decode cX1_lost 44 = .ok (.ireturn, 1) := by decide +kernel
theorem dX1_lost_45 : decode cX1_lost 45 = .ok (.iconst 0, 1) := by decide +kernel
theorem dX1_lost_46 : decode cX1_lost 46 = .ok (.istore_n 3, 1) := by decide +kernel
theorem dX1_lost_47 : decode cX1_lost 47 = .ok (.iconst 0, 1) := by decide +kernel
theorem dX1_lost_48 : decode cX1_lost 48 = .ok (.istore 4, 2) := by decide +kernel
theorem dX1_lost_50 : decode cX1_lost 50 = .ok (.iload 4, 2) := by decide +kernel
theorem dX1_lost_52 : decode cX1_lost 52 = .ok (.iload_n 1, 1) := by decide +kernel
theorem dX1_lost_53 : decode cX1_lost 53 = .ok (.if_icmp .ge 31, 3) := by decide +kernel
theorem dX1_lost_56 : decode cX1_lost 56 = .ok (.iload_n 3, 1) := by decide +kernel
theorem dX1_lost_57 : decode cX1_lost 57 = .ok (.aload_n 0, 1) := by decide +kernel
theorem dX1_lost_58 : decode cX1_lost 58 = .ok (.aload_n 0, 1) := by decide +kernel
theorem dX1_lost_59 : decode cX1_lost 59 = .ok (.getfield 172, 3) := by decide +kernel
theorem dX1_lost_62 : decode cX1_lost 62 = .ok (.iload 4, 2) := by decide +kernel
theorem dX1_lost_64 : decode cX1_lost 64 = .ok (.iaload, 1) := by decide +kernel
theorem dX1_lost_65 : decode cX1_lost 65 = .ok (.invokevirtual 515, 3) := by decide +kernel
theorem dX1_lost_68 : decode cX1_lost 68 = .ok (.ifCond .eq 7, 3) := by decide +kernel
theorem dX1_lost_71 : decode cX1_lost 71 = .ok (.iconst 1, 1) := by decide +kernel
theorem dX1_lost_72 : decode cX1_lost 72 = .ok (.goto 4, 3) := by decide +kernel
theorem dX1_lost_75 : decode cX1_lost 75 = .ok (.iconst 0, 1) := by decide +kernel
theorem dX1_lost_76 : decode cX1_lost 76 = .ok (.iadd, 1) := by decide +kernel
theorem dX1_lost_77 : decode cX1_lost 77 = .ok (.istore_n 3, 1) := by decide +kernel
theorem dX1_lost_78 : decode cX1_lost 78 = .ok (.iinc 4 1, 3) := by decide +kernel
theorem dX1_lost_81 : decode cX1_lost 81 = .ok (.goto (-31), 3) := by decide +kernel
theorem dX1_lost_84 : decode cX1_lost 84 = .ok (.iload_n 2, 1) := by decide +kernel
theorem dX1_lost_85 : decode cX1_lost 85 = .ok (.ifCond .ne 5, 3) := by decide +kernel
theorem dX1_lost_88 : decode cX1_lost 88 = .ok (.iload_n 3, 1) := by decide +kernel
theorem dX1_lost_89 : decode cX1_lost 89 = .ok (.ireturn, 1) := by decide +kernel
theorem dX1_lost_90 : decode cX1_lost 90 = .ok (.iconst (-1), 1) := by decide +kernel
theorem dX1_lost_91 : decode cX1_lost 91 = .ok (.istore 4, 2) := by decide +kernel
theorem dX1_lost_93 : decode cX1_lost 93 = .ok (.iconst 0, 1) := by decide +kernel
theorem dX1_lost_94 : decode cX1_lost 94 = .ok (.istore 5, 2) := by decide +kernel
theorem dX1_lost_96 : decode cX1_lost 96 = .ok (.iconst 0, 1) := by decide +kernel
theorem dX1_lost_97 : decode cX1_lost 97 = .ok (.istore 6, 2) := by decide +kernel
theorem dX1_lost_99 : decode cX1_lost 99 = .ok (.iload 6, 2) := by decide +kernel
theorem dX1_lost_101 : decode cX1_lost 101 = .ok (.bipush 10, 2) := by decide +kernel
theorem dX1_lost_103 : decode cX1_lost 103 = .ok (.if_icmp .ge 85, 3) := by decide +kernel
theorem dX1_lost_106 : decode cX1_lost 106 = .ok (.iconst 0, 1) := by decide +kernel
theorem dX1_lost_107 : decode cX1_lost 107 = .ok (.istore 7, 2) := by decide +kernel
theorem dX1_lost_109 : decode cX1_lost 109 = .ok (.iconst 0, 1) := by decide +kernel
theorem dX1_lost_110 : decode cX1_lost 110 = .ok (.istore 8, 2) := by decide +kernel
theorem dX1_lost_112 : decode cX1_lost 112 = .ok (.iload 8, 2) := by decide +kernel
theorem dX1_lost_114 : decode cX1_lost 114 = .ok (.iload_n 1, 1) := by decide +kernel
theorem dX1_lost_115 : decode cX1_lost 115 = .ok (.if_icmp .ge 49, 3) := by decide +kernel
theorem dX1_lost_118 : decode cX1_lost 118 = .ok (.iload 7, 2) := by decide +kernel
theorem dX1_lost_120 : decode cX1_lost 120 = .ok (.aload_n 0, 1) := by decide +kernel
theorem dX1_lost_121 : decode cX1_lost 121 = .ok (.aload_n 0, 1) := by decide +kernel
theorem dX1_lost_122 : decode cX1_lost 122 = .ok (.getfield 172, 3) := by decide +kernel
theorem dX1_lost_125 : decode cX1_lost 125 = .ok (.iload 8, 2) := by decide +kernel
theorem dX1_lost_127 : decode cX1_lost 127 = .ok (.iaload, 1) := by decide +kernel
theorem dX1_lost_128 : decode cX1_lost 128 = .ok (.invokevirtual 515, 3) := by decide +kernel
theorem dX1_lost_131 : decode cX1_lost 131 = .ok (.ifCond .eq 23, 3) := by decide +kernel
theorem dX1_lost_134 : decode cX1_lost 134 = .ok (.aload_n 0, 1) := by decide +kernel
theorem dX1_lost_135 : decode cX1_lost 135 = .ok (.iload 6, 2) := by decide +kernel
theorem dX1_lost_137 : decode cX1_lost 137 = .ok (.aload_n 0, 1) := by decide +kernel
theorem dX1_lost_138 : decode cX1_lost 138 = .ok (.getfield 172, 3) := by decide +kernel
theorem dX1_lost_141 : decode cX1_lost 141 = .ok (.iload 8, 2) := by decide +kernel
theorem dX1_lost_143 : decode cX1_lost 143 = .ok (.iaload, 1) := by decide +kernel
theorem dX1_lost_144 : decode cX1_lost 144 = .ok (.invokevirtual 518, 3) := by decide +kernel
theorem dX1_lost_147 : decode cX1_lost 147 = .ok (.ifCond .eq 7, 3) := by decide +kernel
theorem dX1_lost_150 : decode cX1_lost 150 = .ok (.iconst 1, 1) := by decide +kernel
theorem dX1_lost_151 : decode cX1_lost 151 = .ok (.goto 4, 3) := by decide +kernel
theorem dX1_lost_154 : decode cX1_lost 154 = .ok (.iconst 0, 1) := by decide +kernel
theorem dX1_lost_155 : decode cX1_lost 155 = .ok (.iadd, 1) := by decide +kernel
theorem dX1_lost_156 : decode cX1_lost 156 = .ok (.istore 7, 2) := by decide +kernel
theorem dX1_lost_158 : decode cX1_lost 158 = .ok (.iinc 8 1, 3) := by decide +kernel
theorem dX1_lost_161 : decode cX1_lost 161 = .ok (.goto (-49), 3) := by decide +kernel
theorem dX1_lost_164 : decode cX1_lost 164 = .ok (.iload 7, 2) := by decide +kernel
theorem dX1_lost_166 : decode cX1_lost 166 = .ok (.iload 5, 2) := by decide +kernel
theorem dX1_lost_168 : decode cX1_lost 168 = .ok (.if_icmp .gt 6, 3) := by decide +kernel
theorem dX1_lost_171 : decode cX1_lost 171 = .ok (.goto 11, 3) := by decide +kernel
theorem dX1_lost_174 : decode cX1_lost 174 = .ok (.iload 7, 2) := by decide +kernel
theorem dX1_lost_176 : decode cX1_lost 176 = .ok (.istore 5, 2) := by decide +kernel
theorem dX1_lost_178 : decode cX1_lost 178 = .ok (.iload 6, 2) := by decide +kernel
theorem dX1_lost_180 : decode cX1_lost 180 = .ok (.istore 4, 2) := by decide +kernel
theorem dX1_lost_182 : decode cX1_lost 182 = .ok (.iinc 6 1, 3) := by decide +kernel
theorem dX1_lost_185 : decode cX1_lost 185 = .ok (.goto (-86), 3) := by decide +kernel
theorem dX1_lost_188 : decode cX1_lost 188 = .ok (.iload 4, 2) := by decide +kernel
theorem dX1_lost_190 : decode cX1_lost 190 = .ok (.ireturn, 1) := by decide +kernel
section
variable {res : Int32 × MS}
noncomputable def m_lost_B50 (F : Nat) (K84 : Int32 × Int32 × MS → Option (Int32 × MS)) (x1 x2 : Int32) (R : Int32 × Int32 × MS → Option (Int32 × MS)) (a : Int32 × Int32 × MS) : Option (Int32 × MS) :=
  if x1 ≤ a.2.1 then (K84 (a.1, a.2.1, a.2.2)) else (if okI a.2.1 100 = true then (m_isLost F (a.2.2.2 52 a.2.1.toNatClampNeg) a.2.2).bind (fun r1 => if r1.1 = 0 then (R (a.1 + 0, a.2.1 + 1, r1.2)) else (R (a.1 + 1, a.2.1 + 1, r1.2))) else none)
theorem km_lost_B50 (M : MC γ cX1_lost 9 G o 8 (some .int) (mQi G o res)) (x1 x2 : Int32) (K84 : Int32 × Int32 × MS → Option (Int32 × MS)) (hK84 : ∀ a, K84 a = some res → J γ (MW G o a.2.2) 0 0 84 [(0, .ref o), (1, .int x1), (2, .int x2), (3, .int a.1)] []) : ∀ R : Int32 × Int32 × MS → Option (Int32 × MS), (∀ a, R a = some res → J γ (MW G o a.2.2) 0 0 50 [(0, .ref o), (1, .int x1), (2, .int x2), (3, .int a.1), (4, .int a.2.1)] []) → ∀ a, m_lost_B50 F K84 x1 x2 R a = some res → J γ (MW G o a.2.2) 0 0 50 [(0, .ref o), (1, .int x1), (2, .int x2), (3, .int a.1), (4, .int a.2.1)] [] := by
  intro R hR a hf
  unfold m_lost_B50 at hf
  refine j_iload (pc := 50) M.1 dX1_lost_50 4 rfl ?_
  refine j_iload_n (pc := 52) M.1 dX1_lost_52 1 rfl ?_
  refine j_icmp_ge (pc := 53) M.1 84 dX1_lost_53 rfl (fun c1 => ?_) (fun c1 => ?_)
  · replace hf := o_pos c1 hf
    refine j_sub [0, 1, 2, 3] (show lv_pick _ _ = [(0, .ref o), (1, .int x1), (2, .int x2), (3, .int a.1)] from rfl) ?_
    have hy := hK84 _ hf
    exact hy
  · replace hf := o_neg c1 hf
    refine j_iload_n (pc := 56) M.1 dX1_lost_56 3 rfl ?_
    refine j_aload_n (pc := 57) M.1 dX1_lost_57 0 rfl ?_
    refine j_aload_n (pc := 58) M.1 dX1_lost_58 0 rfl ?_
    refine jm_getA (pc := 59) M fa_172 dX1_lost_59 ?_
    refine j_iload (pc := 62) M.1 dX1_lost_62 4 rfl ?_
    obtain ⟨b1, hf⟩ := o_need hf
    refine jm_iald (pc := 64) M ax_52 b1 dX1_lost_64 ?_
    obtain ⟨r1, g1, hf⟩ := o_bind hf
    refine jm_calli (pc := 65) (As := [.int (a.2.2.2 52 a.2.1.toNatClampNeg)]) (rest := [.int a.1]) M cm_515 (met_isLost g1) rfl rfl rfl rfl dX1_lost_65 ?_
    refine j_if_eq (pc := 68) M.1 75 dX1_lost_68 rfl (fun c2 => ?_) (fun c2 => ?_)
    · replace hf := o_pos c2 hf
      refine j_iconst (pc := 75) M.1 dX1_lost_75 kc_iconst_0 ?_
      refine j_iadd (pc := 76) M.1 dX1_lost_76 ?_
      refine j_istore_n (pc := 77) M.1 [(3, .int (a.1 + 0)), (0, .ref o), (1, .int x1), (2, .int x2), (4, .int a.2.1)] dX1_lost_77 rfl rfl ?_
      refine j_iinc (pc := 78) M.1 [(4, .int (a.2.1 + 1)), (3, .int (a.1 + 0)), (0, .ref o), (1, .int x1), (2, .int x2)] dX1_lost_78 4 rfl (congrArg _ kc_iconst_1) rfl rfl ?_
      refine j_goto (pc := 81) M.1 50 dX1_lost_81 rfl ?_
      refine j_sub [2, 3, 4, 1, 0] (show lv_pick _ _ = [(0, .ref o), (1, .int x1), (2, .int x2), (3, .int (a.1 + 0)), (4, .int (a.2.1 + 1))] from rfl) ?_
      have hy := hR _ hf
      exact hy
    · replace hf := o_neg c2 hf
      refine j_iconst (pc := 71) M.1 dX1_lost_71 kc_iconst_1 ?_
      refine j_goto (pc := 72) M.1 76 dX1_lost_72 rfl ?_
      refine j_iadd (pc := 76) M.1 dX1_lost_76 ?_
      refine j_istore_n (pc := 77) M.1 [(3, .int (a.1 + 1)), (0, .ref o), (1, .int x1), (2, .int x2), (4, .int a.2.1)] dX1_lost_77 rfl rfl ?_
      refine j_iinc (pc := 78) M.1 [(4, .int (a.2.1 + 1)), (3, .int (a.1 + 1)), (0, .ref o), (1, .int x1), (2, .int x2)] dX1_lost_78 4 rfl (congrArg _ kc_iconst_1) rfl rfl ?_
      refine j_goto (pc := 81) M.1 50 dX1_lost_81 rfl ?_
      refine j_sub [2, 3, 4, 1, 0] (show lv_pick _ _ = [(0, .ref o), (1, .int x1), (2, .int x2), (3, .int (a.1 + 1)), (4, .int (a.2.1 + 1))] from rfl) ?_
      have hy := hR _ hf
      exact hy
noncomputable def m_lost_B112 (F : Nat) (K164 : Int32 × Int32 × MS → Option (Int32 × MS)) (x1 x4 x5 x6 : Int32) (R : Int32 × Int32 × MS → Option (Int32 × MS)) (a : Int32 × Int32 × MS) : Option (Int32 × MS) :=
  if x1 ≤ a.2.1 then (K164 (a.1, a.2.1, a.2.2)) else (if okI a.2.1 100 = true then (m_isLost F (a.2.2.2 52 a.2.1.toNatClampNeg) a.2.2).bind (fun r1 => if r1.1 = 0 then (R (a.1 + 0, a.2.1 + 1, r1.2)) else (if okI a.2.1 100 = true then (m_wouldHave F x6 (r1.2.2 52 a.2.1.toNatClampNeg) r1.2).bind (fun r2 => if r2.1 = 0 then (R (a.1 + 0, a.2.1 + 1, r2.2)) else (R (a.1 + 1, a.2.1 + 1, r2.2))) else none)) else none)
theorem km_lost_B112 (M : MC γ cX1_lost 9 G o 8 (some .int) (mQi G o res)) (x1 x4 x5 x6 : Int32) (K164 : Int32 × Int32 × MS → Option (Int32 × MS)) (hK164 : ∀ a, K164 a = some res → J γ (MW G o a.2.2) 0 0 164 [(0, .ref o), (1, .int x1), (4, .int x4), (5, .int x5), (6, .int x6), (7, .int a.1)] []) : ∀ R : Int32 × Int32 × MS → Option (Int32 × MS), (∀ a, R a = some res → J γ (MW G o a.2.2) 0 0 112 [(0, .ref o), (1, .int x1), (4, .int x4), (5, .int x5), (6, .int x6), (7, .int a.1), (8, .int a.2.1)] []) → ∀ a, m_lost_B112 F K164 x1 x4 x5 x6 R a = some res → J γ (MW G o a.2.2) 0 0 112 [(0, .ref o), (1, .int x1), (4, .int x4), (5, .int x5), (6, .int x6), (7, .int a.1), (8, .int a.2.1)] [] := by
  intro R hR a hf
  unfold m_lost_B112 at hf
  refine j_iload (pc := 112) M.1 dX1_lost_112 6 rfl ?_
  refine j_iload_n (pc := 114) M.1 dX1_lost_114 1 rfl ?_
  refine j_icmp_ge (pc := 115) M.1 164 dX1_lost_115 rfl (fun c1 => ?_) (fun c1 => ?_)
  · replace hf := o_pos c1 hf
    refine j_sub [0, 1, 2, 3, 4, 5] (show lv_pick _ _ = [(0, .ref o), (1, .int x1), (4, .int x4), (5, .int x5), (6, .int x6), (7, .int a.1)] from rfl) ?_
    have hy := hK164 _ hf
    exact hy
  · replace hf := o_neg c1 hf
    refine j_iload (pc := 118) M.1 dX1_lost_118 5 rfl ?_
    refine j_aload_n (pc := 120) M.1 dX1_lost_120 0 rfl ?_
    refine j_aload_n (pc := 121) M.1 dX1_lost_121 0 rfl ?_
    refine jm_getA (pc := 122) M fa_172 dX1_lost_122 ?_
    refine j_iload (pc := 125) M.1 dX1_lost_125 6 rfl ?_
    obtain ⟨b1, hf⟩ := o_need hf
    refine jm_iald (pc := 127) M ax_52 b1 dX1_lost_127 ?_
    obtain ⟨r1, g1, hf⟩ := o_bind hf
    refine jm_calli (pc := 128) (As := [.int (a.2.2.2 52 a.2.1.toNatClampNeg)]) (rest := [.int a.1]) M cm_515 (met_isLost g1) rfl rfl rfl rfl dX1_lost_128 ?_
    refine j_if_eq (pc := 131) M.1 154 dX1_lost_131 rfl (fun c2 => ?_) (fun c2 => ?_)
    · replace hf := o_pos c2 hf
      refine j_iconst (pc := 154) M.1 dX1_lost_154 kc_iconst_0 ?_
      refine j_iadd (pc := 155) M.1 dX1_lost_155 ?_
      refine j_istore (pc := 156) M.1 [(7, .int (a.1 + 0)), (0, .ref o), (1, .int x1), (4, .int x4), (5, .int x5), (6, .int x6), (8, .int a.2.1)] dX1_lost_156 rfl rfl ?_
      refine j_iinc (pc := 158) M.1 [(8, .int (a.2.1 + 1)), (7, .int (a.1 + 0)), (0, .ref o), (1, .int x1), (4, .int x4), (5, .int x5), (6, .int x6)] dX1_lost_158 6 rfl (congrArg _ kc_iconst_1) rfl rfl ?_
      refine j_goto (pc := 161) M.1 112 dX1_lost_161 rfl ?_
      refine j_sub [2, 3, 4, 5, 6, 1, 0] (show lv_pick _ _ = [(0, .ref o), (1, .int x1), (4, .int x4), (5, .int x5), (6, .int x6), (7, .int (a.1 + 0)), (8, .int (a.2.1 + 1))] from rfl) ?_
      have hy := hR _ hf
      exact hy
    · replace hf := o_neg c2 hf
      refine j_aload_n (pc := 134) M.1 dX1_lost_134 0 rfl ?_
      refine j_iload (pc := 135) M.1 dX1_lost_135 4 rfl ?_
      refine j_aload_n (pc := 137) M.1 dX1_lost_137 0 rfl ?_
      refine jm_getA (pc := 138) M fa_172 dX1_lost_138 ?_
      refine j_iload (pc := 141) M.1 dX1_lost_141 6 rfl ?_
      obtain ⟨b2, hf⟩ := o_need hf
      refine jm_iald (pc := 143) M ax_52 b2 dX1_lost_143 ?_
      obtain ⟨r2, g2, hf⟩ := o_bind hf
      refine jm_calli (pc := 144) (As := [.int x6, .int (r1.2.2 52 a.2.1.toNatClampNeg)]) (rest := [.int a.1]) M cm_518 (met_wouldHave g2) rfl rfl rfl rfl dX1_lost_144 ?_
      refine j_if_eq (pc := 147) M.1 154 dX1_lost_147 rfl (fun c3 => ?_) (fun c3 => ?_)
      · replace hf := o_pos c3 hf
        refine j_iconst (pc := 154) M.1 dX1_lost_154 kc_iconst_0 ?_
        refine j_iadd (pc := 155) M.1 dX1_lost_155 ?_
        refine j_istore (pc := 156) M.1 [(7, .int (a.1 + 0)), (0, .ref o), (1, .int x1), (4, .int x4), (5, .int x5), (6, .int x6), (8, .int a.2.1)] dX1_lost_156 rfl rfl ?_
        refine j_iinc (pc := 158) M.1 [(8, .int (a.2.1 + 1)), (7, .int (a.1 + 0)), (0, .ref o), (1, .int x1), (4, .int x4), (5, .int x5), (6, .int x6)] dX1_lost_158 6 rfl (congrArg _ kc_iconst_1) rfl rfl ?_
        refine j_goto (pc := 161) M.1 112 dX1_lost_161 rfl ?_
        refine j_sub [2, 3, 4, 5, 6, 1, 0] (show lv_pick _ _ = [(0, .ref o), (1, .int x1), (4, .int x4), (5, .int x5), (6, .int x6), (7, .int (a.1 + 0)), (8, .int (a.2.1 + 1))] from rfl) ?_
        have hy := hR _ hf
        exact hy
      · replace hf := o_neg c3 hf
        refine j_iconst (pc := 150) M.1 dX1_lost_150 kc_iconst_1 ?_
        refine j_goto (pc := 151) M.1 155 dX1_lost_151 rfl ?_
        refine j_iadd (pc := 155) M.1 dX1_lost_155 ?_
        refine j_istore (pc := 156) M.1 [(7, .int (a.1 + 1)), (0, .ref o), (1, .int x1), (4, .int x4), (5, .int x5), (6, .int x6), (8, .int a.2.1)] dX1_lost_156 rfl rfl ?_
        refine j_iinc (pc := 158) M.1 [(8, .int (a.2.1 + 1)), (7, .int (a.1 + 1)), (0, .ref o), (1, .int x1), (4, .int x4), (5, .int x5), (6, .int x6)] dX1_lost_158 6 rfl (congrArg _ kc_iconst_1) rfl rfl ?_
        refine j_goto (pc := 161) M.1 112 dX1_lost_161 rfl ?_
        refine j_sub [2, 3, 4, 5, 6, 1, 0] (show lv_pick _ _ = [(0, .ref o), (1, .int x1), (4, .int x4), (5, .int x5), (6, .int x6), (7, .int (a.1 + 1)), (8, .int (a.2.1 + 1))] from rfl) ?_
        have hy := hR _ hf
        exact hy
noncomputable def m_lost_B99 (F : Nat) (x1 : Int32) (R : Int32 × Int32 × Int32 × MS → Option (Int32 × MS)) (a : Int32 × Int32 × Int32 × MS) : Option (Int32 × MS) :=
  if 10 ≤ a.2.2.1 then (some (a.1, a.2.2.2)) else (lp (m_lost_B112 F (fun a1 => if a.2.1 < a1.1 then (R (a.2.2.1, a1.1, a.2.2.1 + 1, a1.2.2)) else (R (a.1, a.2.1, a.2.2.1 + 1, a1.2.2))) x1 a.1 a.2.1 a.2.2.1) F (0, 0, a.2.2.2))
theorem km_lost_B99 (M : MC γ cX1_lost 9 G o 8 (some .int) (mQi G o res)) (x1 : Int32) : ∀ R : Int32 × Int32 × Int32 × MS → Option (Int32 × MS), (∀ a, R a = some res → J γ (MW G o a.2.2.2) 0 0 99 [(0, .ref o), (1, .int x1), (4, .int a.1), (5, .int a.2.1), (6, .int a.2.2.1)] []) → ∀ a, m_lost_B99 F x1 R a = some res → J γ (MW G o a.2.2.2) 0 0 99 [(0, .ref o), (1, .int x1), (4, .int a.1), (5, .int a.2.1), (6, .int a.2.2.1)] [] := by
  intro R hR a hf
  unfold m_lost_B99 at hf
  refine j_iload (pc := 99) M.1 dX1_lost_99 4 rfl ?_
  refine j_bipush (pc := 101) M.1 dX1_lost_101 kc_bipush_10 ?_
  refine j_icmp_ge (pc := 103) M.1 188 dX1_lost_103 rfl (fun c1 => ?_) (fun c1 => ?_)
  · replace hf := o_pos c1 hf
    refine j_iload (pc := 188) M.1 dX1_lost_188 2 rfl ?_
    exact jm_iret (pc := 190) M dX1_lost_190 hf
  · replace hf := o_neg c1 hf
    refine j_iconst (pc := 106) M.1 dX1_lost_106 kc_iconst_0 ?_
    refine j_istore (pc := 107) M.1 [(7, .int 0), (0, .ref o), (1, .int x1), (4, .int a.1), (5, .int a.2.1), (6, .int a.2.2.1)] dX1_lost_107 rfl rfl ?_
    refine j_iconst (pc := 109) M.1 dX1_lost_109 kc_iconst_0 ?_
    refine j_istore (pc := 110) M.1 [(8, .int 0), (7, .int 0), (0, .ref o), (1, .int x1), (4, .int a.1), (5, .int a.2.1), (6, .int a.2.2.1)] dX1_lost_110 rfl rfl ?_
    refine j_sub [2, 3, 4, 5, 6, 1, 0] (show lv_pick _ _ = [(0, .ref o), (1, .int x1), (4, .int a.1), (5, .int a.2.1), (6, .int a.2.2.1), (7, .int 0), (8, .int 0)] from rfl) ?_
    refine lp_W (km_lost_B112 M x1 a.1 a.2.1 a.2.2.1 _ ?_) F (0, 0, a.2.2.2) hf
    · intro a1 hf
      refine j_iload (pc := 164) M.1 dX1_lost_164 5 rfl ?_
      refine j_iload (pc := 166) M.1 dX1_lost_166 3 rfl ?_
      refine j_icmp_gt (pc := 168) M.1 174 dX1_lost_168 rfl (fun c2 => ?_) (fun c2 => ?_)
      · replace hf := o_pos c2 hf
        refine j_iload (pc := 174) M.1 dX1_lost_174 5 rfl ?_
        refine j_istore (pc := 176) M.1 [(5, .int a1.1), (0, .ref o), (1, .int x1), (4, .int a.1), (6, .int a.2.2.1), (7, .int a1.1)] dX1_lost_176 rfl rfl ?_
        refine j_iload (pc := 178) M.1 dX1_lost_178 4 rfl ?_
        refine j_istore (pc := 180) M.1 [(4, .int a.2.2.1), (5, .int a1.1), (0, .ref o), (1, .int x1), (6, .int a.2.2.1), (7, .int a1.1)] dX1_lost_180 rfl rfl ?_
        refine j_iinc (pc := 182) M.1 [(6, .int (a.2.2.1 + 1)), (4, .int a.2.2.1), (5, .int a1.1), (0, .ref o), (1, .int x1), (7, .int a1.1)] dX1_lost_182 4 rfl (congrArg _ kc_iconst_1) rfl rfl ?_
        refine j_goto (pc := 185) M.1 99 dX1_lost_185 rfl ?_
        refine j_sub [3, 4, 1, 2, 0] (show lv_pick _ _ = [(0, .ref o), (1, .int x1), (4, .int a.2.2.1), (5, .int a1.1), (6, .int (a.2.2.1 + 1))] from rfl) ?_
        have hy := hR _ hf
        exact hy
      · replace hf := o_neg c2 hf
        refine j_goto (pc := 171) M.1 182 dX1_lost_171 rfl ?_
        refine j_iinc (pc := 182) M.1 [(6, .int (a.2.2.1 + 1)), (0, .ref o), (1, .int x1), (4, .int a.1), (5, .int a.2.1), (7, .int a1.1)] dX1_lost_182 4 rfl (congrArg _ kc_iconst_1) rfl rfl ?_
        refine j_goto (pc := 185) M.1 99 dX1_lost_185 rfl ?_
        refine j_sub [1, 2, 3, 4, 0] (show lv_pick _ _ = [(0, .ref o), (1, .int x1), (4, .int a.1), (5, .int a.2.1), (6, .int (a.2.2.1 + 1))] from rfl) ?_
        have hy := hR _ hf
        exact hy
noncomputable def m_lost (F : Nat) (x1 x2 : Int32) (σ : MS) : Option (Int32 × MS) :=
  (m_in F x1 0 100).bind (fun r1 => if r1 = 0 then (some ((-1), σ)) else ((m_in F x2 0 1).bind (fun r2 => if r2 = 0 then (some ((-1), σ)) else (if x1 ≤ (σ.1 28) then (nx (sS σ 28 0) (fun σ1 => (m_hearsFinds F x1 σ1).bind (fun r3 => if r3.1 = 0 then (some ((-2), r3.2)) else (lp (m_lost_B50 F (fun a1 => if x2 = 0 then (some (a1.1, a1.2.2)) else (lp (m_lost_B99 F x1) F ((-1), 0, 0, a1.2.2))) x1 x2) F (0, 0, r3.2))))) else (some ((-1), σ))))))
theorem met_lost {l : Launch} {G : gG} {o F : Nat} {x1 x2 : Int32} {σ : MS} {res : Int32 × MS} (hf : m_lost F x1 x2 σ = some res) : MetMi l G yX1_lost cX1_lost 9 (some .int) 8 o [.int x1, .int x2] σ res := by
  refine metMi_of (by decide) rfl rfl (fun γ hγ M => ?_)
  subst hγ
  show J γ (MW G o σ) 0 0 0 [(0, .ref o), (1, .int x1), (2, .int x2)] []
  unfold m_lost at hf
  refine j_iload_n (pc := 0) M.1 dX1_lost_0 1 rfl ?_
  refine j_iconst (pc := 1) M.1 dX1_lost_1 kc_iconst_0 ?_
  refine j_bipush (pc := 2) M.1 dX1_lost_2 kc_bipush_100 ?_
  obtain ⟨r1, g1, hf⟩ := o_bind hf
  refine jm_calls (pc := 4) (As := [.int x1, .int 0, .int 100]) (rest := []) M cs_X1_278 (met_in g1) rfl rfl rfl rfl dX1_lost_4 ?_
  refine j_if_eq (pc := 7) M.1 27 dX1_lost_7 rfl (fun c1 => ?_) (fun c1 => ?_)
  · replace hf := o_pos c1 hf
    refine j_iconst (pc := 27) M.1 dX1_lost_27 kc_iconst_m1 ?_
    exact jm_iret (pc := 28) M dX1_lost_28 hf
  · replace hf := o_neg c1 hf
    refine j_iload_n (pc := 10) M.1 dX1_lost_10 2 rfl ?_
    refine j_iconst (pc := 11) M.1 dX1_lost_11 kc_iconst_0 ?_
    refine j_iconst (pc := 12) M.1 dX1_lost_12 kc_iconst_1 ?_
    obtain ⟨r2, g2, hf⟩ := o_bind hf
    refine jm_calls (pc := 13) (As := [.int x2, .int 0, .int 1]) (rest := []) M cs_X1_278 (met_in g2) rfl rfl rfl rfl dX1_lost_13 ?_
    refine j_if_eq (pc := 16) M.1 27 dX1_lost_16 rfl (fun c2 => ?_) (fun c2 => ?_)
    · replace hf := o_pos c2 hf
      refine j_iconst (pc := 27) M.1 dX1_lost_27 kc_iconst_m1 ?_
      exact jm_iret (pc := 28) M dX1_lost_28 hf
    · replace hf := o_neg c2 hf
      refine j_iload_n (pc := 19) M.1 dX1_lost_19 1 rfl ?_
      refine j_aload_n (pc := 20) M.1 dX1_lost_20 0 rfl ?_
      refine jm_getS (pc := 21) M fm_341 dX1_lost_21 ?_
      refine j_icmp_le (pc := 24) M.1 29 dX1_lost_24 rfl (fun c3 => ?_) (fun c3 => ?_)
      · replace hf := o_pos c3 hf
        refine j_aload_n (pc := 29) M.1 dX1_lost_29 0 rfl ?_
        refine j_iconst (pc := 30) M.1 dX1_lost_30 kc_iconst_0 ?_
        obtain ⟨σ1, e1, hf⟩ := o_nx hf
        refine jm_put (pc := 31) M fm_341 dX1_lost_31 e1 ?_
        refine j_aload_n (pc := 34) M.1 dX1_lost_34 0 rfl ?_
        refine j_iload_n (pc := 35) M.1 dX1_lost_35 1 rfl ?_
        obtain ⟨r3, g3, hf⟩ := o_bind hf
        refine jm_calli (pc := 36) (As := [.int x1]) (rest := []) M cm_506 (met_hearsFinds g3) rfl rfl rfl rfl dX1_lost_36 ?_
        refine j_if_ne (pc := 39) M.1 45 dX1_lost_39 rfl (fun c4 => ?_) (fun c4 => ?_)
        · replace hf := o_neg c4 hf
          refine j_iconst (pc := 45) M.1 dX1_lost_45 kc_iconst_0 ?_
          refine j_istore_n (pc := 46) M.1 [(3, .int 0), (0, .ref o), (1, .int x1), (2, .int x2)] dX1_lost_46 rfl rfl ?_
          refine j_iconst (pc := 47) M.1 dX1_lost_47 kc_iconst_0 ?_
          refine j_istore (pc := 48) M.1 [(4, .int 0), (3, .int 0), (0, .ref o), (1, .int x1), (2, .int x2)] dX1_lost_48 rfl rfl ?_
          refine j_sub [2, 3, 4, 1, 0] (show lv_pick _ _ = [(0, .ref o), (1, .int x1), (2, .int x2), (3, .int 0), (4, .int 0)] from rfl) ?_
          refine lp_W (km_lost_B50 M x1 x2 _ ?_) F (0, 0, r3.2) hf
          · intro a1 hf
            refine j_iload_n (pc := 84) M.1 dX1_lost_84 2 rfl ?_
            refine j_if_ne (pc := 85) M.1 90 dX1_lost_85 rfl (fun c5 => ?_) (fun c5 => ?_)
            · replace hf := o_neg c5 hf
              refine j_iconst (pc := 90) M.1 dX1_lost_90 kc_iconst_m1 ?_
              refine j_istore (pc := 91) M.1 [(4, .int ((-1))), (0, .ref o), (1, .int x1), (2, .int x2), (3, .int a1.1)] dX1_lost_91 rfl rfl ?_
              refine j_iconst (pc := 93) M.1 dX1_lost_93 kc_iconst_0 ?_
              refine j_istore (pc := 94) M.1 [(5, .int 0), (4, .int ((-1))), (0, .ref o), (1, .int x1), (2, .int x2), (3, .int a1.1)] dX1_lost_94 rfl rfl ?_
              refine j_iconst (pc := 96) M.1 dX1_lost_96 kc_iconst_0 ?_
              refine j_istore (pc := 97) M.1 [(6, .int 0), (5, .int 0), (4, .int ((-1))), (0, .ref o), (1, .int x1), (2, .int x2), (3, .int a1.1)] dX1_lost_97 rfl rfl ?_
              refine j_sub [3, 4, 2, 1, 0] (show lv_pick _ _ = [(0, .ref o), (1, .int x1), (4, .int ((-1))), (5, .int 0), (6, .int 0)] from rfl) ?_
              refine lp_W (km_lost_B99 M x1) F ((-1), 0, 0, a1.2.2) hf
            · replace hf := o_pos c5 hf
              refine j_iload_n (pc := 88) M.1 dX1_lost_88 3 rfl ?_
              exact jm_iret (pc := 89) M dX1_lost_89 hf
        · replace hf := o_pos c4 hf
          refine j_bipush (pc := 42) M.1 dX1_lost_42 kc_bipush_m2 ?_
          exact jm_iret (pc := 44) M dX1_lost_44 hf
      · replace hf := o_neg c3 hf
        refine j_iconst (pc := 27) M.1 dX1_lost_27 kc_iconst_m1 ?_
        exact jm_iret (pc := 28) M dX1_lost_28 hf
end
theorem dX1_readsClause_0 : decode cX1_readsClause 0 = .ok (.aload_n 0, 1) := by decide +kernel
theorem dX1_readsClause_1 : decode cX1_readsClause 1 = .ok (.invokevirtual 354, 3) := by decide +kernel
theorem dX1_readsClause_4 : decode cX1_readsClause 4 = .ok (.istore_n 1, 1) := by decide +kernel
theorem dX1_readsClause_5 : decode cX1_readsClause 5 = .ok (.iload_n 1, 1) := by decide +kernel
theorem dX1_readsClause_6 : decode cX1_readsClause 6 = .ok (.invokestatic 426, 3) := by decide +kernel
theorem dX1_readsClause_9 : decode cX1_readsClause 9 = .ok (.ifCond .ne 13, 3) := by decide +kernel
theorem dX1_readsClause_12 : decode cX1_readsClause 12 = .ok (.aload_n 0, 1) := by decide +kernel
theorem dX1_readsClause_13 : decode cX1_readsClause 13 = .ok (.iconst 1, 1) := by decide +kernel
theorem dX1_readsClause_14 : decode cX1_readsClause 14 = .ok (.aload_n 0, 1) := by decide +kernel
theorem dX1_readsClause_15 : decode cX1_readsClause 15 = .ok (.getfield 348, 3) := by decide +kernel
theorem dX1_readsClause_18 : decode cX1_readsClause 18 = .ok (.invokevirtual 361, 3) := by decide +kernel
theorem dX1_readsClause_21 : decode cX1_readsClause 21 = .ok (.ireturn, 1) := by decide +kernel
theorem dX1_readsClause_22 : decode cX1_readsClause 22 = .ok (.aload_n 0, 1) := by decide +kernel
theorem dX1_readsClause_23 : decode cX1_readsClause 23 = .ok (.getfield 429, 3) := by decide +kernel
theorem dX1_readsClause_26 : decode cX1_readsClause 26 = .ok (.bipush 10, 2) := by decide +kernel
theorem dX1_readsClause_28 : decode cX1_readsClause 28 = .ok (.if_icmp .ne 13, 3) := by decide +kernel
theorem dX1_readsClause_31 : decode cX1_readsClause 31 = .ok (.aload_n 0, 1) := by decide +kernel
theorem dX1_readsClause_32 : decode cX1_readsClause 32 = .ok (.iconst 4, 1) := by decide +kernel
theorem dX1_readsClause_33 : decode cX1_readsClause 33 = .ok (.aload_n 0, 1) := by decide +kernel
theorem dX1_readsClause_34 : decode cX1_readsClause 34 = .ok (.getfield 348, 3) := by decide +kernel
theorem dX1_readsClause_37 : decode cX1_readsClause 37 = .ok (.invokevirtual 361, 3) := by decide +kernel
theorem dX1_readsClause_40 : decode cX1_readsClause 40 = .ok (.ireturn, 1) := by decide +kernel
theorem dX1_readsClause_41 : decode cX1_readsClause 41 = .ok (.aload_n 0, 1) := by decide +kernel
theorem dX1_readsClause_42 : decode cX1_readsClause 42 = .ok (.aload_n 0, 1) := by decide +kernel
theorem dX1_readsClause_43 : decode cX1_readsClause 43 = .ok (.getfield 348, 3) := by decide +kernel
theorem dX1_readsClause_46 : decode cX1_readsClause 46 = .ok (.iconst 1, 1) := by decide +kernel
theorem dX1_readsClause_47 : decode cX1_readsClause 47 = .ok (.iadd, 1) := by decide +kernel
theorem dX1_readsClause_48 : decode cX1_readsClause 48 = .ok (.putfield 348, 3) := by decide +kernel
theorem dX1_readsClause_51 : decode cX1_readsClause 51 = .ok (.aload_n 0, 1) := by decide +kernel
theorem dX1_readsClause_52 : decode cX1_readsClause 52 = .ok (.iload_n 1, 1) := by decide +kernel
theorem dX1_readsClause_53 : decode cX1_readsClause 53 = .ok (.invokestatic 432, 3) := by decide +kernel
theorem dX1_readsClause_56 : decode cX1_readsClause 56 = .ok (.invokevirtual 391, 3) := by decide +kernel
theorem dX1_readsClause_59 : decode cX1_readsClause 59 = .ok (.ifCond .ne 5, 3) := by decide +kernel
theorem dX1_readsClause_62 : decode cX1_readsClause 62 = .ok (.iconst 0, 1) := by decide +kernel
theorem dX1_readsClause_63 : decode cX1_readsClause 63 = .ok (.ireturn, 1) := by decide +kernel
theorem dX1_readsClause_64 : decode cX1_readsClause 64 = .ok (.aload_n 0, 1) := by decide +kernel
theorem dX1_readsClause_65 : decode cX1_readsClause 65 = .ok (.getfield 429, 3) := by decide +kernel
theorem dX1_readsClause_68 : decode cX1_readsClause 68 = .ok (.istore_n 2, 1) := by decide +kernel
theorem dX1_readsClause_69 : decode cX1_readsClause 69 = .ok (.aload_n 0, 1) := by decide +kernel
theorem dX1_readsClause_70 : decode cX1_readsClause 70 = .ok (.getfield 80, 3) := by decide +kernel
theorem dX1_readsClause_73 : decode cX1_readsClause 73 = .ok (.iload_n 2, 1) := by decide +kernel
theorem dX1_readsClause_74 : decode cX1_readsClause 74 = .ok (.iload_n 1, 1) := by decide +kernel
theorem dX1_readsClause_75 : decode cX1_readsClause 75 = .ok (.iastore, 1) := by decide +kernel
theorem dX1_readsClause_76 : decode cX1_readsClause 76 = .ok (.aload_n 0, 1) := by decide +kernel
theorem dX1_readsClause_77 : decode cX1_readsClause 77 = .ok (.getfield 89, 3) := by decide +kernel
theorem dX1_readsClause_80 : decode cX1_readsClause 80 = .ok (.iload_n 2, 1) := by decide +kernel
theorem dX1_readsClause_81 : decode cX1_readsClause 81 = .ok (.aload_n 0, 1) := by decide +kernel
theorem dX1_readsClause_82 : decode cX1_readsClause 82 = .ok (.getfield 364, 3) := by decide +kernel
theorem dX1_readsClause_85 : decode cX1_readsClause 85 = .ok (.iastore, 1) := by decide +kernel
theorem dX1_readsClause_86 : decode cX1_readsClause 86 = .ok (.aload_n 0, 1) := by decide +kernel
theorem dX1_readsClause_87 : decode cX1_readsClause 87 = .ok (.getfield 92, 3) := by decide +kernel
theorem dX1_readsClause_90 : decode cX1_readsClause 90 = .ok (.iload_n 2, 1) := by decide +kernel
theorem dX1_readsClause_91 : decode cX1_readsClause 91 = .ok (.iconst 0, 1) := by decide +kernel
theorem dX1_readsClause_92 : decode cX1_readsClause 92 = .ok (.iastore, 1) := by decide +kernel
theorem dX1_readsClause_93 : decode cX1_readsClause 93 = .ok (.aload_n 0, 1) := by decide +kernel
theorem dX1_readsClause_94 : decode cX1_readsClause 94 = .ok (.getfield 83, 3) := by decide +kernel
theorem dX1_readsClause_97 : decode cX1_readsClause 97 = .ok (.iload_n 2, 1) := by decide +kernel
theorem dX1_readsClause_98 : decode cX1_readsClause 98 = .ok (.aload_n 0, 1) := by decide +kernel
theorem dX1_readsClause_99 : decode cX1_readsClause 99 = .ok (.getfield 371, 3) := by decide +kernel
theorem dX1_readsClause_102 : decode cX1_readsClause 102 = .ok (.iastore, 1) := by decide +kernel
theorem dX1_readsClause_103 : decode cX1_readsClause 103 = .ok (.iload_n 1, 1) := by decide +kernel
theorem dX1_readsClause_104 : decode cX1_readsClause 104 = .ok (.bipush 120, 2) := by decide +kernel
theorem dX1_readsClause_106 : decode cX1_readsClause 106 = .ok (.if_icmp .ne 36, 3) := by decide +kernel
theorem dX1_readsClause_109 : decode cX1_readsClause 109 = .ok (.aload_n 0, 1) := by decide +kernel
theorem dX1_readsClause_110 : decode cX1_readsClause 110 = .ok (.bipush 46, 2) := by decide +kernel
theorem dX1_readsClause_112 : decode cX1_readsClause 112 = .ok (.invokevirtual 435, 3) := by decide +kernel
theorem dX1_readsClause_115 : decode cX1_readsClause 115 = .ok (.ifCond .eq 12, 3) := by decide +kernel
theorem dX1_readsClause_118 : decode cX1_readsClause 118 = .ok (.aload_n 0, 1) := by decide +kernel
theorem dX1_readsClause_119 : decode cX1_readsClause 119 = .ok (.bipush 9, 2) := by decide +kernel
theorem dX1_readsClause_121 : decode cX1_readsClause 121 = .ok (.invokevirtual 391, 3) := by decide +kernel
theorem dX1_readsClause_124 : decode cX1_readsClause 124 = .ok (.ifCond .ne 5, 3) := by decide +kernel
theorem dX1_readsClause_127 : decode cX1_readsClause 127 = .ok (.iconst 0, 1) := by decide +kernel
theorem dX1_readsClause_128 : decode cX1_readsClause 128 = .ok (.ireturn, 1) := by decide +kernel
theorem dX1_readsClause_129 : decode cX1_readsClause 129 = .ok (.aload_n 0, 1) := by decide +kernel
theorem dX1_readsClause_130 : decode cX1_readsClause 130 = .ok (.getfield 92, 3) := by decide +kernel
theorem dX1_readsClause_133 : decode cX1_readsClause 133 = .ok (.iload_n 2, 1) := by decide +kernel
theorem dX1_readsClause_134 : decode cX1_readsClause 134 = .ok (.aload_n 0, 1) := by decide +kernel
theorem dX1_readsClause_135 : decode cX1_readsClause 135 = .ok (.getfield 364, 3) := by decide +kernel
theorem dX1_readsClause_138 : decode cX1_readsClause 138 = .ok (.iastore, 1) := by decide +kernel
theorem dX1_readsClause_139 : decode cX1_readsClause 139 = .ok (.goto 21, 3) := by decide +kernel
theorem dX1_readsClause_142 : decode cX1_readsClause 142 = .ok (.aload_n 0, 1) := by decide +kernel
theorem dX1_readsClause_143 : decode cX1_readsClause 143 = .ok (.invokevirtual 354, 3) := by decide +kernel
theorem dX1_readsClause_146 : decode cX1_readsClause 146 = .ok (.bipush 40, 2) := by decide +kernel
theorem dX1_readsClause_148 : decode cX1_readsClause 148 = .ok (.if_icmp .ne 12, 3) := by decide +kernel
theorem dX1_readsClause_151 : decode cX1_readsClause 151 = .ok (.aload_n 0, 1) := by decide +kernel
theorem dX1_readsClause_152 : decode cX1_readsClause 152 = .ok (.invokevirtual 438, 3) := by decide +kernel
theorem dX1_readsClause_155 : decode cX1_readsClause 155 = .ok (.ifCond .ne 5, 3) := by decide +kernel
theorem dX1_readsClause_158 : decode cX1_readsClause 158 = .ok (.iconst 0, 1) := by decide +kernel
theorem dX1_readsClause_159 : decode cX1_readsClause 159 = .ok (.ireturn, 1) := by decide +kernel
theorem dX1_readsClause_160 : decode cX1_readsClause 160 = .ok (.aload_n 0, 1) := by decide +kernel
theorem dX1_readsClause_161 : decode cX1_readsClause 161 = .ok (.getfield 86, 3) := by decide +kernel
theorem dX1_readsClause_164 : decode cX1_readsClause 164 = .ok (.iload_n 2, 1) := by decide +kernel
theorem dX1_readsClause_165 : decode cX1_readsClause 165 = .ok (.aload_n 0, 1) := by decide +kernel
theorem dX1_readsClause_166 : decode cX1_readsClause 166 = .ok (.getfield 371, 3) := by decide +kernel
theorem dX1_readsClause_169 : decode cX1_readsClause 169 = .ok (.iastore, 1) := by decide +kernel
theorem dX1_readsClause_170 : decode cX1_readsClause 170 = .ok (.aload_n 0, 1) := by decide +kernel
theorem dX1_readsClause_171 : decode cX1_readsClause 171 = .ok (.aload_n 0, 1) := by decide +kernel
theorem dX1_readsClause_172 : decode cX1_readsClause 172 = .ok (.getfield 429, 3) := by decide +kernel
theorem dX1_readsClause_175 : decode cX1_readsClause 175 = .ok (.iconst 1, 1) := by decide +kernel
theorem dX1_readsClause_176 : decode cX1_readsClause 176 = .ok (.iadd, 1) := by decide +kernel
theorem dX1_readsClause_177 : decode cX1_readsClause 177 = .ok (.putfield 429, 3) := by decide +kernel
theorem dX1_readsClause_180 : decode cX1_readsClause 180 = .ok (.iconst 1, 1) := by decide +kernel
theorem dX1_readsClause_181 : decode cX1_readsClause 181 = .ok (.ireturn, 1) := by decide +kernel
section
variable {res : Int32 × MS}
noncomputable def m_readsClause_160 (F : Nat) (x2 : Int32) (σ : MS) : Option (Int32 × MS) :=
  if okI x2 10 = true then nx (sA σ 25 x2.toNatClampNeg (σ.1 34)) (fun σ1 => nx (sS σ1 36 ((σ1.1 36) + 1)) (fun σ2 => some (1, σ2))) else none
theorem km_readsClause_160 (M : MC γ cX1_readsClause 3 G o 8 (some .boolean) (mQi G o res)) (x2 : Int32) (σ : MS) (hf : m_readsClause_160 F x2 σ = some res) : J γ (MW G o σ) 0 0 160 [(0, .ref o), (2, .int x2)] [] := by
  unfold m_readsClause_160 at hf
  refine j_aload_n (pc := 160) M.1 dX1_readsClause_160 0 rfl ?_
  refine jm_getA (pc := 161) M fa_86 dX1_readsClause_161 ?_
  refine j_iload_n (pc := 164) M.1 dX1_readsClause_164 1 rfl ?_
  refine j_aload_n (pc := 165) M.1 dX1_readsClause_165 0 rfl ?_
  refine jm_getS (pc := 166) M fm_371 dX1_readsClause_166 ?_
  obtain ⟨b1, hf⟩ := o_need hf
  obtain ⟨σ1, e1, hf⟩ := o_nx hf
  refine jm_iast (pc := 169) M ax_25 b1 dX1_readsClause_169 e1 ?_
  refine j_aload_n (pc := 170) M.1 dX1_readsClause_170 0 rfl ?_
  refine j_aload_n (pc := 171) M.1 dX1_readsClause_171 0 rfl ?_
  refine jm_getS (pc := 172) M fm_429 dX1_readsClause_172 ?_
  refine j_iconst (pc := 175) M.1 dX1_readsClause_175 kc_iconst_1 ?_
  refine j_iadd (pc := 176) M.1 dX1_readsClause_176 ?_
  obtain ⟨σ2, e2, hf⟩ := o_nx hf
  refine jm_put (pc := 177) M fm_429 dX1_readsClause_177 e2 ?_
  refine j_iconst (pc := 180) M.1 dX1_readsClause_180 kc_iconst_1 ?_
  exact jm_zret (pc := 181) M dX1_readsClause_181 rfl hf
noncomputable def m_readsClause (F : Nat) (σ : MS) : Option (Int32 × MS) :=
  (m_byteHere F σ).bind (fun r1 => (m_isLetter F r1.1).bind (fun r2 => if r2 = 0 then ((m_wrong F 1 (r1.2.1 29) r1.2).bind (fun r10 => if okB r10.1 = true then some (r10.1, r10.2) else none)) else (if (r1.2.1 36) = 10 then ((m_wrong F 4 (r1.2.1 29) r1.2).bind (fun r9 => if okB r9.1 = true then some (r9.1, r9.2) else none)) else (nx (sS r1.2 29 ((r1.2.1 29) + 1)) (fun σ1 => (m_mostOf F r1.1).bind (fun r3 => (m_readsNumber F r3 σ1).bind (fun r4 => if r4.1 = 0 then (some (0, r4.2)) else (if okI (r4.2.1 36) 10 = true then nx (sA r4.2 23 (r4.2.1 36).toNatClampNeg r1.1) (fun σ2 => if okI (r4.2.1 36) 10 = true then nx (sA σ2 26 (r4.2.1 36).toNatClampNeg (σ2.1 32)) (fun σ3 => if okI (r4.2.1 36) 10 = true then nx (sA σ3 27 (r4.2.1 36).toNatClampNeg 0) (fun σ4 => if okI (r4.2.1 36) 10 = true then nx (sA σ4 24 (r4.2.1 36).toNatClampNeg (σ4.1 34)) (fun σ5 => if r1.1 = 120 then ((m_takes F 46 σ5).bind (fun r7 => if r7.1 = 0 then (some (0, r7.2)) else ((m_readsNumber F 9 r7.2).bind (fun r8 => if r8.1 = 0 then (some (0, r8.2)) else (if okI (r4.2.1 36) 10 = true then nx (sA r8.2 27 (r4.2.1 36).toNatClampNeg (r8.2.1 32)) (fun σ6 => m_readsClause_160 F (r4.2.1 36) σ6) else none))))) else ((m_byteHere F σ5).bind (fun r5 => if r5.1 = 40 then ((m_readsCondition F r5.2).bind (fun r6 => if r6.1 = 0 then (some (0, r6.2)) else (m_readsClause_160 F (r4.2.1 36) r6.2))) else (m_readsClause_160 F (r4.2.1 36) r5.2)))) else none) else none) else none) else none))))))))
theorem met_readsClause {l : Launch} {G : gG} {o F : Nat} {σ : MS} {res : Int32 × MS} (hf : m_readsClause F σ = some res) : MetMi l G yX1_readsClause cX1_readsClause 3 (some .boolean) 8 o [] σ res := by
  refine metMi_of (by decide) rfl rfl (fun γ hγ M => ?_)
  subst hγ
  show J γ (MW G o σ) 0 0 0 [(0, .ref o)] []
  unfold m_readsClause at hf
  refine j_aload_n (pc := 0) M.1 dX1_readsClause_0 0 rfl ?_
  obtain ⟨r1, g1, hf⟩ := o_bind hf
  refine jm_calli (pc := 1) (As := []) (rest := []) M cm_354 (met_byteHere g1) rfl rfl rfl rfl dX1_readsClause_1 ?_
  refine j_istore_n (pc := 4) M.1 [(1, .int r1.1), (0, .ref o)] dX1_readsClause_4 rfl rfl ?_
  refine j_iload_n (pc := 5) M.1 dX1_readsClause_5 0 rfl ?_
  obtain ⟨r2, g2, hf⟩ := o_bind hf
  refine jm_calls (pc := 6) (As := [.int r1.1]) (rest := []) M cs_X1_426 (met_isLetter g2) rfl rfl rfl rfl dX1_readsClause_6 ?_
  refine j_if_ne (pc := 9) M.1 22 dX1_readsClause_9 rfl (fun c1 => ?_) (fun c1 => ?_)
  · replace hf := o_neg c1 hf
    refine j_aload_n (pc := 22) M.1 dX1_readsClause_22 1 rfl ?_
    refine jm_getS (pc := 23) M fm_429 dX1_readsClause_23 ?_
    refine j_bipush (pc := 26) M.1 dX1_readsClause_26 kc_bipush_10 ?_
    refine j_icmp_ne (pc := 28) M.1 41 dX1_readsClause_28 rfl (fun c2 => ?_) (fun c2 => ?_)
    · replace hf := o_neg c2 hf
      refine j_aload_n (pc := 41) M.1 dX1_readsClause_41 1 rfl ?_
      refine j_aload_n (pc := 42) M.1 dX1_readsClause_42 1 rfl ?_
      refine jm_getS (pc := 43) M fm_348 dX1_readsClause_43 ?_
      refine j_iconst (pc := 46) M.1 dX1_readsClause_46 kc_iconst_1 ?_
      refine j_iadd (pc := 47) M.1 dX1_readsClause_47 ?_
      obtain ⟨σ1, e1, hf⟩ := o_nx hf
      refine jm_put (pc := 48) M fm_348 dX1_readsClause_48 e1 ?_
      refine j_aload_n (pc := 51) M.1 dX1_readsClause_51 1 rfl ?_
      refine j_iload_n (pc := 52) M.1 dX1_readsClause_52 0 rfl ?_
      obtain ⟨r3, g3, hf⟩ := o_bind hf
      refine jm_calls (pc := 53) (As := [.int r1.1]) (rest := [.ref o]) M cs_X1_432 (met_mostOf g3) rfl rfl rfl rfl dX1_readsClause_53 ?_
      obtain ⟨r4, g4, hf⟩ := o_bind hf
      refine jm_calli (pc := 56) (As := [.int r3]) (rest := []) M cm_391 (met_readsNumber g4) rfl rfl rfl rfl dX1_readsClause_56 ?_
      refine j_if_ne (pc := 59) M.1 64 dX1_readsClause_59 rfl (fun c3 => ?_) (fun c3 => ?_)
      · replace hf := o_neg c3 hf
        refine j_aload_n (pc := 64) M.1 dX1_readsClause_64 1 rfl ?_
        refine jm_getS (pc := 65) M fm_429 dX1_readsClause_65 ?_
        refine j_istore_n (pc := 68) M.1 [(2, .int (r4.2.1 36)), (1, .int r1.1), (0, .ref o)] dX1_readsClause_68 rfl rfl ?_
        refine j_aload_n (pc := 69) M.1 dX1_readsClause_69 2 rfl ?_
        refine jm_getA (pc := 70) M fa_80 dX1_readsClause_70 ?_
        refine j_iload_n (pc := 73) M.1 dX1_readsClause_73 0 rfl ?_
        refine j_iload_n (pc := 74) M.1 dX1_readsClause_74 1 rfl ?_
        obtain ⟨b1, hf⟩ := o_need hf
        obtain ⟨σ2, e2, hf⟩ := o_nx hf
        refine jm_iast (pc := 75) M ax_23 b1 dX1_readsClause_75 e2 ?_
        refine j_aload_n (pc := 76) M.1 dX1_readsClause_76 2 rfl ?_
        refine jm_getA (pc := 77) M fa_89 dX1_readsClause_77 ?_
        refine j_iload_n (pc := 80) M.1 dX1_readsClause_80 0 rfl ?_
        refine j_aload_n (pc := 81) M.1 dX1_readsClause_81 2 rfl ?_
        refine jm_getS (pc := 82) M fm_364 dX1_readsClause_82 ?_
        obtain ⟨b2, hf⟩ := o_need hf
        obtain ⟨σ3, e3, hf⟩ := o_nx hf
        refine jm_iast (pc := 85) M ax_26 b2 dX1_readsClause_85 e3 ?_
        refine j_aload_n (pc := 86) M.1 dX1_readsClause_86 2 rfl ?_
        refine jm_getA (pc := 87) M fa_92 dX1_readsClause_87 ?_
        refine j_iload_n (pc := 90) M.1 dX1_readsClause_90 0 rfl ?_
        refine j_iconst (pc := 91) M.1 dX1_readsClause_91 kc_iconst_0 ?_
        obtain ⟨b3, hf⟩ := o_need hf
        obtain ⟨σ4, e4, hf⟩ := o_nx hf
        refine jm_iast (pc := 92) M ax_27 b3 dX1_readsClause_92 e4 ?_
        refine j_aload_n (pc := 93) M.1 dX1_readsClause_93 2 rfl ?_
        refine jm_getA (pc := 94) M fa_83 dX1_readsClause_94 ?_
        refine j_iload_n (pc := 97) M.1 dX1_readsClause_97 0 rfl ?_
        refine j_aload_n (pc := 98) M.1 dX1_readsClause_98 2 rfl ?_
        refine jm_getS (pc := 99) M fm_371 dX1_readsClause_99 ?_
        obtain ⟨b4, hf⟩ := o_need hf
        obtain ⟨σ5, e5, hf⟩ := o_nx hf
        refine jm_iast (pc := 102) M ax_24 b4 dX1_readsClause_102 e5 ?_
        refine j_iload_n (pc := 103) M.1 dX1_readsClause_103 1 rfl ?_
        refine j_bipush (pc := 104) M.1 dX1_readsClause_104 kc_bipush_120 ?_
        refine j_icmp_ne (pc := 106) M.1 142 dX1_readsClause_106 rfl (fun c4 => ?_) (fun c4 => ?_)
        · replace hf := o_neg c4 hf
          refine j_aload_n (pc := 142) M.1 dX1_readsClause_142 2 rfl ?_
          obtain ⟨r5, g5, hf⟩ := o_bind hf
          refine jm_calli (pc := 143) (As := []) (rest := []) M cm_354 (met_byteHere g5) rfl rfl rfl rfl dX1_readsClause_143 ?_
          refine j_bipush (pc := 146) M.1 dX1_readsClause_146 kc_bipush_40 ?_
          refine j_icmp_ne (pc := 148) M.1 160 dX1_readsClause_148 rfl (fun c5 => ?_) (fun c5 => ?_)
          · replace hf := o_neg c5 hf
            refine j_sub [2, 0] (show lv_pick _ _ = [(0, .ref o), (2, .int (r4.2.1 36))] from rfl) ?_
            exact km_readsClause_160 M (r4.2.1 36) r5.2 hf
          · replace hf := o_pos c5 hf
            refine j_aload_n (pc := 151) M.1 dX1_readsClause_151 2 rfl ?_
            obtain ⟨r6, g6, hf⟩ := o_bind hf
            refine jm_calli (pc := 152) (As := []) (rest := []) M cm_438 (met_readsCondition g6) rfl rfl rfl rfl dX1_readsClause_152 ?_
            refine j_if_ne (pc := 155) M.1 160 dX1_readsClause_155 rfl (fun c6 => ?_) (fun c6 => ?_)
            · replace hf := o_neg c6 hf
              refine j_sub [2, 0] (show lv_pick _ _ = [(0, .ref o), (2, .int (r4.2.1 36))] from rfl) ?_
              exact km_readsClause_160 M (r4.2.1 36) r6.2 hf
            · replace hf := o_pos c6 hf
              refine j_iconst (pc := 158) M.1 dX1_readsClause_158 kc_iconst_0 ?_
              exact jm_zret (pc := 159) M dX1_readsClause_159 rfl hf
        · replace hf := o_pos c4 hf
          refine j_aload_n (pc := 109) M.1 dX1_readsClause_109 2 rfl ?_
          refine j_bipush (pc := 110) M.1 dX1_readsClause_110 kc_bipush_46 ?_
          obtain ⟨r7, g7, hf⟩ := o_bind hf
          refine jm_calli (pc := 112) (As := [.int 46]) (rest := []) M cm_435 (met_takes g7) rfl rfl rfl rfl dX1_readsClause_112 ?_
          refine j_if_eq (pc := 115) M.1 127 dX1_readsClause_115 rfl (fun c7 => ?_) (fun c7 => ?_)
          · replace hf := o_pos c7 hf
            refine j_iconst (pc := 127) M.1 dX1_readsClause_127 kc_iconst_0 ?_
            exact jm_zret (pc := 128) M dX1_readsClause_128 rfl hf
          · replace hf := o_neg c7 hf
            refine j_aload_n (pc := 118) M.1 dX1_readsClause_118 2 rfl ?_
            refine j_bipush (pc := 119) M.1 dX1_readsClause_119 kc_bipush_9 ?_
            obtain ⟨r8, g8, hf⟩ := o_bind hf
            refine jm_calli (pc := 121) (As := [.int 9]) (rest := []) M cm_391 (met_readsNumber g8) rfl rfl rfl rfl dX1_readsClause_121 ?_
            refine j_if_ne (pc := 124) M.1 129 dX1_readsClause_124 rfl (fun c8 => ?_) (fun c8 => ?_)
            · replace hf := o_neg c8 hf
              refine j_aload_n (pc := 129) M.1 dX1_readsClause_129 2 rfl ?_
              refine jm_getA (pc := 130) M fa_92 dX1_readsClause_130 ?_
              refine j_iload_n (pc := 133) M.1 dX1_readsClause_133 0 rfl ?_
              refine j_aload_n (pc := 134) M.1 dX1_readsClause_134 2 rfl ?_
              refine jm_getS (pc := 135) M fm_364 dX1_readsClause_135 ?_
              obtain ⟨b5, hf⟩ := o_need hf
              obtain ⟨σ6, e6, hf⟩ := o_nx hf
              refine jm_iast (pc := 138) M ax_27 b5 dX1_readsClause_138 e6 ?_
              refine j_goto (pc := 139) M.1 160 dX1_readsClause_139 rfl ?_
              refine j_sub [2, 0] (show lv_pick _ _ = [(0, .ref o), (2, .int (r4.2.1 36))] from rfl) ?_
              exact km_readsClause_160 M (r4.2.1 36) σ6 hf
            · replace hf := o_pos c8 hf
              refine j_iconst (pc := 127) M.1 dX1_readsClause_127 kc_iconst_0 ?_
              exact jm_zret (pc := 128) M dX1_readsClause_128 rfl hf
      · replace hf := o_pos c3 hf
        refine j_iconst (pc := 62) M.1 dX1_readsClause_62 kc_iconst_0 ?_
        exact jm_zret (pc := 63) M dX1_readsClause_63 rfl hf
    · replace hf := o_pos c2 hf
      refine j_aload_n (pc := 31) M.1 dX1_readsClause_31 1 rfl ?_
      refine j_iconst (pc := 32) M.1 dX1_readsClause_32 kc_iconst_4 ?_
      refine j_aload_n (pc := 33) M.1 dX1_readsClause_33 1 rfl ?_
      refine jm_getS (pc := 34) M fm_348 dX1_readsClause_34 ?_
      obtain ⟨r9, g9, hf⟩ := o_bind hf
      refine jm_calli (pc := 37) (As := [.int 4, .int (r1.2.1 29)]) (rest := []) M cm_361 (met_wrong g9) rfl rfl rfl rfl dX1_readsClause_37 ?_
      obtain ⟨b6, hf⟩ := o_need hf
      exact jm_zret (pc := 40) M dX1_readsClause_40 b6 hf
  · replace hf := o_pos c1 hf
    refine j_aload_n (pc := 12) M.1 dX1_readsClause_12 1 rfl ?_
    refine j_iconst (pc := 13) M.1 dX1_readsClause_13 kc_iconst_1 ?_
    refine j_aload_n (pc := 14) M.1 dX1_readsClause_14 1 rfl ?_
    refine jm_getS (pc := 15) M fm_348 dX1_readsClause_15 ?_
    obtain ⟨r10, g10, hf⟩ := o_bind hf
    refine jm_calli (pc := 18) (As := [.int 1, .int (r1.2.1 29)]) (rest := []) M cm_361 (met_wrong g10) rfl rfl rfl rfl dX1_readsClause_18 ?_
    obtain ⟨b7, hf⟩ := o_need hf
    exact jm_zret (pc := 21) M dX1_readsClause_21 b7 hf
end
theorem dX1_sure_0 : decode cX1_sure 0 = .ok (.iload_n 1, 1) := by decide +kernel
theorem dX1_sure_1 : decode cX1_sure 1 = .ok (.invokestatic 320, 3) := by decide +kernel
theorem dX1_sure_4 : decode cX1_sure 4 = .ok (.ifCond .eq 11, 3) := by decide +kernel
theorem dX1_sure_7 : decode cX1_sure 7 = .ok (.aload_n 0, 1) := by decide +kernel
theorem dX1_sure_8 : decode cX1_sure 8 = .ok (.iload_n 1, 1) := by decide +kernel
theorem dX1_sure_9 : decode cX1_sure 9 = .ok (.invokevirtual 488, 3) := by decide +kernel
theorem dX1_sure_12 : decode cX1_sure 12 = .ok (.goto 4, 3) := by decide +kernel
theorem dX1_sure_15 : decode cX1_sure 15 = .ok (.iconst (-1), 1) := by decide +kernel
theorem dX1_sure_16 : decode cX1_sure 16 = .ok (.ireturn, 1) := by decide +kernel
section
variable {res : Int32 × MS}
noncomputable def m_sure (F : Nat) (x1 : Int32) (σ : MS) : Option (Int32 × MS) :=
  (m_isWeek F x1).bind (fun r1 => if r1 = 0 then (some ((-1), σ)) else ((m_sureOf F x1 σ).bind (fun r2 => some (r2.1, r2.2))))
theorem met_sure {l : Launch} {G : gG} {o F : Nat} {x1 : Int32} {σ : MS} {res : Int32 × MS} (hf : m_sure F x1 σ = some res) : MetMi l G yX1_sure cX1_sure 2 (some .int) 8 o [.int x1] σ res := by
  refine metMi_of (by decide) rfl rfl (fun γ hγ M => ?_)
  subst hγ
  show J γ (MW G o σ) 0 0 0 [(0, .ref o), (1, .int x1)] []
  unfold m_sure at hf
  refine j_iload_n (pc := 0) M.1 dX1_sure_0 1 rfl ?_
  obtain ⟨r1, g1, hf⟩ := o_bind hf
  refine jm_calls (pc := 1) (As := [.int x1]) (rest := []) M cs_X1_320 (met_isWeek g1) rfl rfl rfl rfl dX1_sure_1 ?_
  refine j_if_eq (pc := 4) M.1 15 dX1_sure_4 rfl (fun c1 => ?_) (fun c1 => ?_)
  · replace hf := o_pos c1 hf
    refine j_iconst (pc := 15) M.1 dX1_sure_15 kc_iconst_m1 ?_
    exact jm_iret (pc := 16) M dX1_sure_16 hf
  · replace hf := o_neg c1 hf
    refine j_aload_n (pc := 7) M.1 dX1_sure_7 0 rfl ?_
    refine j_iload_n (pc := 8) M.1 dX1_sure_8 1 rfl ?_
    obtain ⟨r2, g2, hf⟩ := o_bind hf
    refine jm_calli (pc := 9) (As := [.int x1]) (rest := []) M cm_488 (met_sureOf g2) rfl rfl rfl rfl dX1_sure_9 ?_
    refine j_goto (pc := 12) M.1 16 dX1_sure_12 rfl ?_
    exact jm_iret (pc := 16) M dX1_sure_16 hf
end
theorem dX1_rules_0 : decode cX1_rules 0 = .ok (.iload_n 1, 1) := by decide +kernel
theorem dX1_rules_1 : decode cX1_rules 1 = .ok (.invokestatic 320, 3) := by decide +kernel
theorem dX1_rules_4 : decode cX1_rules 4 = .ok (.ifCond .eq 42, 3) := by decide +kernel
theorem dX1_rules_7 : decode cX1_rules 7 = .ok (.iload_n 2, 1) := by decide +kernel
theorem dX1_rules_8 : decode cX1_rules 8 = .ok (.iload_n 1, 1) := by decide +kernel
theorem dX1_rules_9 : decode cX1_rules 9 = .ok (.sipush 9999, 3) := by decide +kernel
theorem dX1_rules_12 : decode cX1_rules 12 = .ok (.invokestatic 278, 3) := by decide +kernel
theorem dX1_rules_15 : decode cX1_rules 15 = .ok (.ifCond .eq 31, 3) := by decide +kernel
theorem dX1_rules_18 : decode cX1_rules 18 = .ok (.iload_n 3, 1) := by decide +kernel
theorem dX1_rules_19 : decode cX1_rules 19 = .ok (.iconst 1, 1) := by decide +kernel
theorem dX1_rules_20 : decode cX1_rules 20 = .ok (.sipush 160, 3) := by decide +kernel
theorem dX1_rules_23 : decode cX1_rules 23 = .ok (.invokestatic 278, 3) := by decide +kernel
theorem dX1_rules_26 : decode cX1_rules 26 = .ok (.ifCond .eq 20, 3) := by decide +kernel
theorem dX1_rules_29 : decode cX1_rules 29 = .ok (.iload_n 3, 1) := by decide +kernel
theorem dX1_rules_30 : decode cX1_rules 30 = .ok (.aload_n 0, 1) := by decide +kernel
theorem dX1_rules_31 : decode cX1_rules 31 = .ok (.getfield 341, 3) := by decide +kernel
theorem dX1_rules_34 : decode cX1_rules 34 = .ok (.if_icmp .gt 12, 3) := by decide +kernel
theorem dX1_rules_37 : decode cX1_rules 37 = .ok (.aload_n 0, 1) := by decide +kernel
theorem dX1_rules_38 : decode cX1_rules 38 = .ok (.getfield 441, 3) := by decide +kernel
theorem dX1_rules_41 : decode cX1_rules 41 = .ok (.bipush 20, 2) := by decide +kernel
theorem dX1_rules_43 : decode cX1_rules 43 = .ok (.if_icmp .ne 5, 3) := by decide +kernel
theorem dX1_rules_46 : decode cX1_rules 46 = .ok (.iconst (-1), 1) := by decide +kernel
theorem dX1_rules_47 : decode cX1_rules 47 = .ok (.ireturn, 1) := by decide +kernel
theorem dX1_rules_48 : decode cX1_rules 48 = .ok (.aload_n 0, 1) := by decide +kernel
theorem dX1_rules_49 : decode cX1_rules 49 = .ok (.iconst 0, 1) := by decide +kernel
theorem dX1_rules_50 : decode cX1_rules 50 = .ok (.putfield 348, 3) := by decide +kernel
theorem dX1_rules_53 : decode cX1_rules 53 = .ok (.aload_n 0, 1) := by decide +kernel
theorem dX1_rules_54 : decode cX1_rules 54 = .ok (.iload_n 3, 1) := by decide +kernel
theorem dX1_rules_55 : decode cX1_rules 55 = .ok (.putfield 351, 3) := by decide +kernel
theorem dX1_rules_58 : decode cX1_rules 58 = .ok (.aload_n 0, 1) := by decide +kernel
theorem dX1_rules_59 : decode cX1_rules 59 = .ok (.iconst 0, 1) := by decide +kernel
theorem dX1_rules_60 : decode cX1_rules 60 = .ok (.putfield 371, 3) := by decide +kernel
theorem dX1_rules_63 : decode cX1_rules 63 = .ok (.aload_n 0, 1) := by decide +kernel
theorem dX1_rules_64 : decode cX1_rules 64 = .ok (.iconst 0, 1) := by decide +kernel
theorem dX1_rules_65 : decode cX1_rules 65 = .ok (.putfield 429, 3) := by decide +kernel
theorem dX1_rules_68 : decode cX1_rules 68 = .ok (.aload_n 0, 1) := by decide +kernel
theorem dX1_rules_69 : decode cX1_rules 69 = .ok (.invokevirtual 444, 3) := by decide +kernel
theorem dX1_rules_72 : decode cX1_rules 72 = .ok (.istore 4, 2) := by decide +kernel
theorem dX1_rules_74 : decode cX1_rules 74 = .ok (.iload 4, 2) := by decide +kernel
theorem dX1_rules_76 : decode cX1_rules 76 = .ok (.ifCond .eq 40, 3) := by decide +kernel
theorem dX1_rules_79 : decode cX1_rules 79 = .ok (.aload_n 0, 1) := by decide +kernel
theorem dX1_rules_80 : decode cX1_rules 80 = .ok (.getfield 348, 3) := by decide +kernel
theorem dX1_rules_83 : decode cX1_rules 83 = .ok (.aload_n 0, 1) := by decide +kernel
theorem dX1_rules_84 : decode cX1_rules 84 = .ok (.getfield 351, 3) := by decide +kernel
theorem dX1_rules_87 : decode cX1_rules 87 = .ok (.if_icmp .ge 29, 3) := by decide +kernel
theorem dX1_rules_90 : decode cX1_rules 90 = .ok (.aload_n 0, 1) := by decide +kernel
theorem dX1_rules_91 : decode cX1_rules 91 = .ok (.bipush 59, 2) := by decide +kernel
theorem dX1_rules_93 : decode cX1_rules 93 = .ok (.invokevirtual 435, 3) := by decide +kernel
theorem dX1_rules_96 : decode cX1_rules 96 = .ok (.ifCond .eq 14, 3) := by decide +kernel
theorem dX1_rules_99 : decode cX1_rules 99 = .ok (.aload_n 0, 1) := by decide +kernel
theorem dX1_rules_100 : decode cX1_rules 100 = .ok (.invokevirtual 444, 3) := by decide +kernel
theorem dX1_rules_103 : decode cX1_rules 103 = .ok (.ifCond .eq 7, 3) := by decide +kernel
theorem dX1_rules_106 : decode cX1_rules 106 = .ok (.iconst 1, 1) := by decide +kernel
theorem dX1_rules_107 : decode cX1_rules 107 = .ok (.goto 4, 3) := by decide +kernel
theorem dX1_rules_110 : decode cX1_rules 110 = .ok (.iconst 0, 1) := by decide +kernel
theorem dX1_rules_111 : decode cX1_rules 111 = .ok (.istore 4, 2) := by decide +kernel
theorem dX1_rules_113 : decode cX1_rules 113 = .ok (.goto (-39), 3) := by decide +kernel
theorem dX1_rules_116 : decode cX1_rules 116 = .ok (.aload_n 0, 1) := by decide +kernel
theorem dX1_rules_117 : decode cX1_rules 117 = .ok (.iconst 0, 1) := by decide +kernel
theorem dX1_rules_118 : decode cX1_rules 118 = .ok (.putfield 341, 3) := by decide +kernel
theorem dX1_rules_121 : decode cX1_rules 121 = .ok (.iload 4, 2) := by decide +kernel
theorem dX1_rules_123 : decode cX1_rules 123 = .ok (.ifCond .ne 8, 3) := by decide +kernel
theorem dX1_rules_126 : decode cX1_rules 126 = .ok (.aload_n 0, 1) := by decide +kernel
theorem dX1_rules_127 : decode cX1_rules 127 = .ok (.getfield 358, 3) := by decide +kernel
theorem dX1_rules_130 : decode cX1_rules 130 = .ok (.ireturn, 1) := by decide +kernel
theorem dX1_rules_131 : decode cX1_rules 131 = .ok (.aload_n 0, 1) := by decide +kernel
theorem dX1_rules_132 : decode cX1_rules 132 = .ok (.getfield 98, 3) := by decide +kernel
theorem dX1_rules_135 : decode cX1_rules 135 = .ok (.aload_n 0, 1) := by decide +kernel
theorem dX1_rules_136 : decode cX1_rules 136 = .ok (.getfield 441, 3) := by decide +kernel
theorem dX1_rules_139 : decode cX1_rules 139 = .ok (.iload_n 1, 1) := by decide +kernel
theorem dX1_rules_140 : decode cX1_rules 140 = .ok (.iastore, 1) := by decide +kernel
theorem dX1_rules_141 : decode cX1_rules 141 = .ok (.aload_n 0, 1) := by decide +kernel
theorem dX1_rules_142 : decode cX1_rules 142 = .ok (.getfield 101, 3) := by decide +kernel
theorem dX1_rules_145 : decode cX1_rules 145 = .ok (.aload_n 0, 1) := by decide +kernel
theorem dX1_rules_146 : decode cX1_rules 146 = .ok (.getfield 441, 3) := by decide +kernel
theorem dX1_rules_149 : decode cX1_rules 149 = .ok (.iload_n 2, 1) := by decide +kernel
theorem dX1_rules_150 : decode cX1_rules 150 = .ok (.iastore, 1) := by decide +kernel
theorem dX1_rules_151 : decode cX1_rules 151 = .ok (.aload_n 0, 1) := by decide +kernel
theorem dX1_rules_152 : decode cX1_rules 152 = .ok (.getfield 104, 3) := by decide +kernel
theorem dX1_rules_155 : decode cX1_rules 155 = .ok (.aload_n 0, 1) := by decide +kernel
theorem dX1_rules_156 : decode cX1_rules 156 = .ok (.getfield 441, 3) := by decide +kernel
theorem dX1_rules_159 : decode cX1_rules 159 = .ok (.aload_n 0, 1) := by decide +kernel
theorem dX1_rules_160 : decode cX1_rules 160 = .ok (.getfield 429, 3) := by decide +kernel
theorem dX1_rules_163 : decode cX1_rules 163 = .ok (.iastore, 1) := by decide +kernel
theorem dX1_rules_164 : decode cX1_rules 164 = .ok (.iconst 0, 1) := by decide +kernel
theorem dX1_rules_165 : decode cX1_rules 165 = .ok (.istore 5, 2) := by decide +kernel
theorem dX1_rules_167 : decode cX1_rules 167 = .ok (.iload 5, 2) := by decide +kernel
theorem dX1_rules_169 : decode cX1_rules 169 = .ok (.aload_n 0, 1) := by decide +kernel
theorem dX1_rules_170 : decode cX1_rules 170 = .ok (.getfield 371, 3) := by decide +kernel
theorem dX1_rules_173 : decode cX1_rules 173 = .ok (.if_icmp .ge 32, 3) := by decide +kernel
theorem dX1_rules_176 : decode cX1_rules 176 = .ok (.aload_n 0, 1) := by decide +kernel
theorem dX1_rules_177 : decode cX1_rules 177 = .ok (.getfield 95, 3) := by decide +kernel
theorem dX1_rules_180 : decode cX1_rules 180 = .ok (.sipush 180, 3) := by decide +kernel
theorem dX1_rules_183 : decode cX1_rules 183 = .ok (.aload_n 0, 1) := by decide +kernel
theorem dX1_rules_184 : decode cX1_rules 184 = .ok (.getfield 441, 3) := by decide +kernel
theorem dX1_rules_187 : decode cX1_rules 187 = .ok (.imul, 1) := by decide +kernel
theorem dX1_rules_188 : decode cX1_rules 188 = .ok (.iload 5, 2) := by decide +kernel
theorem dX1_rules_190 : decode cX1_rules 190 = .ok (.iadd, 1) := by decide +kernel
theorem dX1_rules_191 : decode cX1_rules 191 = .ok (.aload_n 0, 1) := by decide +kernel
theorem dX1_rules_192 : decode cX1_rules 192 = .ok (.getfield 74, 3) := by decide +kernel
theorem dX1_rules_195 : decode cX1_rules 195 = .ok (.iload 5, 2) := by decide +kernel
theorem dX1_rules_197 : decode cX1_rules 197 = .ok (.iaload, 1) := by decide +kernel
theorem dX1_rules_198 : decode cX1_rules 198 = .ok (.iastore, 1) := by decide +kernel
theorem dX1_rules_199 : decode cX1_rules 199 = .ok (.iinc 5 1, 3) := by decide +kernel
theorem dX1_rules_202 : decode cX1_rules 202 = .ok (.goto (-35), 3) := by decide +kernel
theorem dX1_rules_205 : decode cX1_rules 205 = .ok (.iconst 0, 1) := by decide +kernel
theorem dX1_rules_206 : decode cX1_rules 206 = .ok (.istore 5, 2) := by decide +kernel
theorem dX1_rules_208 : decode cX1_rules 208 = .ok (.iload 5, 2) := by decide +kernel
theorem dX1_rules_210 : decode cX1_rules 210 = .ok (.aload_n 0, 1) := by decide +kernel
theorem dX1_rules_211 : decode cX1_rules 211 = .ok (.getfield 429, 3) := by decide +kernel
theorem dX1_rules_214 : decode cX1_rules 214 = .ok (.if_icmp .ge 109, 3) := by decide +kernel
theorem dX1_rules_217 : decode cX1_rules 217 = .ok (.bipush 10, 2) := by decide +kernel
theorem dX1_rules_219 : decode cX1_rules 219 = .ok (.aload_n 0, 1) := by decide +kernel
theorem dX1_rules_220 : decode cX1_rules 220 = .ok (.getfield 441, 3) := by decide +kernel
theorem dX1_rules_223 : decode cX1_rules 223 = .ok (.imul, 1) := by decide +kernel
theorem dX1_rules_224 : decode cX1_rules 224 = .ok (.iload 5, 2) := by decide +kernel
theorem dX1_rules_226 : decode cX1_rules 226 = .ok (.iadd, 1) := by decide +kernel
theorem dX1_rules_227 : decode cX1_rules 227 = .ok (.istore 6, 2) := by decide +kernel
theorem dX1_rules_229 : decode cX1_rules 229 = .ok (.aload_n 0, 1) := by decide +kernel
theorem dX1_rules_230 : decode cX1_rules 230 = .ok (.getfield 107, 3) := by decide +kernel
theorem dX1_rules_233 : decode cX1_rules 233 = .ok (.iload 6, 2) := by decide +kernel
theorem dX1_rules_235 : decode cX1_rules 235 = .ok (.aload_n 0, 1) := by decide +kernel
theorem dX1_rules_236 : decode cX1_rules 236 = .ok (.getfield 80, 3) := by decide +kernel
theorem dX1_rules_239 : decode cX1_rules 239 = .ok (.iload 5, 2) := by decide +kernel
theorem dX1_rules_241 : decode cX1_rules 241 = .ok (.iaload, 1) := by decide +kernel
theorem dX1_rules_242 : decode cX1_rules 242 = .ok (.iastore, 1) := by decide +kernel
theorem dX1_rules_243 : decode cX1_rules 243 = .ok (.aload_n 0, 1) := by decide +kernel
theorem dX1_rules_244 : decode cX1_rules 244 = .ok (.getfield 116, 3) := by decide +kernel
theorem dX1_rules_247 : decode cX1_rules 247 = .ok (.iload 6, 2) := by decide +kernel
theorem dX1_rules_249 : decode cX1_rules 249 = .ok (.aload_n 0, 1) := by decide +kernel
theorem dX1_rules_250 : decode cX1_rules 250 = .ok (.getfield 89, 3) := by decide +kernel
theorem dX1_rules_253 : decode cX1_rules 253 = .ok (.iload 5, 2) := by decide +kernel
theorem dX1_rules_255 : decode cX1_rules 255 = .ok (.iaload, 1) := by decide +kernel
theorem dX1_rules_256 : decode cX1_rules 256 = .ok (.iastore, 1) := by decide +kernel
theorem dX1_rules_257 : decode cX1_rules 257 = .ok (.aload_n 0, 1) := by decide +kernel
theorem dX1_rules_258 : decode cX1_rules 258 = .ok (.getfield 119, 3) := by decide +kernel
theorem dX1_rules_261 : decode cX1_rules 261 = .ok (.iload 6, 2) := by decide +kernel
theorem dX1_rules_263 : decode cX1_rules 263 = .ok (.aload_n 0, 1) := by decide +kernel
theorem dX1_rules_264 : decode cX1_rules 264 = .ok (.getfield 92, 3) := by decide +kernel
theorem dX1_rules_267 : decode cX1_rules 267 = .ok (.iload 5, 2) := by decide +kernel
theorem dX1_rules_269 : decode cX1_rules 269 = .ok (.iaload, 1) := by decide +kernel
theorem dX1_rules_270 : decode cX1_rules 270 = .ok (.iastore, 1) := by decide +kernel
theorem dX1_rules_271 : decode cX1_rules 271 = .ok (.aload_n 0, 1) := by decide +kernel
theorem dX1_rules_272 : decode cX1_rules 272 = .ok (.getfield 110, 3) := by decide +kernel
theorem dX1_rules_275 : decode cX1_rules 275 = .ok (.iload 6, 2) := by decide +kernel
theorem dX1_rules_277 : decode cX1_rules 277 = .ok (.sipush 180, 3) := by decide +kernel
theorem dX1_rules_280 : decode cX1_rules 280 = .ok (.aload_n 0, 1) := by decide +kernel
theorem dX1_rules_281 : decode cX1_rules 281 = .ok (.getfield 441, 3) := by decide +kernel
theorem dX1_rules_284 : decode cX1_rules 284 = .ok (.imul, 1) := by decide +kernel
theorem dX1_rules_285 : decode cX1_rules 285 = .ok (.aload_n 0, 1) := by decide +kernel
theorem dX1_rules_286 : decode cX1_rules 286 = .ok (.getfield 83, 3) := by decide +kernel
theorem dX1_rules_289 : decode cX1_rules 289 = .ok (.iload 5, 2) := by decide +kernel
theorem dX1_rules_291 : decode cX1_rules 291 = .ok (.iaload, 1) := by decide +kernel
theorem dX1_rules_292 : decode cX1_rules 292 = .ok (.iadd, 1) := by decide +kernel
theorem dX1_rules_293 : decode cX1_rules 293 = .ok (.iastore, 1) := by decide +kernel
theorem dX1_rules_294 : decode cX1_rules 294 = .ok (.aload_n 0, 1) := by decide +kernel
theorem dX1_rules_295 : decode cX1_rules 295 = .ok (.getfield 113, 3) := by decide +kernel
theorem dX1_rules_298 : decode cX1_rules 298 = .ok (.iload 6, 2) := by decide +kernel
theorem dX1_rules_300 : decode cX1_rules 300 = .ok (.sipush 180, 3) := by decide +kernel
theorem dX1_rules_303 : decode cX1_rules 303 = .ok (.aload_n 0, 1) := by decide +kernel
theorem dX1_rules_304 : decode cX1_rules 304 = .ok (.getfield 441, 3) := by decide +kernel
theorem dX1_rules_307 : decode cX1_rules 307 = .ok (.imul, 1) := by decide +kernel
theorem dX1_rules_308 : decode cX1_rules 308 = .ok (.aload_n 0, 1) := by decide +kernel
theorem dX1_rules_309 : decode cX1_rules 309 = .ok (.getfield 86, 3) := by decide +kernel
theorem dX1_rules_312 : decode cX1_rules 312 = .ok (.iload 5, 2) := by decide +kernel
theorem dX1_rules_314 : decode cX1_rules 314 = .ok (.iaload, 1) := by decide +kernel
theorem dX1_rules_315 : decode cX1_rules 315 = .ok (.iadd, 1) := by decide +kernel
theorem dX1_rules_316 : decode cX1_rules 316 = .ok (.iastore, 1) := by decide +kernel
theorem dX1_rules_317 : decode cX1_rules 317 = .ok (.iinc 5 1, 3) := by decide +kernel
theorem dX1_rules_320 : decode cX1_rules 320 = .ok (.goto (-112), 3) := by decide +kernel
theorem dX1_rules_323 : decode cX1_rules 323 = .ok (.aload_n 0, 1) := by decide +kernel
theorem dX1_rules_324 : decode cX1_rules 324 = .ok (.aload_n 0, 1) := by decide +kernel
theorem dX1_rules_325 : decode cX1_rules 325 = .ok (.getfield 441, 3) := by decide +kernel
theorem dX1_rules_328 : decode cX1_rules 328 = .ok (.iconst 1, 1) := by decide +kernel
theorem dX1_rules_329 : decode cX1_rules 329 = .ok (.iadd, 1) := by decide +kernel
theorem dX1_rules_330 : decode cX1_rules 330 = .ok (.putfield 441, 3) := by decide +kernel
theorem dX1_rules_333 : decode cX1_rules 333 = .ok (.aload_n 0, 1) := by decide +kernel
theorem dX1_rules_334 : decode cX1_rules 334 = .ok (.getfield 441, 3) := by decide +kernel
theorem dX1_rules_337 : decode cX1_rules 337 = .ok (.iconst 1, 1) := by decide +kernel
theorem dX1_rules_338 : decode cX1_rules 338 = .ok (.isub, 1) := by decide +kernel
theorem dX1_rules_339 : decode cX1_rules 339 = .ok (.ireturn, 1) := by decide +kernel
section
variable {res : Int32 × MS}
noncomputable def m_rules_B74 (F : Nat) (K116 : Int32 × MS → Option (Int32 × MS)) (x1 x2 : Int32) (R : Int32 × MS → Option (Int32 × MS)) (a : Int32 × MS) : Option (Int32 × MS) :=
  if a.1 = 0 then (K116 (a.1, a.2)) else (if (a.2.1 30) ≤ (a.2.1 29) then (K116 (a.1, a.2)) else ((m_takes F 59 a.2).bind (fun r1 => if r1.1 = 0 then (R (0, r1.2)) else ((m_readsClause F r1.2).bind (fun r2 => if r2.1 = 0 then (R (0, r2.2)) else (R (1, r2.2)))))))
theorem km_rules_B74 (M : MC γ cX1_rules 7 G o 9 (some .int) (mQi G o res)) (x1 x2 : Int32) (K116 : Int32 × MS → Option (Int32 × MS)) (hK116 : ∀ a, K116 a = some res → J γ (MW G o a.2) 0 0 116 [(0, .ref o), (1, .int x1), (2, .int x2), (4, .int a.1)] []) : ∀ R : Int32 × MS → Option (Int32 × MS), (∀ a, R a = some res → J γ (MW G o a.2) 0 0 74 [(0, .ref o), (1, .int x1), (2, .int x2), (4, .int a.1)] []) → ∀ a, m_rules_B74 F K116 x1 x2 R a = some res → J γ (MW G o a.2) 0 0 74 [(0, .ref o), (1, .int x1), (2, .int x2), (4, .int a.1)] [] := by
  intro R hR a hf
  unfold m_rules_B74 at hf
  refine j_iload (pc := 74) M.1 dX1_rules_74 3 rfl ?_
  refine j_if_eq (pc := 76) M.1 116 dX1_rules_76 rfl (fun c1 => ?_) (fun c1 => ?_)
  · replace hf := o_pos c1 hf
    have hy := hK116 _ hf
    exact hy
  · replace hf := o_neg c1 hf
    refine j_aload_n (pc := 79) M.1 dX1_rules_79 0 rfl ?_
    refine jm_getS (pc := 80) M fm_348 dX1_rules_80 ?_
    refine j_aload_n (pc := 83) M.1 dX1_rules_83 0 rfl ?_
    refine jm_getS (pc := 84) M fm_351 dX1_rules_84 ?_
    refine j_icmp_ge (pc := 87) M.1 116 dX1_rules_87 rfl (fun c2 => ?_) (fun c2 => ?_)
    · replace hf := o_pos c2 hf
      have hy := hK116 _ hf
      exact hy
    · replace hf := o_neg c2 hf
      refine j_aload_n (pc := 90) M.1 dX1_rules_90 0 rfl ?_
      refine j_bipush (pc := 91) M.1 dX1_rules_91 kc_bipush_59 ?_
      obtain ⟨r1, g1, hf⟩ := o_bind hf
      refine jm_calli (pc := 93) (As := [.int 59]) (rest := []) M cm_435 (met_takes g1) rfl rfl rfl rfl dX1_rules_93 ?_
      refine j_if_eq (pc := 96) M.1 110 dX1_rules_96 rfl (fun c3 => ?_) (fun c3 => ?_)
      · replace hf := o_pos c3 hf
        refine j_iconst (pc := 110) M.1 dX1_rules_110 kc_iconst_0 ?_
        refine j_istore (pc := 111) M.1 [(4, .int 0), (0, .ref o), (1, .int x1), (2, .int x2)] dX1_rules_111 rfl rfl ?_
        refine j_goto (pc := 113) M.1 74 dX1_rules_113 rfl ?_
        refine j_sub [1, 2, 3, 0] (show lv_pick _ _ = [(0, .ref o), (1, .int x1), (2, .int x2), (4, .int 0)] from rfl) ?_
        have hy := hR _ hf
        exact hy
      · replace hf := o_neg c3 hf
        refine j_aload_n (pc := 99) M.1 dX1_rules_99 0 rfl ?_
        obtain ⟨r2, g2, hf⟩ := o_bind hf
        refine jm_calli (pc := 100) (As := []) (rest := []) M cm_444 (met_readsClause g2) rfl rfl rfl rfl dX1_rules_100 ?_
        refine j_if_eq (pc := 103) M.1 110 dX1_rules_103 rfl (fun c4 => ?_) (fun c4 => ?_)
        · replace hf := o_pos c4 hf
          refine j_iconst (pc := 110) M.1 dX1_rules_110 kc_iconst_0 ?_
          refine j_istore (pc := 111) M.1 [(4, .int 0), (0, .ref o), (1, .int x1), (2, .int x2)] dX1_rules_111 rfl rfl ?_
          refine j_goto (pc := 113) M.1 74 dX1_rules_113 rfl ?_
          refine j_sub [1, 2, 3, 0] (show lv_pick _ _ = [(0, .ref o), (1, .int x1), (2, .int x2), (4, .int 0)] from rfl) ?_
          have hy := hR _ hf
          exact hy
        · replace hf := o_neg c4 hf
          refine j_iconst (pc := 106) M.1 dX1_rules_106 kc_iconst_1 ?_
          refine j_goto (pc := 107) M.1 111 dX1_rules_107 rfl ?_
          refine j_istore (pc := 111) M.1 [(4, .int 1), (0, .ref o), (1, .int x1), (2, .int x2)] dX1_rules_111 rfl rfl ?_
          refine j_goto (pc := 113) M.1 74 dX1_rules_113 rfl ?_
          refine j_sub [1, 2, 3, 0] (show lv_pick _ _ = [(0, .ref o), (1, .int x1), (2, .int x2), (4, .int 1)] from rfl) ?_
          have hy := hR _ hf
          exact hy
noncomputable def m_rules_B167 (F : Nat) (K205 : Int32 × MS → Option (Int32 × MS)) (R : Int32 × MS → Option (Int32 × MS)) (a : Int32 × MS) : Option (Int32 × MS) :=
  if (a.2.1 34) ≤ a.1 then (K205 (a.1, a.2)) else (if okI a.1 180 = true then if okI ((180 * (a.2.1 44)) + a.1) 3600 = true then nx (sA a.2 28 ((180 * (a.2.1 44)) + a.1).toNatClampNeg (a.2.2 21 a.1.toNatClampNeg)) (fun σ1 => R (a.1 + 1, σ1)) else none else none)
theorem km_rules_B167 (M : MC γ cX1_rules 7 G o 9 (some .int) (mQi G o res)) (K205 : Int32 × MS → Option (Int32 × MS)) (hK205 : ∀ a, K205 a = some res → J γ (MW G o a.2) 0 0 205 [(0, .ref o)] []) : ∀ R : Int32 × MS → Option (Int32 × MS), (∀ a, R a = some res → J γ (MW G o a.2) 0 0 167 [(0, .ref o), (5, .int a.1)] []) → ∀ a, m_rules_B167 F K205 R a = some res → J γ (MW G o a.2) 0 0 167 [(0, .ref o), (5, .int a.1)] [] := by
  intro R hR a hf
  unfold m_rules_B167 at hf
  refine j_iload (pc := 167) M.1 dX1_rules_167 1 rfl ?_
  refine j_aload_n (pc := 169) M.1 dX1_rules_169 0 rfl ?_
  refine jm_getS (pc := 170) M fm_371 dX1_rules_170 ?_
  refine j_icmp_ge (pc := 173) M.1 205 dX1_rules_173 rfl (fun c1 => ?_) (fun c1 => ?_)
  · replace hf := o_pos c1 hf
    refine j_sub [0] (show lv_pick _ _ = [(0, .ref o)] from rfl) ?_
    have hy := hK205 _ hf
    exact hy
  · replace hf := o_neg c1 hf
    refine j_aload_n (pc := 176) M.1 dX1_rules_176 0 rfl ?_
    refine jm_getA (pc := 177) M fa_95 dX1_rules_177 ?_
    refine j_sipush (pc := 180) M.1 dX1_rules_180 kc_sipush_180 ?_
    refine j_aload_n (pc := 183) M.1 dX1_rules_183 0 rfl ?_
    refine jm_getS (pc := 184) M fm_441 dX1_rules_184 ?_
    refine j_imul (pc := 187) M.1 dX1_rules_187 ?_
    refine j_iload (pc := 188) M.1 dX1_rules_188 1 rfl ?_
    refine j_iadd (pc := 190) M.1 dX1_rules_190 ?_
    refine j_aload_n (pc := 191) M.1 dX1_rules_191 0 rfl ?_
    refine jm_getA (pc := 192) M fa_74 dX1_rules_192 ?_
    refine j_iload (pc := 195) M.1 dX1_rules_195 1 rfl ?_
    obtain ⟨b1, hf⟩ := o_need hf
    refine jm_iald (pc := 197) M ax_21 b1 dX1_rules_197 ?_
    obtain ⟨b2, hf⟩ := o_need hf
    obtain ⟨σ1, e1, hf⟩ := o_nx hf
    refine jm_iast (pc := 198) M ax_28 b2 dX1_rules_198 e1 ?_
    refine j_iinc (pc := 199) M.1 [(5, .int (a.1 + 1)), (0, .ref o)] dX1_rules_199 1 rfl (congrArg _ kc_iconst_1) rfl rfl ?_
    refine j_goto (pc := 202) M.1 167 dX1_rules_202 rfl ?_
    refine j_sub [1, 0] (show lv_pick _ _ = [(0, .ref o), (5, .int (a.1 + 1))] from rfl) ?_
    have hy := hR _ hf
    exact hy
noncomputable def m_rules_B208 (F : Nat) (K323 : Int32 × MS → Option (Int32 × MS)) (R : Int32 × MS → Option (Int32 × MS)) (a : Int32 × MS) : Option (Int32 × MS) :=
  if (a.2.1 36) ≤ a.1 then (K323 (a.1, a.2)) else (nx ((10 * (a.2.1 44)) + a.1 : Int32) (fun y1 => if okI a.1 10 = true then if okI y1 200 = true then nx (sA a.2 32 y1.toNatClampNeg (a.2.2 23 a.1.toNatClampNeg)) (fun σ1 => if okI a.1 10 = true then if okI y1 200 = true then nx (sA σ1 35 y1.toNatClampNeg (σ1.2 26 a.1.toNatClampNeg)) (fun σ2 => if okI a.1 10 = true then if okI y1 200 = true then nx (sA σ2 36 y1.toNatClampNeg (σ2.2 27 a.1.toNatClampNeg)) (fun σ3 => if okI a.1 10 = true then if okI y1 200 = true then nx (sA σ3 33 y1.toNatClampNeg ((180 * (σ3.1 44)) + (σ3.2 24 a.1.toNatClampNeg))) (fun σ4 => if okI a.1 10 = true then if okI y1 200 = true then nx (sA σ4 34 y1.toNatClampNeg ((180 * (σ4.1 44)) + (σ4.2 25 a.1.toNatClampNeg))) (fun σ5 => R (a.1 + 1, σ5)) else none else none) else none else none) else none else none) else none else none) else none else none))
theorem km_rules_B208 (M : MC γ cX1_rules 7 G o 9 (some .int) (mQi G o res)) (K323 : Int32 × MS → Option (Int32 × MS)) (hK323 : ∀ a, K323 a = some res → J γ (MW G o a.2) 0 0 323 [(0, .ref o)] []) : ∀ R : Int32 × MS → Option (Int32 × MS), (∀ a, R a = some res → J γ (MW G o a.2) 0 0 208 [(0, .ref o), (5, .int a.1)] []) → ∀ a, m_rules_B208 F K323 R a = some res → J γ (MW G o a.2) 0 0 208 [(0, .ref o), (5, .int a.1)] [] := by
  intro R hR a hf
  unfold m_rules_B208 at hf
  refine j_iload (pc := 208) M.1 dX1_rules_208 1 rfl ?_
  refine j_aload_n (pc := 210) M.1 dX1_rules_210 0 rfl ?_
  refine jm_getS (pc := 211) M fm_429 dX1_rules_211 ?_
  refine j_icmp_ge (pc := 214) M.1 323 dX1_rules_214 rfl (fun c1 => ?_) (fun c1 => ?_)
  · replace hf := o_pos c1 hf
    refine j_sub [0] (show lv_pick _ _ = [(0, .ref o)] from rfl) ?_
    have hy := hK323 _ hf
    exact hy
  · replace hf := o_neg c1 hf
    refine j_bipush (pc := 217) M.1 dX1_rules_217 kc_bipush_10 ?_
    refine j_aload_n (pc := 219) M.1 dX1_rules_219 0 rfl ?_
    refine jm_getS (pc := 220) M fm_441 dX1_rules_220 ?_
    refine j_imul (pc := 223) M.1 dX1_rules_223 ?_
    refine j_iload (pc := 224) M.1 dX1_rules_224 1 rfl ?_
    refine j_iadd (pc := 226) M.1 dX1_rules_226 ?_
    obtain ⟨y1, e1, hf⟩ := o_nx hf
    refine j_top e1 ?_
    refine j_istore (pc := 227) M.1 [(6, .int y1), (0, .ref o), (5, .int a.1)] dX1_rules_227 rfl rfl ?_
    refine j_aload_n (pc := 229) M.1 dX1_rules_229 1 rfl ?_
    refine jm_getA (pc := 230) M fa_107 dX1_rules_230 ?_
    refine j_iload (pc := 233) M.1 dX1_rules_233 0 rfl ?_
    refine j_aload_n (pc := 235) M.1 dX1_rules_235 1 rfl ?_
    refine jm_getA (pc := 236) M fa_80 dX1_rules_236 ?_
    refine j_iload (pc := 239) M.1 dX1_rules_239 2 rfl ?_
    obtain ⟨b1, hf⟩ := o_need hf
    refine jm_iald (pc := 241) M ax_23 b1 dX1_rules_241 ?_
    obtain ⟨b2, hf⟩ := o_need hf
    obtain ⟨σ1, e2, hf⟩ := o_nx hf
    refine jm_iast (pc := 242) M ax_32 b2 dX1_rules_242 e2 ?_
    refine j_aload_n (pc := 243) M.1 dX1_rules_243 1 rfl ?_
    refine jm_getA (pc := 244) M fa_116 dX1_rules_244 ?_
    refine j_iload (pc := 247) M.1 dX1_rules_247 0 rfl ?_
    refine j_aload_n (pc := 249) M.1 dX1_rules_249 1 rfl ?_
    refine jm_getA (pc := 250) M fa_89 dX1_rules_250 ?_
    refine j_iload (pc := 253) M.1 dX1_rules_253 2 rfl ?_
    obtain ⟨b3, hf⟩ := o_need hf
    refine jm_iald (pc := 255) M ax_26 b3 dX1_rules_255 ?_
    obtain ⟨b4, hf⟩ := o_need hf
    obtain ⟨σ2, e3, hf⟩ := o_nx hf
    refine jm_iast (pc := 256) M ax_35 b4 dX1_rules_256 e3 ?_
    refine j_aload_n (pc := 257) M.1 dX1_rules_257 1 rfl ?_
    refine jm_getA (pc := 258) M fa_119 dX1_rules_258 ?_
    refine j_iload (pc := 261) M.1 dX1_rules_261 0 rfl ?_
    refine j_aload_n (pc := 263) M.1 dX1_rules_263 1 rfl ?_
    refine jm_getA (pc := 264) M fa_92 dX1_rules_264 ?_
    refine j_iload (pc := 267) M.1 dX1_rules_267 2 rfl ?_
    obtain ⟨b5, hf⟩ := o_need hf
    refine jm_iald (pc := 269) M ax_27 b5 dX1_rules_269 ?_
    obtain ⟨b6, hf⟩ := o_need hf
    obtain ⟨σ3, e4, hf⟩ := o_nx hf
    refine jm_iast (pc := 270) M ax_36 b6 dX1_rules_270 e4 ?_
    refine j_aload_n (pc := 271) M.1 dX1_rules_271 1 rfl ?_
    refine jm_getA (pc := 272) M fa_110 dX1_rules_272 ?_
    refine j_iload (pc := 275) M.1 dX1_rules_275 0 rfl ?_
    refine j_sipush (pc := 277) M.1 dX1_rules_277 kc_sipush_180 ?_
    refine j_aload_n (pc := 280) M.1 dX1_rules_280 1 rfl ?_
    refine jm_getS (pc := 281) M fm_441 dX1_rules_281 ?_
    refine j_imul (pc := 284) M.1 dX1_rules_284 ?_
    refine j_aload_n (pc := 285) M.1 dX1_rules_285 1 rfl ?_
    refine jm_getA (pc := 286) M fa_83 dX1_rules_286 ?_
    refine j_iload (pc := 289) M.1 dX1_rules_289 2 rfl ?_
    obtain ⟨b7, hf⟩ := o_need hf
    refine jm_iald (pc := 291) M ax_24 b7 dX1_rules_291 ?_
    refine j_iadd (pc := 292) M.1 dX1_rules_292 ?_
    obtain ⟨b8, hf⟩ := o_need hf
    obtain ⟨σ4, e5, hf⟩ := o_nx hf
    refine jm_iast (pc := 293) M ax_33 b8 dX1_rules_293 e5 ?_
    refine j_aload_n (pc := 294) M.1 dX1_rules_294 1 rfl ?_
    refine jm_getA (pc := 295) M fa_113 dX1_rules_295 ?_
    refine j_iload (pc := 298) M.1 dX1_rules_298 0 rfl ?_
    refine j_sipush (pc := 300) M.1 dX1_rules_300 kc_sipush_180 ?_
    refine j_aload_n (pc := 303) M.1 dX1_rules_303 1 rfl ?_
    refine jm_getS (pc := 304) M fm_441 dX1_rules_304 ?_
    refine j_imul (pc := 307) M.1 dX1_rules_307 ?_
    refine j_aload_n (pc := 308) M.1 dX1_rules_308 1 rfl ?_
    refine jm_getA (pc := 309) M fa_86 dX1_rules_309 ?_
    refine j_iload (pc := 312) M.1 dX1_rules_312 2 rfl ?_
    obtain ⟨b9, hf⟩ := o_need hf
    refine jm_iald (pc := 314) M ax_25 b9 dX1_rules_314 ?_
    refine j_iadd (pc := 315) M.1 dX1_rules_315 ?_
    obtain ⟨b10, hf⟩ := o_need hf
    obtain ⟨σ5, e6, hf⟩ := o_nx hf
    refine jm_iast (pc := 316) M ax_34 b10 dX1_rules_316 e6 ?_
    refine j_iinc (pc := 317) M.1 [(5, .int (a.1 + 1)), (6, .int y1), (0, .ref o)] dX1_rules_317 2 rfl (congrArg _ kc_iconst_1) rfl rfl ?_
    refine j_goto (pc := 320) M.1 208 dX1_rules_320 rfl ?_
    refine j_sub [2, 0] (show lv_pick _ _ = [(0, .ref o), (5, .int (a.1 + 1))] from rfl) ?_
    have hy := hR _ hf
    exact hy
noncomputable def m_rules_116 (F : Nat) (x1 x2 x4 : Int32) (σ : MS) : Option (Int32 × MS) :=
  nx (sS σ 28 0) (fun σ1 => if x4 = 0 then (some (σ1.1 31, σ1)) else (if okI (σ1.1 44) 20 = true then nx (sA σ1 29 (σ1.1 44).toNatClampNeg x1) (fun σ2 => if okI (σ2.1 44) 20 = true then nx (sA σ2 30 (σ2.1 44).toNatClampNeg x2) (fun σ3 => if okI (σ3.1 44) 20 = true then nx (sA σ3 31 (σ3.1 44).toNatClampNeg (σ3.1 36)) (fun σ4 => lp (m_rules_B167 F (fun a1 => lp (m_rules_B208 F (fun a2 => nx (sS a2.2 44 ((a2.2.1 44) + 1)) (fun σ5 => some ((σ5.1 44) - 1, σ5)))) F (0, a1.2))) F (0, σ4)) else none) else none) else none))
theorem km_rules_116 (M : MC γ cX1_rules 7 G o 9 (some .int) (mQi G o res)) (x1 x2 x4 : Int32) (σ : MS) (hf : m_rules_116 F x1 x2 x4 σ = some res) : J γ (MW G o σ) 0 0 116 [(0, .ref o), (1, .int x1), (2, .int x2), (4, .int x4)] [] := by
  unfold m_rules_116 at hf
  refine j_aload_n (pc := 116) M.1 dX1_rules_116 0 rfl ?_
  refine j_iconst (pc := 117) M.1 dX1_rules_117 kc_iconst_0 ?_
  obtain ⟨σ1, e1, hf⟩ := o_nx hf
  refine jm_put (pc := 118) M fm_341 dX1_rules_118 e1 ?_
  refine j_iload (pc := 121) M.1 dX1_rules_121 3 rfl ?_
  refine j_if_ne (pc := 123) M.1 131 dX1_rules_123 rfl (fun c1 => ?_) (fun c1 => ?_)
  · replace hf := o_neg c1 hf
    refine j_aload_n (pc := 131) M.1 dX1_rules_131 0 rfl ?_
    refine jm_getA (pc := 132) M fa_98 dX1_rules_132 ?_
    refine j_aload_n (pc := 135) M.1 dX1_rules_135 0 rfl ?_
    refine jm_getS (pc := 136) M fm_441 dX1_rules_136 ?_
    refine j_iload_n (pc := 139) M.1 dX1_rules_139 1 rfl ?_
    obtain ⟨b1, hf⟩ := o_need hf
    obtain ⟨σ2, e2, hf⟩ := o_nx hf
    refine jm_iast (pc := 140) M ax_29 b1 dX1_rules_140 e2 ?_
    refine j_aload_n (pc := 141) M.1 dX1_rules_141 0 rfl ?_
    refine jm_getA (pc := 142) M fa_101 dX1_rules_142 ?_
    refine j_aload_n (pc := 145) M.1 dX1_rules_145 0 rfl ?_
    refine jm_getS (pc := 146) M fm_441 dX1_rules_146 ?_
    refine j_iload_n (pc := 149) M.1 dX1_rules_149 2 rfl ?_
    obtain ⟨b2, hf⟩ := o_need hf
    obtain ⟨σ3, e3, hf⟩ := o_nx hf
    refine jm_iast (pc := 150) M ax_30 b2 dX1_rules_150 e3 ?_
    refine j_aload_n (pc := 151) M.1 dX1_rules_151 0 rfl ?_
    refine jm_getA (pc := 152) M fa_104 dX1_rules_152 ?_
    refine j_aload_n (pc := 155) M.1 dX1_rules_155 0 rfl ?_
    refine jm_getS (pc := 156) M fm_441 dX1_rules_156 ?_
    refine j_aload_n (pc := 159) M.1 dX1_rules_159 0 rfl ?_
    refine jm_getS (pc := 160) M fm_429 dX1_rules_160 ?_
    obtain ⟨b3, hf⟩ := o_need hf
    obtain ⟨σ4, e4, hf⟩ := o_nx hf
    refine jm_iast (pc := 163) M ax_31 b3 dX1_rules_163 e4 ?_
    refine j_iconst (pc := 164) M.1 dX1_rules_164 kc_iconst_0 ?_
    refine j_istore (pc := 165) M.1 [(5, .int 0), (0, .ref o), (1, .int x1), (2, .int x2), (4, .int x4)] dX1_rules_165 rfl rfl ?_
    refine j_sub [1, 0] (show lv_pick _ _ = [(0, .ref o), (5, .int 0)] from rfl) ?_
    refine lp_W (km_rules_B167 M _ ?_) F (0, σ4) hf
    · intro a1 hf
      refine j_iconst (pc := 205) M.1 dX1_rules_205 kc_iconst_0 ?_
      refine j_istore (pc := 206) M.1 [(5, .int 0), (0, .ref o)] dX1_rules_206 rfl rfl ?_
      refine j_sub [1, 0] (show lv_pick _ _ = [(0, .ref o), (5, .int 0)] from rfl) ?_
      refine lp_W (km_rules_B208 M _ ?_) F (0, a1.2) hf
      · intro a2 hf
        refine j_aload_n (pc := 323) M.1 dX1_rules_323 0 rfl ?_
        refine j_aload_n (pc := 324) M.1 dX1_rules_324 0 rfl ?_
        refine jm_getS (pc := 325) M fm_441 dX1_rules_325 ?_
        refine j_iconst (pc := 328) M.1 dX1_rules_328 kc_iconst_1 ?_
        refine j_iadd (pc := 329) M.1 dX1_rules_329 ?_
        obtain ⟨σ5, e5, hf⟩ := o_nx hf
        refine jm_put (pc := 330) M fm_441 dX1_rules_330 e5 ?_
        refine j_aload_n (pc := 333) M.1 dX1_rules_333 0 rfl ?_
        refine jm_getS (pc := 334) M fm_441 dX1_rules_334 ?_
        refine j_iconst (pc := 337) M.1 dX1_rules_337 kc_iconst_1 ?_
        refine j_isub (pc := 338) M.1 dX1_rules_338 ?_
        exact jm_iret (pc := 339) M dX1_rules_339 hf
  · replace hf := o_pos c1 hf
    refine j_aload_n (pc := 126) M.1 dX1_rules_126 0 rfl ?_
    refine jm_getS (pc := 127) M fm_358 dX1_rules_127 ?_
    exact jm_iret (pc := 130) M dX1_rules_130 hf
noncomputable def m_rules (F : Nat) (x1 x2 x3 : Int32) (σ : MS) : Option (Int32 × MS) :=
  (m_isWeek F x1).bind (fun r1 => if r1 = 0 then (some ((-1), σ)) else ((m_in F x2 x1 9999).bind (fun r2 => if r2 = 0 then (some ((-1), σ)) else ((m_in F x3 1 160).bind (fun r3 => if r3 = 0 then (some ((-1), σ)) else (if (σ.1 28) < x3 then (some ((-1), σ)) else (if (σ.1 44) = 20 then (some ((-1), σ)) else (nx (sS σ 29 0) (fun σ1 => nx (sS σ1 30 x3) (fun σ2 => nx (sS σ2 34 0) (fun σ3 => nx (sS σ3 36 0) (fun σ4 => (m_readsClause F σ4).bind (fun r4 => lp (m_rules_B74 F (fun a1 => m_rules_116 F x1 x2 a1.1 a1.2) x1 x2) F (r4.1, r4.2))))))))))))))
theorem met_rules {l : Launch} {G : gG} {o F : Nat} {x1 x2 x3 : Int32} {σ : MS} {res : Int32 × MS} (hf : m_rules F x1 x2 x3 σ = some res) : MetMi l G yX1_rules cX1_rules 7 (some .int) 9 o [.int x1, .int x2, .int x3] σ res := by
  refine metMi_of (by decide) rfl rfl (fun γ hγ M => ?_)
  subst hγ
  show J γ (MW G o σ) 0 0 0 [(0, .ref o), (1, .int x1), (2, .int x2), (3, .int x3)] []
  unfold m_rules at hf
  refine j_iload_n (pc := 0) M.1 dX1_rules_0 1 rfl ?_
  obtain ⟨r1, g1, hf⟩ := o_bind hf
  refine jm_calls (pc := 1) (As := [.int x1]) (rest := []) M cs_X1_320 (met_isWeek g1) rfl rfl rfl rfl dX1_rules_1 ?_
  refine j_if_eq (pc := 4) M.1 46 dX1_rules_4 rfl (fun c1 => ?_) (fun c1 => ?_)
  · replace hf := o_pos c1 hf
    refine j_iconst (pc := 46) M.1 dX1_rules_46 kc_iconst_m1 ?_
    exact jm_iret (pc := 47) M dX1_rules_47 hf
  · replace hf := o_neg c1 hf
    refine j_iload_n (pc := 7) M.1 dX1_rules_7 2 rfl ?_
    refine j_iload_n (pc := 8) M.1 dX1_rules_8 1 rfl ?_
    refine j_sipush (pc := 9) M.1 dX1_rules_9 kc_sipush_9999 ?_
    obtain ⟨r2, g2, hf⟩ := o_bind hf
    refine jm_calls (pc := 12) (As := [.int x2, .int x1, .int 9999]) (rest := []) M cs_X1_278 (met_in g2) rfl rfl rfl rfl dX1_rules_12 ?_
    refine j_if_eq (pc := 15) M.1 46 dX1_rules_15 rfl (fun c2 => ?_) (fun c2 => ?_)
    · replace hf := o_pos c2 hf
      refine j_iconst (pc := 46) M.1 dX1_rules_46 kc_iconst_m1 ?_
      exact jm_iret (pc := 47) M dX1_rules_47 hf
    · replace hf := o_neg c2 hf
      refine j_iload_n (pc := 18) M.1 dX1_rules_18 3 rfl ?_
      refine j_iconst (pc := 19) M.1 dX1_rules_19 kc_iconst_1 ?_
      refine j_sipush (pc := 20) M.1 dX1_rules_20 kc_sipush_160 ?_
      obtain ⟨r3, g3, hf⟩ := o_bind hf
      refine jm_calls (pc := 23) (As := [.int x3, .int 1, .int 160]) (rest := []) M cs_X1_278 (met_in g3) rfl rfl rfl rfl dX1_rules_23 ?_
      refine j_if_eq (pc := 26) M.1 46 dX1_rules_26 rfl (fun c3 => ?_) (fun c3 => ?_)
      · replace hf := o_pos c3 hf
        refine j_iconst (pc := 46) M.1 dX1_rules_46 kc_iconst_m1 ?_
        exact jm_iret (pc := 47) M dX1_rules_47 hf
      · replace hf := o_neg c3 hf
        refine j_iload_n (pc := 29) M.1 dX1_rules_29 3 rfl ?_
        refine j_aload_n (pc := 30) M.1 dX1_rules_30 0 rfl ?_
        refine jm_getS (pc := 31) M fm_341 dX1_rules_31 ?_
        refine j_icmp_gt (pc := 34) M.1 46 dX1_rules_34 rfl (fun c4 => ?_) (fun c4 => ?_)
        · replace hf := o_pos c4 hf
          refine j_iconst (pc := 46) M.1 dX1_rules_46 kc_iconst_m1 ?_
          exact jm_iret (pc := 47) M dX1_rules_47 hf
        · replace hf := o_neg c4 hf
          refine j_aload_n (pc := 37) M.1 dX1_rules_37 0 rfl ?_
          refine jm_getS (pc := 38) M fm_441 dX1_rules_38 ?_
          refine j_bipush (pc := 41) M.1 dX1_rules_41 kc_bipush_20 ?_
          refine j_icmp_ne (pc := 43) M.1 48 dX1_rules_43 rfl (fun c5 => ?_) (fun c5 => ?_)
          · replace hf := o_neg c5 hf
            refine j_aload_n (pc := 48) M.1 dX1_rules_48 0 rfl ?_
            refine j_iconst (pc := 49) M.1 dX1_rules_49 kc_iconst_0 ?_
            obtain ⟨σ1, e1, hf⟩ := o_nx hf
            refine jm_put (pc := 50) M fm_348 dX1_rules_50 e1 ?_
            refine j_aload_n (pc := 53) M.1 dX1_rules_53 0 rfl ?_
            refine j_iload_n (pc := 54) M.1 dX1_rules_54 3 rfl ?_
            obtain ⟨σ2, e2, hf⟩ := o_nx hf
            refine jm_put (pc := 55) M fm_351 dX1_rules_55 e2 ?_
            refine j_aload_n (pc := 58) M.1 dX1_rules_58 0 rfl ?_
            refine j_iconst (pc := 59) M.1 dX1_rules_59 kc_iconst_0 ?_
            obtain ⟨σ3, e3, hf⟩ := o_nx hf
            refine jm_put (pc := 60) M fm_371 dX1_rules_60 e3 ?_
            refine j_aload_n (pc := 63) M.1 dX1_rules_63 0 rfl ?_
            refine j_iconst (pc := 64) M.1 dX1_rules_64 kc_iconst_0 ?_
            obtain ⟨σ4, e4, hf⟩ := o_nx hf
            refine jm_put (pc := 65) M fm_429 dX1_rules_65 e4 ?_
            refine j_aload_n (pc := 68) M.1 dX1_rules_68 0 rfl ?_
            obtain ⟨r4, g4, hf⟩ := o_bind hf
            refine jm_calli (pc := 69) (As := []) (rest := []) M cm_444 (met_readsClause g4) rfl rfl rfl rfl dX1_rules_69 ?_
            refine j_istore (pc := 72) M.1 [(4, .int r4.1), (0, .ref o), (1, .int x1), (2, .int x2), (3, .int x3)] dX1_rules_72 rfl rfl ?_
            refine j_sub [1, 2, 3, 0] (show lv_pick _ _ = [(0, .ref o), (1, .int x1), (2, .int x2), (4, .int r4.1)] from rfl) ?_
            refine lp_W (km_rules_B74 M x1 x2 _ ?_) F (r4.1, r4.2) hf
            · intro a1 hf
              exact km_rules_116 M x1 x2 a1.1 a1.2 hf
          · replace hf := o_pos c5 hf
            refine j_iconst (pc := 46) M.1 dX1_rules_46 kc_iconst_m1 ?_
            exact jm_iret (pc := 47) M dX1_rules_47 hf
end
