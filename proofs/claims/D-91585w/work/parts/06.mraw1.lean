set_option maxRecDepth 100000
variable {γ : jG} {G : gG} {o F : Nat}
theorem dX1_agreeing_0 : decode cX1_agreeing 0 = .ok (.bipush 8, 2) := by decide +kernel
theorem dX1_agreeing_2 : decode cX1_agreeing 2 = .ok (.istore_n 3, 1) := by decide +kernel
theorem dX1_agreeing_3 : decode cX1_agreeing 3 = .ok (.iconst 0, 1) := by decide +kernel
theorem dX1_agreeing_4 : decode cX1_agreeing 4 = .ok (.istore 4, 2) := by decide +kernel
theorem dX1_agreeing_6 : decode cX1_agreeing 6 = .ok (.iload 4, 2) := by decide +kernel
theorem dX1_agreeing_8 : decode cX1_agreeing 8 = .ok (.bipush 8, 2) := by decide +kernel
theorem dX1_agreeing_10 : decode cX1_agreeing 10 = .ok (.if_icmp .ge 30, 3) := by decide +kernel
theorem dX1_agreeing_13 : decode cX1_agreeing 13 = .ok (.iload_n 3, 1) := by decide +kernel
theorem dX1_agreeing_14 : decode cX1_agreeing 14 = .ok (.aload_n 0, 1) := by decide +kernel
theorem dX1_agreeing_15 : decode cX1_agreeing 15 = .ok (.getfield 157, 3) := by decide +kernel
theorem dX1_agreeing_18 : decode cX1_agreeing 18 = .ok (.iload_n 1, 1) := by decide +kernel
theorem dX1_agreeing_19 : decode cX1_agreeing 19 = .ok (.iaload, 1) := by decide +kernel
theorem dX1_agreeing_20 : decode cX1_agreeing 20 = .ok (.aload_n 0, 1) := by decide +kernel
theorem dX1_agreeing_21 : decode cX1_agreeing 21 = .ok (.getfield 169, 3) := by decide +kernel
theorem dX1_agreeing_24 : decode cX1_agreeing 24 = .ok (.iload_n 2, 1) := by decide +kernel
theorem dX1_agreeing_25 : decode cX1_agreeing 25 = .ok (.iaload, 1) := by decide +kernel
theorem dX1_agreeing_26 : decode cX1_agreeing 26 = .ok (.ixor, 1) := by decide +kernel
theorem dX1_agreeing_27 : decode cX1_agreeing 27 = .ok (.iload 4, 2) := by decide +kernel
theorem dX1_agreeing_29 : decode cX1_agreeing 29 = .ok (.ishr, 1) := by decide +kernel
theorem dX1_agreeing_30 : decode cX1_agreeing 30 = .ok (.iconst 1, 1) := by decide +kernel
theorem dX1_agreeing_31 : decode cX1_agreeing 31 = .ok (.iand, 1) := by decide +kernel
theorem dX1_agreeing_32 : decode cX1_agreeing 32 = .ok (.isub, 1) := by decide +kernel
theorem dX1_agreeing_33 : decode cX1_agreeing 33 = .ok (.istore_n 3, 1) := by decide +kernel
theorem dX1_agreeing_34 : decode cX1_agreeing 34 = .ok (.iinc 4 1, 3) := by decide +kernel
theorem dX1_agreeing_37 : decode cX1_agreeing 37 = .ok (.goto (-31), 3) := by decide +kernel
theorem dX1_agreeing_40 : decode cX1_agreeing 40 = .ok (.iload_n 3, 1) := by decide +kernel
theorem dX1_agreeing_41 : decode cX1_agreeing 41 = .ok (.ireturn, 1) := by decide +kernel
section
variable {res : Int32 × MS}
noncomputable def m_agreeing_B6 (F : Nat) (x1 x2 : Int32) (R : Int32 × Int32 × MS → Option (Int32 × MS)) (a : Int32 × Int32 × MS) : Option (Int32 × MS) :=
  if 8 ≤ a.2.1 then (some (a.1, a.2.2)) else (if okI x1 150 = true then if okI x2 60 = true then nx (a.1 - ((((a.2.2.2 47 x1.toNatClampNeg) ^^^ (a.2.2.2 51 x2.toNatClampNeg)) >>> (a.2.1 &&& 31)) &&& 1) : Int32) (fun y1 => R (y1, a.2.1 + 1, a.2.2)) else none else none)
theorem km_agreeing_B6 (M : MC γ cX1_agreeing 5 G o 1 (some .int) (mQi G o res)) (x1 x2 : Int32) : ∀ R : Int32 × Int32 × MS → Option (Int32 × MS), (∀ a, R a = some res → J γ (MW G o a.2.2) 0 0 6 [(0, .ref o), (1, .int x1), (2, .int x2), (3, .int a.1), (4, .int a.2.1)] []) → ∀ a, m_agreeing_B6 F x1 x2 R a = some res → J γ (MW G o a.2.2) 0 0 6 [(0, .ref o), (1, .int x1), (2, .int x2), (3, .int a.1), (4, .int a.2.1)] [] := by
  intro R hR a hf
  unfold m_agreeing_B6 at hf
  refine j_iload (pc := 6) M.1 dX1_agreeing_6 4 rfl ?_
  refine j_bipush (pc := 8) M.1 dX1_agreeing_8 kc_bipush_8 ?_
  refine j_icmp_ge (pc := 10) M.1 40 dX1_agreeing_10 rfl (fun c1 => ?_) (fun c1 => ?_)
  · replace hf := o_pos c1 hf
    refine j_iload_n (pc := 40) M.1 dX1_agreeing_40 3 rfl ?_
    exact jm_iret (pc := 41) M dX1_agreeing_41 hf
  · replace hf := o_neg c1 hf
    refine j_iload_n (pc := 13) M.1 dX1_agreeing_13 3 rfl ?_
    refine j_aload_n (pc := 14) M.1 dX1_agreeing_14 0 rfl ?_
    refine jm_getA (pc := 15) M fa_157 dX1_agreeing_15 ?_
    refine j_iload_n (pc := 18) M.1 dX1_agreeing_18 1 rfl ?_
    obtain ⟨b1, hf⟩ := o_need hf
    refine jm_iald (pc := 19) M ax_47 b1 dX1_agreeing_19 ?_
    refine j_aload_n (pc := 20) M.1 dX1_agreeing_20 0 rfl ?_
    refine jm_getA (pc := 21) M fa_169 dX1_agreeing_21 ?_
    refine j_iload_n (pc := 24) M.1 dX1_agreeing_24 2 rfl ?_
    obtain ⟨b2, hf⟩ := o_need hf
    refine jm_iald (pc := 25) M ax_51 b2 dX1_agreeing_25 ?_
    refine j_ixor (pc := 26) M.1 dX1_agreeing_26 ?_
    refine j_iload (pc := 27) M.1 dX1_agreeing_27 4 rfl ?_
    refine j_ishr (pc := 29) M.1 dX1_agreeing_29 ?_
    refine j_iconst (pc := 30) M.1 dX1_agreeing_30 kc_iconst_1 ?_
    refine j_iand (pc := 31) M.1 dX1_agreeing_31 ?_
    refine j_isub (pc := 32) M.1 dX1_agreeing_32 ?_
    obtain ⟨y1, e1, hf⟩ := o_nx hf
    refine j_top e1 ?_
    refine j_istore_n (pc := 33) M.1 [(3, .int y1), (0, .ref o), (1, .int x1), (2, .int x2), (4, .int a.2.1)] dX1_agreeing_33 rfl rfl ?_
    refine j_iinc (pc := 34) M.1 [(4, .int (a.2.1 + 1)), (3, .int y1), (0, .ref o), (1, .int x1), (2, .int x2)] dX1_agreeing_34 4 rfl (congrArg _ kc_iconst_1) rfl rfl ?_
    refine j_goto (pc := 37) M.1 6 dX1_agreeing_37 rfl ?_
    refine j_sub [2, 3, 4, 1, 0] (show lv_pick _ _ = [(0, .ref o), (1, .int x1), (2, .int x2), (3, .int y1), (4, .int (a.2.1 + 1))] from rfl) ?_
    have hy := hR _ hf
    exact hy
noncomputable def m_agreeing (F : Nat) (x1 x2 : Int32) (σ : MS) : Option (Int32 × MS) :=
  lp (m_agreeing_B6 F x1 x2) F (8, 0, σ)
theorem met_agreeing {l : Launch} {G : gG} {o F : Nat} {x1 x2 : Int32} {σ : MS} {res : Int32 × MS} (hf : m_agreeing F x1 x2 σ = some res) : MetMi l G yX1_agreeing cX1_agreeing 5 (some .int) 1 o [.int x1, .int x2] σ res := by
  refine metMi_of (by decide) rfl rfl (fun γ hγ M => ?_)
  subst hγ
  show J γ (MW G o σ) 0 0 0 [(0, .ref o), (1, .int x1), (2, .int x2)] []
  unfold m_agreeing at hf
  refine j_bipush (pc := 0) M.1 dX1_agreeing_0 kc_bipush_8 ?_
  refine j_istore_n (pc := 2) M.1 [(3, .int 8), (0, .ref o), (1, .int x1), (2, .int x2)] dX1_agreeing_2 rfl rfl ?_
  refine j_iconst (pc := 3) M.1 dX1_agreeing_3 kc_iconst_0 ?_
  refine j_istore (pc := 4) M.1 [(4, .int 0), (3, .int 8), (0, .ref o), (1, .int x1), (2, .int x2)] dX1_agreeing_4 rfl rfl ?_
  refine j_sub [2, 3, 4, 1, 0] (show lv_pick _ _ = [(0, .ref o), (1, .int x1), (2, .int x2), (3, .int 8), (4, .int 0)] from rfl) ?_
  refine lp_W (km_agreeing_B6 M x1 x2) F (8, 0, σ) hf
end
theorem dX1_begins_0 : decode cX1_begins 0 = .ok (.aload_n 0, 1) := by decide +kernel
theorem dX1_begins_1 : decode cX1_begins 1 = .ok (.iload_n 1, 1) := by decide +kernel
theorem dX1_begins_2 : decode cX1_begins 2 = .ok (.putfield 272, 3) := by decide +kernel
theorem dX1_begins_5 : decode cX1_begins 5 = .ok (.aload_n 0, 1) := by decide +kernel
theorem dX1_begins_6 : decode cX1_begins 6 = .ok (.iload_n 2, 1) := by decide +kernel
theorem dX1_begins_7 : decode cX1_begins 7 = .ok (.putfield 275, 3) := by decide +kernel
theorem dX1_begins_10 : decode cX1_begins 10 = .ok (.iconst 0, 1) := by decide +kernel
theorem dX1_begins_11 : decode cX1_begins 11 = .ok (.istore_n 3, 1) := by decide +kernel
theorem dX1_begins_12 : decode cX1_begins 12 = .ok (.iload_n 3, 1) := by decide +kernel
theorem dX1_begins_13 : decode cX1_begins 13 = .ok (.bipush 100, 2) := by decide +kernel
theorem dX1_begins_15 : decode cX1_begins 15 = .ok (.if_icmp .ge 24, 3) := by decide +kernel
theorem dX1_begins_18 : decode cX1_begins 18 = .ok (.aload_n 0, 1) := by decide +kernel
theorem dX1_begins_19 : decode cX1_begins 19 = .ok (.getfield 7, 3) := by decide +kernel
theorem dX1_begins_22 : decode cX1_begins 22 = .ok (.iload_n 3, 1) := by decide +kernel
theorem dX1_begins_23 : decode cX1_begins 23 = .ok (.bipush 8, 2) := by decide +kernel
theorem dX1_begins_25 : decode cX1_begins 25 = .ok (.iastore, 1) := by decide +kernel
theorem dX1_begins_26 : decode cX1_begins 26 = .ok (.aload_n 0, 1) := by decide +kernel
theorem dX1_begins_27 : decode cX1_begins 27 = .ok (.getfield 13, 3) := by decide +kernel
theorem dX1_begins_30 : decode cX1_begins 30 = .ok (.iload_n 3, 1) := by decide +kernel
theorem dX1_begins_31 : decode cX1_begins 31 = .ok (.iconst (-1), 1) := by decide +kernel
theorem dX1_begins_32 : decode cX1_begins 32 = .ok (.iastore, 1) := by decide +kernel
theorem dX1_begins_33 : decode cX1_begins 33 = .ok (.iinc 3 1, 3) := by decide +kernel
theorem dX1_begins_36 : decode cX1_begins 36 = .ok (.goto (-24), 3) := by decide +kernel
theorem dX1_begins_39 : decode cX1_begins 39 = .ok (.return_, 1) := by decide +kernel
section
variable {res : Int32 × MS}
noncomputable def m_begins_B12 (F : Nat) (R : Int32 × MS → Option (Int32 × MS)) (a : Int32 × MS) : Option (Int32 × MS) :=
  if 100 ≤ a.1 then (some (0, a.2)) else (if okI a.1 100 = true then nx (sA a.2 0 a.1.toNatClampNeg 8) (fun σ1 => if okI a.1 100 = true then nx (sA σ1 1 a.1.toNatClampNeg ((-1))) (fun σ2 => R (a.1 + 1, σ2)) else none) else none)
theorem km_begins_B12 (M : MC γ cX1_begins 4 G o 1 none (mQv G o res)) : ∀ R : Int32 × MS → Option (Int32 × MS), (∀ a, R a = some res → J γ (MW G o a.2) 0 0 12 [(0, .ref o), (3, .int a.1)] []) → ∀ a, m_begins_B12 F R a = some res → J γ (MW G o a.2) 0 0 12 [(0, .ref o), (3, .int a.1)] [] := by
  intro R hR a hf
  unfold m_begins_B12 at hf
  refine j_iload_n (pc := 12) M.1 dX1_begins_12 1 rfl ?_
  refine j_bipush (pc := 13) M.1 dX1_begins_13 kc_bipush_100 ?_
  refine j_icmp_ge (pc := 15) M.1 39 dX1_begins_15 rfl (fun c1 => ?_) (fun c1 => ?_)
  · replace hf := o_pos c1 hf
    exact jm_vret (pc := 39) M dX1_begins_39 hf
  · replace hf := o_neg c1 hf
    refine j_aload_n (pc := 18) M.1 dX1_begins_18 0 rfl ?_
    refine jm_getA (pc := 19) M fa_7 dX1_begins_19 ?_
    refine j_iload_n (pc := 22) M.1 dX1_begins_22 1 rfl ?_
    refine j_bipush (pc := 23) M.1 dX1_begins_23 kc_bipush_8 ?_
    obtain ⟨b1, hf⟩ := o_need hf
    obtain ⟨σ1, e1, hf⟩ := o_nx hf
    refine jm_iast (pc := 25) M ax_0 b1 dX1_begins_25 e1 ?_
    refine j_aload_n (pc := 26) M.1 dX1_begins_26 0 rfl ?_
    refine jm_getA (pc := 27) M fa_13 dX1_begins_27 ?_
    refine j_iload_n (pc := 30) M.1 dX1_begins_30 1 rfl ?_
    refine j_iconst (pc := 31) M.1 dX1_begins_31 kc_iconst_m1 ?_
    obtain ⟨b2, hf⟩ := o_need hf
    obtain ⟨σ2, e2, hf⟩ := o_nx hf
    refine jm_iast (pc := 32) M ax_1 b2 dX1_begins_32 e2 ?_
    refine j_iinc (pc := 33) M.1 [(3, .int (a.1 + 1)), (0, .ref o)] dX1_begins_33 1 rfl (congrArg _ kc_iconst_1) rfl rfl ?_
    refine j_goto (pc := 36) M.1 12 dX1_begins_36 rfl ?_
    refine j_sub [1, 0] (show lv_pick _ _ = [(0, .ref o), (3, .int (a.1 + 1))] from rfl) ?_
    have hy := hR _ hf
    exact hy
noncomputable def m_begins (F : Nat) (x1 x2 : Int32) (σ : MS) : Option (Int32 × MS) :=
  nx (sS σ 0 x1) (fun σ1 => nx (sS σ1 1 x2) (fun σ2 => lp (m_begins_B12 F) F (0, σ2)))
theorem met_begins {l : Launch} {G : gG} {o F : Nat} {x1 x2 : Int32} {σ : MS} {res : Int32 × MS} (hf : m_begins F x1 x2 σ = some res) : MetMv l G yX1_begins cX1_begins 4 1 o [.int x1, .int x2] σ res := by
  refine metMv_of (by decide) rfl rfl (fun γ hγ M => ?_)
  subst hγ
  show J γ (MW G o σ) 0 0 0 [(0, .ref o), (1, .int x1), (2, .int x2)] []
  unfold m_begins at hf
  refine j_aload_n (pc := 0) M.1 dX1_begins_0 0 rfl ?_
  refine j_iload_n (pc := 1) M.1 dX1_begins_1 1 rfl ?_
  obtain ⟨σ1, e1, hf⟩ := o_nx hf
  refine jm_put (pc := 2) M fm_272 dX1_begins_2 e1 ?_
  refine j_aload_n (pc := 5) M.1 dX1_begins_5 0 rfl ?_
  refine j_iload_n (pc := 6) M.1 dX1_begins_6 2 rfl ?_
  obtain ⟨σ2, e2, hf⟩ := o_nx hf
  refine jm_put (pc := 7) M fm_275 dX1_begins_7 e2 ?_
  refine j_iconst (pc := 10) M.1 dX1_begins_10 kc_iconst_0 ?_
  refine j_istore_n (pc := 11) M.1 [(3, .int 0), (0, .ref o), (1, .int x1), (2, .int x2)] dX1_begins_11 rfl rfl ?_
  refine j_sub [1, 0] (show lv_pick _ _ = [(0, .ref o), (3, .int 0)] from rfl) ?_
  refine lp_W (km_begins_B12 M) F (0, σ2) hf
end
theorem dX1_bestFrom_0 : decode cX1_bestFrom 0 = .ok (.iconst 1, 1) := by decide +kernel
theorem dX1_bestFrom_1 : decode cX1_bestFrom 1 = .ok (.iload_n 2, 1) := by decide +kernel
theorem dX1_bestFrom_2 : decode cX1_bestFrom 2 = .ok (.iload_n 1, 1) := by decide +kernel
theorem dX1_bestFrom_3 : decode cX1_bestFrom 3 = .ok (.isub, 1) := by decide +kernel
theorem dX1_bestFrom_4 : decode cX1_bestFrom 4 = .ok (.ishl, 1) := by decide +kernel
theorem dX1_bestFrom_5 : decode cX1_bestFrom 5 = .ok (.istore_n 3, 1) := by decide +kernel
theorem dX1_bestFrom_6 : decode cX1_bestFrom 6 = .ok (.iconst 0, 1) := by decide +kernel
theorem dX1_bestFrom_7 : decode cX1_bestFrom 7 = .ok (.istore 4, 2) := by decide +kernel
theorem dX1_bestFrom_9 : decode cX1_bestFrom 9 = .ok (.iload 4, 2) := by decide +kernel
theorem dX1_bestFrom_11 : decode cX1_bestFrom 11 = .ok (.iload_n 3, 1) := by decide +kernel
theorem dX1_bestFrom_12 : decode cX1_bestFrom 12 = .ok (.if_icmp .ge 26, 3) := by decide +kernel
theorem dX1_bestFrom_15 : decode cX1_bestFrom 15 = .ok (.aload_n 0, 1) := by decide +kernel
theorem dX1_bestFrom_16 : decode cX1_bestFrom 16 = .ok (.getfield 178, 3) := by decide +kernel
theorem dX1_bestFrom_19 : decode cX1_bestFrom 19 = .ok (.iload 4, 2) := by decide +kernel
theorem dX1_bestFrom_21 : decode cX1_bestFrom 21 = .ok (.iload 4, 2) := by decide +kernel
theorem dX1_bestFrom_23 : decode cX1_bestFrom 23 = .ok (.ifCond .ne 7, 3) := by decide +kernel
theorem dX1_bestFrom_26 : decode cX1_bestFrom 26 = .ok (.iconst 0, 1) := by decide +kernel
theorem dX1_bestFrom_27 : decode cX1_bestFrom 27 = .ok (.goto 4, 3) := by decide +kernel
theorem dX1_bestFrom_30 : decode cX1_bestFrom 30 = .ok (.iconst (-1), 1) := by decide +kernel
theorem dX1_bestFrom_31 : decode cX1_bestFrom 31 = .ok (.iastore, 1) := by decide +kernel
theorem dX1_bestFrom_32 : decode cX1_bestFrom 32 = .ok (.iinc 4 1, 3) := by decide +kernel
theorem dX1_bestFrom_35 : decode cX1_bestFrom 35 = .ok (.goto (-26), 3) := by decide +kernel
theorem dX1_bestFrom_38 : decode cX1_bestFrom 38 = .ok (.iconst 0, 1) := by decide +kernel
theorem dX1_bestFrom_39 : decode cX1_bestFrom 39 = .ok (.istore 4, 2) := by decide +kernel
theorem dX1_bestFrom_41 : decode cX1_bestFrom 41 = .ok (.iload 4, 2) := by decide +kernel
theorem dX1_bestFrom_43 : decode cX1_bestFrom 43 = .ok (.aload_n 0, 1) := by decide +kernel
theorem dX1_bestFrom_44 : decode cX1_bestFrom 44 = .ok (.getfield 491, 3) := by decide +kernel
theorem dX1_bestFrom_47 : decode cX1_bestFrom 47 = .ok (.if_icmp .ge 165, 3) := by decide +kernel
theorem dX1_bestFrom_50 : decode cX1_bestFrom 50 = .ok (.iload_n 3, 1) := by decide +kernel
theorem dX1_bestFrom_51 : decode cX1_bestFrom 51 = .ok (.iconst 1, 1) := by decide +kernel
theorem dX1_bestFrom_52 : decode cX1_bestFrom 52 = .ok (.isub, 1) := by decide +kernel
theorem dX1_bestFrom_53 : decode cX1_bestFrom 53 = .ok (.istore 5, 2) := by decide +kernel
theorem dX1_bestFrom_55 : decode cX1_bestFrom 55 = .ok (.iload 5, 2) := by decide +kernel
theorem dX1_bestFrom_57 : decode cX1_bestFrom 57 = .ok (.ifCond .le 149, 3) := by decide +kernel
theorem dX1_bestFrom_60 : decode cX1_bestFrom 60 = .ok (.aload_n 0, 1) := by decide +kernel
theorem dX1_bestFrom_61 : decode cX1_bestFrom 61 = .ok (.getfield 184, 3) := by decide +kernel
theorem dX1_bestFrom_64 : decode cX1_bestFrom 64 = .ok (.iload 4, 2) := by decide +kernel
theorem dX1_bestFrom_66 : decode cX1_bestFrom 66 = .ok (.baload, 1) := by decide +kernel
theorem dX1_bestFrom_67 : decode cX1_bestFrom 67 = .ok (.ifCond .ne 139, 3) := by decide +kernel
theorem dX1_bestFrom_70 : decode cX1_bestFrom 70 = .ok (.iconst 0, 1) := by decide +kernel
theorem dX1_bestFrom_71 : decode cX1_bestFrom 71 = .ok (.istore 6, 2) := by decide +kernel
theorem dX1_bestFrom_73 : decode cX1_bestFrom 73 = .ok (.iload 6, 2) := by decide +kernel
theorem dX1_bestFrom_75 : decode cX1_bestFrom 75 = .ok (.iload_n 2, 1) := by decide +kernel
theorem dX1_bestFrom_76 : decode cX1_bestFrom 76 = .ok (.iload_n 1, 1) := by decide +kernel
theorem dX1_bestFrom_77 : decode cX1_bestFrom 77 = .ok (.isub, 1) := by decide +kernel
theorem dX1_bestFrom_78 : decode cX1_bestFrom 78 = .ok (.if_icmp .ge 122, 3) := by decide +kernel
theorem dX1_bestFrom_81 : decode cX1_bestFrom 81 = .ok (.iload 5, 2) := by decide +kernel
theorem dX1_bestFrom_83 : decode cX1_bestFrom 83 = .ok (.iload 6, 2) := by decide +kernel
theorem dX1_bestFrom_85 : decode cX1_bestFrom 85 = .ok (.ishr, 1) := by decide +kernel
theorem dX1_bestFrom_86 : decode cX1_bestFrom 86 = .ok (.iconst 1, 1) := by decide +kernel
theorem dX1_bestFrom_87 : decode cX1_bestFrom 87 = .ok (.iand, 1) := by decide +kernel
theorem dX1_bestFrom_88 : decode cX1_bestFrom 88 = .ok (.ifCond .eq 106, 3) := by decide +kernel
theorem dX1_bestFrom_91 : decode cX1_bestFrom 91 = .ok (.aload_n 0, 1) := by decide +kernel
theorem dX1_bestFrom_92 : decode cX1_bestFrom 92 = .ok (.getfield 187, 3) := by decide +kernel
theorem dX1_bestFrom_95 : decode cX1_bestFrom 95 = .ok (.bipush 60, 2) := by decide +kernel
theorem dX1_bestFrom_97 : decode cX1_bestFrom 97 = .ok (.iload_n 1, 1) := by decide +kernel
theorem dX1_bestFrom_98 : decode cX1_bestFrom 98 = .ok (.iload 6, 2) := by decide +kernel
theorem dX1_bestFrom_100 : decode cX1_bestFrom 100 = .ok (.iadd, 1) := by decide +kernel
theorem dX1_bestFrom_101 : decode cX1_bestFrom 101 = .ok (.imul, 1) := by decide +kernel
theorem dX1_bestFrom_102 : decode cX1_bestFrom 102 = .ok (.iload 4, 2) := by decide +kernel
theorem dX1_bestFrom_104 : decode cX1_bestFrom 104 = .ok (.iadd, 1) := by decide +kernel
theorem dX1_bestFrom_105 : decode cX1_bestFrom 105 = .ok (.iaload, 1) := by decide +kernel
theorem dX1_bestFrom_106 : decode cX1_bestFrom 106 = .ok (.iconst (-1), 1) := by decide +kernel
theorem dX1_bestFrom_107 : decode cX1_bestFrom 107 = .ok (.if_icmp .eq 87, 3) := by decide +kernel
theorem dX1_bestFrom_110 : decode cX1_bestFrom 110 = .ok (.aload_n 0, 1) := by decide +kernel
theorem dX1_bestFrom_111 : decode cX1_bestFrom 111 = .ok (.getfield 178, 3) := by decide +kernel
theorem dX1_bestFrom_114 : decode cX1_bestFrom 114 = .ok (.iload 5, 2) := by decide +kernel
theorem dX1_bestFrom_116 : decode cX1_bestFrom 116 = .ok (.iconst 1, 1) := by decide +kernel
theorem dX1_bestFrom_117 : decode cX1_bestFrom 117 = .ok (.iload 6, 2) := by decide +kernel
theorem dX1_bestFrom_119 : decode cX1_bestFrom 119 = .ok (.ishl, 1) := by decide +kernel
theorem dX1_bestFrom_120 : decode cX1_bestFrom 120 = .ok (.ixor, 1) := by decide +kernel
theorem dX1_bestFrom_121 : decode cX1_bestFrom 121 = .ok (.iaload, 1) := by decide +kernel
theorem dX1_bestFrom_122 : decode cX1_bestFrom 122 = .ok (.iconst (-1), 1) := by decide +kernel
theorem dX1_bestFrom_123 : decode cX1_bestFrom 123 = .ok (.if_icmp .ne 6, 3) := by decide +kernel
theorem dX1_bestFrom_126 : decode cX1_bestFrom 126 = .ok (.goto 68, 3) := by decide +kernel
theorem dX1_bestFrom_129 : decode cX1_bestFrom 129 = .ok (.aload_n 0, 1) := by decide +kernel
theorem dX1_bestFrom_130 : decode cX1_bestFrom 130 = .ok (.getfield 178, 3) := by decide +kernel
theorem dX1_bestFrom_133 : decode cX1_bestFrom 133 = .ok (.iload 5, 2) := by decide +kernel
theorem dX1_bestFrom_135 : decode cX1_bestFrom 135 = .ok (.iconst 1, 1) := by decide +kernel
theorem dX1_bestFrom_136 : decode cX1_bestFrom 136 = .ok (.iload 6, 2) := by decide +kernel
theorem dX1_bestFrom_138 : decode cX1_bestFrom 138 = .ok (.ishl, 1) := by decide +kernel
theorem dX1_bestFrom_139 : decode cX1_bestFrom 139 = .ok (.ixor, 1) := by decide +kernel
theorem dX1_bestFrom_140 : decode cX1_bestFrom 140 = .ok (.iaload, 1) := by decide +kernel
theorem dX1_bestFrom_141 : decode cX1_bestFrom 141 = .ok (.sipush 1000, 3) := by decide +kernel
theorem dX1_bestFrom_144 : decode cX1_bestFrom 144 = .ok (.iadd, 1) := by decide +kernel
theorem dX1_bestFrom_145 : decode cX1_bestFrom 145 = .ok (.aload_n 0, 1) := by decide +kernel
theorem dX1_bestFrom_146 : decode cX1_bestFrom 146 = .ok (.getfield 187, 3) := by decide +kernel
theorem dX1_bestFrom_149 : decode cX1_bestFrom 149 = .ok (.bipush 60, 2) := by decide +kernel
theorem dX1_bestFrom_151 : decode cX1_bestFrom 151 = .ok (.iload_n 1, 1) := by decide +kernel
theorem dX1_bestFrom_152 : decode cX1_bestFrom 152 = .ok (.iload 6, 2) := by decide +kernel
theorem dX1_bestFrom_154 : decode cX1_bestFrom 154 = .ok (.iadd, 1) := by decide +kernel
theorem dX1_bestFrom_155 : decode cX1_bestFrom 155 = .ok (.imul, 1) := by decide +kernel
theorem dX1_bestFrom_156 : decode cX1_bestFrom 156 = .ok (.iload 4, 2) := by decide +kernel
theorem dX1_bestFrom_158 : decode cX1_bestFrom 158 = .ok (.iadd, 1) := by decide +kernel
theorem dX1_bestFrom_159 : decode cX1_bestFrom 159 = .ok (.iaload, 1) := by decide +kernel
theorem dX1_bestFrom_160 : decode cX1_bestFrom 160 = .ok (.iadd, 1) := by decide +kernel
theorem dX1_bestFrom_161 : decode cX1_bestFrom 161 = .ok (.istore 7, 2) := by decide +kernel
theorem dX1_bestFrom_163 : decode cX1_bestFrom 163 = .ok (.aload_n 0, 1) := by decide +kernel
theorem dX1_bestFrom_164 : decode cX1_bestFrom 164 = .ok (.getfield 178, 3) := by decide +kernel
theorem dX1_bestFrom_167 : decode cX1_bestFrom 167 = .ok (.iload 5, 2) := by decide +kernel
theorem dX1_bestFrom_169 : decode cX1_bestFrom 169 = .ok (.iload 7, 2) := by decide +kernel
theorem dX1_bestFrom_171 : decode cX1_bestFrom 171 = .ok (.aload_n 0, 1) := by decide +kernel
theorem dX1_bestFrom_172 : decode cX1_bestFrom 172 = .ok (.getfield 178, 3) := by decide +kernel
theorem dX1_bestFrom_175 : decode cX1_bestFrom 175 = .ok (.iload 5, 2) := by decide +kernel
theorem dX1_bestFrom_177 : decode cX1_bestFrom 177 = .ok (.iaload, 1) := by decide +kernel
theorem dX1_bestFrom_178 : decode cX1_bestFrom 178 = .ok (.if_icmp .le 8, 3) := by decide +kernel
theorem dX1_bestFrom_181 : decode cX1_bestFrom 181 = .ok (.iload 7, 2) := by decide +kernel
theorem dX1_bestFrom_183 : decode cX1_bestFrom 183 = .ok (.goto 10, 3) := by decide +kernel
theorem dX1_bestFrom_186 : decode cX1_bestFrom 186 = .ok (.aload_n 0, 1) := by decide +kernel
theorem dX1_bestFrom_187 : decode cX1_bestFrom 187 = .ok (.getfield 178, 3) := by decide +kernel
theorem dX1_bestFrom_190 : decode cX1_bestFrom 190 = .ok (.iload 5, 2) := by decide +kernel
theorem dX1_bestFrom_192 : decode cX1_bestFrom 192 = .ok (.iaload, 1) := by decide +kernel
theorem dX1_bestFrom_193 : decode cX1_bestFrom 193 = .ok (.iastore, 1) := by decide +kernel
theorem dX1_bestFrom_194 : decode cX1_bestFrom 194 = .ok (.iinc 6 1, 3) := by decide +kernel
theorem dX1_bestFrom_197 : decode cX1_bestFrom 197 = .ok (.goto (-124), 3) := by decide +kernel
theorem dX1_bestFrom_200 : decode cX1_bestFrom 200 = .ok (.iinc 5 (-1), 3) := by decide +kernel
theorem dX1_bestFrom_203 : decode cX1_bestFrom 203 = .ok (.goto (-148), 3) := by decide +kernel
theorem dX1_bestFrom_206 : decode cX1_bestFrom 206 = .ok (.iinc 4 1, 3) := by decide +kernel
theorem dX1_bestFrom_209 : decode cX1_bestFrom 209 = .ok (.goto (-168), 3) := by decide +kernel
theorem dX1_bestFrom_212 : decode cX1_bestFrom 212 = .ok (.iconst 0, 1) := by decide +kernel
theorem dX1_bestFrom_213 : decode cX1_bestFrom 213 = .ok (.istore 4, 2) := by decide +kernel
theorem dX1_bestFrom_215 : decode cX1_bestFrom 215 = .ok (.iconst 0, 1) := by decide +kernel
theorem dX1_bestFrom_216 : decode cX1_bestFrom 216 = .ok (.istore 5, 2) := by decide +kernel
theorem dX1_bestFrom_218 : decode cX1_bestFrom 218 = .ok (.iload 5, 2) := by decide +kernel
theorem dX1_bestFrom_220 : decode cX1_bestFrom 220 = .ok (.iload_n 3, 1) := by decide +kernel
theorem dX1_bestFrom_221 : decode cX1_bestFrom 221 = .ok (.if_icmp .ge 35, 3) := by decide +kernel
theorem dX1_bestFrom_224 : decode cX1_bestFrom 224 = .ok (.aload_n 0, 1) := by decide +kernel
theorem dX1_bestFrom_225 : decode cX1_bestFrom 225 = .ok (.getfield 178, 3) := by decide +kernel
theorem dX1_bestFrom_228 : decode cX1_bestFrom 228 = .ok (.iload 5, 2) := by decide +kernel
theorem dX1_bestFrom_230 : decode cX1_bestFrom 230 = .ok (.iaload, 1) := by decide +kernel
theorem dX1_bestFrom_231 : decode cX1_bestFrom 231 = .ok (.iload 4, 2) := by decide +kernel
theorem dX1_bestFrom_233 : decode cX1_bestFrom 233 = .ok (.if_icmp .le 13, 3) := by decide +kernel
theorem dX1_bestFrom_236 : decode cX1_bestFrom 236 = .ok (.aload_n 0, 1) := by decide +kernel
theorem dX1_bestFrom_237 : decode cX1_bestFrom 237 = .ok (.getfield 178, 3) := by decide +kernel
theorem dX1_bestFrom_240 : decode cX1_bestFrom 240 = .ok (.iload 5, 2) := by decide +kernel
theorem dX1_bestFrom_242 : decode cX1_bestFrom 242 = .ok (.iaload, 1) := by decide +kernel
theorem dX1_bestFrom_243 : decode cX1_bestFrom 243 = .ok (.goto 5, 3) := by decide +kernel
theorem dX1_bestFrom_246 : decode cX1_bestFrom 246 = .ok (.iload 4, 2) := by decide +kernel
theorem dX1_bestFrom_248 : decode cX1_bestFrom 248 = .ok (.istore 4, 2) := by decide +kernel
theorem dX1_bestFrom_250 : decode cX1_bestFrom 250 = .ok (.iinc 5 1, 3) := by decide +kernel
theorem dX1_bestFrom_253 : decode cX1_bestFrom 253 = .ok (.goto (-35), 3) := by decide +kernel
theorem dX1_bestFrom_256 : decode cX1_bestFrom 256 = .ok (.iload 4, 2) := by decide +kernel
theorem dX1_bestFrom_258 : decode cX1_bestFrom 258 = .ok (.ireturn, 1) := by decide +kernel
section
variable {res : Int32 × MS}
noncomputable def m_bestFrom_B9 (F : Nat) (K38 : Int32 × MS → Option (Int32 × MS)) (x1 x2 x3 : Int32) (R : Int32 × MS → Option (Int32 × MS)) (a : Int32 × MS) : Option (Int32 × MS) :=
  if x3 ≤ a.1 then (K38 (a.1, a.2)) else (if a.1 = 0 then (if okI a.1 256 = true then nx (sA a.2 54 a.1.toNatClampNeg 0) (fun σ2 => R (a.1 + 1, σ2)) else none) else (if okI a.1 256 = true then nx (sA a.2 54 a.1.toNatClampNeg ((-1))) (fun σ1 => R (a.1 + 1, σ1)) else none))
theorem km_bestFrom_B9 (M : MC γ cX1_bestFrom 8 G o 1 (some .int) (mQi G o res)) (x1 x2 x3 : Int32) (K38 : Int32 × MS → Option (Int32 × MS)) (hK38 : ∀ a, K38 a = some res → J γ (MW G o a.2) 0 0 38 [(0, .ref o), (1, .int x1), (2, .int x2), (3, .int x3)] []) : ∀ R : Int32 × MS → Option (Int32 × MS), (∀ a, R a = some res → J γ (MW G o a.2) 0 0 9 [(0, .ref o), (1, .int x1), (2, .int x2), (3, .int x3), (4, .int a.1)] []) → ∀ a, m_bestFrom_B9 F K38 x1 x2 x3 R a = some res → J γ (MW G o a.2) 0 0 9 [(0, .ref o), (1, .int x1), (2, .int x2), (3, .int x3), (4, .int a.1)] [] := by
  intro R hR a hf
  unfold m_bestFrom_B9 at hf
  refine j_iload (pc := 9) M.1 dX1_bestFrom_9 4 rfl ?_
  refine j_iload_n (pc := 11) M.1 dX1_bestFrom_11 3 rfl ?_
  refine j_icmp_ge (pc := 12) M.1 38 dX1_bestFrom_12 rfl (fun c1 => ?_) (fun c1 => ?_)
  · replace hf := o_pos c1 hf
    refine j_sub [0, 1, 2, 3] (show lv_pick _ _ = [(0, .ref o), (1, .int x1), (2, .int x2), (3, .int x3)] from rfl) ?_
    have hy := hK38 _ hf
    exact hy
  · replace hf := o_neg c1 hf
    refine j_aload_n (pc := 15) M.1 dX1_bestFrom_15 0 rfl ?_
    refine jm_getA (pc := 16) M fa_178 dX1_bestFrom_16 ?_
    refine j_iload (pc := 19) M.1 dX1_bestFrom_19 4 rfl ?_
    refine j_iload (pc := 21) M.1 dX1_bestFrom_21 4 rfl ?_
    refine j_if_ne (pc := 23) M.1 30 dX1_bestFrom_23 rfl (fun c2 => ?_) (fun c2 => ?_)
    · replace hf := o_neg c2 hf
      refine j_iconst (pc := 30) M.1 dX1_bestFrom_30 kc_iconst_m1 ?_
      obtain ⟨b1, hf⟩ := o_need hf
      obtain ⟨σ1, e1, hf⟩ := o_nx hf
      refine jm_iast (pc := 31) M ax_54 b1 dX1_bestFrom_31 e1 ?_
      refine j_iinc (pc := 32) M.1 [(4, .int (a.1 + 1)), (0, .ref o), (1, .int x1), (2, .int x2), (3, .int x3)] dX1_bestFrom_32 4 rfl (congrArg _ kc_iconst_1) rfl rfl ?_
      refine j_goto (pc := 35) M.1 9 dX1_bestFrom_35 rfl ?_
      refine j_sub [1, 2, 3, 4, 0] (show lv_pick _ _ = [(0, .ref o), (1, .int x1), (2, .int x2), (3, .int x3), (4, .int (a.1 + 1))] from rfl) ?_
      have hy := hR _ hf
      exact hy
    · replace hf := o_pos c2 hf
      refine j_iconst (pc := 26) M.1 dX1_bestFrom_26 kc_iconst_0 ?_
      refine j_goto (pc := 27) M.1 31 dX1_bestFrom_27 rfl ?_
      obtain ⟨b2, hf⟩ := o_need hf
      obtain ⟨σ2, e2, hf⟩ := o_nx hf
      refine jm_iast (pc := 31) M ax_54 b2 dX1_bestFrom_31 e2 ?_
      refine j_iinc (pc := 32) M.1 [(4, .int (a.1 + 1)), (0, .ref o), (1, .int x1), (2, .int x2), (3, .int x3)] dX1_bestFrom_32 4 rfl (congrArg _ kc_iconst_1) rfl rfl ?_
      refine j_goto (pc := 35) M.1 9 dX1_bestFrom_35 rfl ?_
      refine j_sub [1, 2, 3, 4, 0] (show lv_pick _ _ = [(0, .ref o), (1, .int x1), (2, .int x2), (3, .int x3), (4, .int (a.1 + 1))] from rfl) ?_
      have hy := hR _ hf
      exact hy
noncomputable def m_bestFrom_B73 (F : Nat) (K200 : Int32 × MS → Option (Int32 × MS)) (x1 x2 x3 x4 x5 : Int32) (R : Int32 × MS → Option (Int32 × MS)) (a : Int32 × MS) : Option (Int32 × MS) :=
  if (x2 - x1) ≤ a.1 then (K200 (a.1, a.2)) else (if ((x5 >>> (a.1 &&& 31)) &&& 1) = 0 then (R (a.1 + 1, a.2)) else (if okI ((60 * (x1 + a.1)) + x4) 480 = true then if (a.2.2 57 ((60 * (x1 + a.1)) + x4).toNatClampNeg) = ((-1)) then (R (a.1 + 1, a.2)) else (if okI (x5 ^^^ (1 <<< (a.1 &&& 31))) 256 = true then if (a.2.2 54 (x5 ^^^ (1 <<< (a.1 &&& 31))).toNatClampNeg) = ((-1)) then (R (a.1 + 1, a.2)) else (if okI (x5 ^^^ (1 <<< (a.1 &&& 31))) 256 = true then if okI ((60 * (x1 + a.1)) + x4) 480 = true then nx (((a.2.2 54 (x5 ^^^ (1 <<< (a.1 &&& 31))).toNatClampNeg) + 1000) + (a.2.2 57 ((60 * (x1 + a.1)) + x4).toNatClampNeg) : Int32) (fun y1 => if okI x5 256 = true then if y1 ≤ (a.2.2 54 x5.toNatClampNeg) then (if okI x5 256 = true then if okI x5 256 = true then nx (sA a.2 54 x5.toNatClampNeg (a.2.2 54 x5.toNatClampNeg)) (fun σ1 => R (a.1 + 1, σ1)) else none else none) else (if okI x5 256 = true then nx (sA a.2 54 x5.toNatClampNeg y1) (fun σ2 => R (a.1 + 1, σ2)) else none) else none) else none else none) else none) else none))
theorem km_bestFrom_B73 (M : MC γ cX1_bestFrom 8 G o 1 (some .int) (mQi G o res)) (x1 x2 x3 x4 x5 : Int32) (K200 : Int32 × MS → Option (Int32 × MS)) (hK200 : ∀ a, K200 a = some res → J γ (MW G o a.2) 0 0 200 [(0, .ref o), (1, .int x1), (2, .int x2), (3, .int x3), (4, .int x4), (5, .int x5)] []) : ∀ R : Int32 × MS → Option (Int32 × MS), (∀ a, R a = some res → J γ (MW G o a.2) 0 0 73 [(0, .ref o), (1, .int x1), (2, .int x2), (3, .int x3), (4, .int x4), (5, .int x5), (6, .int a.1)] []) → ∀ a, m_bestFrom_B73 F K200 x1 x2 x3 x4 x5 R a = some res → J γ (MW G o a.2) 0 0 73 [(0, .ref o), (1, .int x1), (2, .int x2), (3, .int x3), (4, .int x4), (5, .int x5), (6, .int a.1)] [] := by
  intro R hR a hf
  unfold m_bestFrom_B73 at hf
  refine j_iload (pc := 73) M.1 dX1_bestFrom_73 6 rfl ?_
  refine j_iload_n (pc := 75) M.1 dX1_bestFrom_75 2 rfl ?_
  refine j_iload_n (pc := 76) M.1 dX1_bestFrom_76 1 rfl ?_
  refine j_isub (pc := 77) M.1 dX1_bestFrom_77 ?_
  refine j_icmp_ge (pc := 78) M.1 200 dX1_bestFrom_78 rfl (fun c1 => ?_) (fun c1 => ?_)
  · replace hf := o_pos c1 hf
    refine j_sub [0, 1, 2, 3, 4, 5] (show lv_pick _ _ = [(0, .ref o), (1, .int x1), (2, .int x2), (3, .int x3), (4, .int x4), (5, .int x5)] from rfl) ?_
    have hy := hK200 _ hf
    exact hy
  · replace hf := o_neg c1 hf
    refine j_iload (pc := 81) M.1 dX1_bestFrom_81 5 rfl ?_
    refine j_iload (pc := 83) M.1 dX1_bestFrom_83 6 rfl ?_
    refine j_ishr (pc := 85) M.1 dX1_bestFrom_85 ?_
    refine j_iconst (pc := 86) M.1 dX1_bestFrom_86 kc_iconst_1 ?_
    refine j_iand (pc := 87) M.1 dX1_bestFrom_87 ?_
    refine j_if_eq (pc := 88) M.1 194 dX1_bestFrom_88 rfl (fun c2 => ?_) (fun c2 => ?_)
    · replace hf := o_pos c2 hf
      refine j_iinc (pc := 194) M.1 [(6, .int (a.1 + 1)), (0, .ref o), (1, .int x1), (2, .int x2), (3, .int x3), (4, .int x4), (5, .int x5)] dX1_bestFrom_194 6 rfl (congrArg _ kc_iconst_1) rfl rfl ?_
      refine j_goto (pc := 197) M.1 73 dX1_bestFrom_197 rfl ?_
      refine j_sub [1, 2, 3, 4, 5, 6, 0] (show lv_pick _ _ = [(0, .ref o), (1, .int x1), (2, .int x2), (3, .int x3), (4, .int x4), (5, .int x5), (6, .int (a.1 + 1))] from rfl) ?_
      have hy := hR _ hf
      exact hy
    · replace hf := o_neg c2 hf
      refine j_aload_n (pc := 91) M.1 dX1_bestFrom_91 0 rfl ?_
      refine jm_getA (pc := 92) M fa_187 dX1_bestFrom_92 ?_
      refine j_bipush (pc := 95) M.1 dX1_bestFrom_95 kc_bipush_60 ?_
      refine j_iload_n (pc := 97) M.1 dX1_bestFrom_97 1 rfl ?_
      refine j_iload (pc := 98) M.1 dX1_bestFrom_98 6 rfl ?_
      refine j_iadd (pc := 100) M.1 dX1_bestFrom_100 ?_
      refine j_imul (pc := 101) M.1 dX1_bestFrom_101 ?_
      refine j_iload (pc := 102) M.1 dX1_bestFrom_102 4 rfl ?_
      refine j_iadd (pc := 104) M.1 dX1_bestFrom_104 ?_
      obtain ⟨b1, hf⟩ := o_need hf
      refine jm_iald (pc := 105) M ax_57 b1 dX1_bestFrom_105 ?_
      refine j_iconst (pc := 106) M.1 dX1_bestFrom_106 kc_iconst_m1 ?_
      refine j_icmp_eq (pc := 107) M.1 194 dX1_bestFrom_107 rfl (fun c3 => ?_) (fun c3 => ?_)
      · replace hf := o_pos c3 hf
        refine j_iinc (pc := 194) M.1 [(6, .int (a.1 + 1)), (0, .ref o), (1, .int x1), (2, .int x2), (3, .int x3), (4, .int x4), (5, .int x5)] dX1_bestFrom_194 6 rfl (congrArg _ kc_iconst_1) rfl rfl ?_
        refine j_goto (pc := 197) M.1 73 dX1_bestFrom_197 rfl ?_
        refine j_sub [1, 2, 3, 4, 5, 6, 0] (show lv_pick _ _ = [(0, .ref o), (1, .int x1), (2, .int x2), (3, .int x3), (4, .int x4), (5, .int x5), (6, .int (a.1 + 1))] from rfl) ?_
        have hy := hR _ hf
        exact hy
      · replace hf := o_neg c3 hf
        refine j_aload_n (pc := 110) M.1 dX1_bestFrom_110 0 rfl ?_
        refine jm_getA (pc := 111) M fa_178 dX1_bestFrom_111 ?_
        refine j_iload (pc := 114) M.1 dX1_bestFrom_114 5 rfl ?_
        refine j_iconst (pc := 116) M.1 dX1_bestFrom_116 kc_iconst_1 ?_
        refine j_iload (pc := 117) M.1 dX1_bestFrom_117 6 rfl ?_
        refine j_ishl (pc := 119) M.1 dX1_bestFrom_119 ?_
        refine j_ixor (pc := 120) M.1 dX1_bestFrom_120 ?_
        obtain ⟨b2, hf⟩ := o_need hf
        refine jm_iald (pc := 121) M ax_54 b2 dX1_bestFrom_121 ?_
        refine j_iconst (pc := 122) M.1 dX1_bestFrom_122 kc_iconst_m1 ?_
        refine j_icmp_ne (pc := 123) M.1 129 dX1_bestFrom_123 rfl (fun c4 => ?_) (fun c4 => ?_)
        · replace hf := o_neg c4 hf
          refine j_aload_n (pc := 129) M.1 dX1_bestFrom_129 0 rfl ?_
          refine jm_getA (pc := 130) M fa_178 dX1_bestFrom_130 ?_
          refine j_iload (pc := 133) M.1 dX1_bestFrom_133 5 rfl ?_
          refine j_iconst (pc := 135) M.1 dX1_bestFrom_135 kc_iconst_1 ?_
          refine j_iload (pc := 136) M.1 dX1_bestFrom_136 6 rfl ?_
          refine j_ishl (pc := 138) M.1 dX1_bestFrom_138 ?_
          refine j_ixor (pc := 139) M.1 dX1_bestFrom_139 ?_
          obtain ⟨b3, hf⟩ := o_need hf
          refine jm_iald (pc := 140) M ax_54 b3 dX1_bestFrom_140 ?_
          refine j_sipush (pc := 141) M.1 dX1_bestFrom_141 kc_sipush_1000 ?_
          refine j_iadd (pc := 144) M.1 dX1_bestFrom_144 ?_
          refine j_aload_n (pc := 145) M.1 dX1_bestFrom_145 0 rfl ?_
          refine jm_getA (pc := 146) M fa_187 dX1_bestFrom_146 ?_
          refine j_bipush (pc := 149) M.1 dX1_bestFrom_149 kc_bipush_60 ?_
          refine j_iload_n (pc := 151) M.1 dX1_bestFrom_151 1 rfl ?_
          refine j_iload (pc := 152) M.1 dX1_bestFrom_152 6 rfl ?_
          refine j_iadd (pc := 154) M.1 dX1_bestFrom_154 ?_
          refine j_imul (pc := 155) M.1 dX1_bestFrom_155 ?_
          refine j_iload (pc := 156) M.1 dX1_bestFrom_156 4 rfl ?_
          refine j_iadd (pc := 158) M.1 dX1_bestFrom_158 ?_
          obtain ⟨b4, hf⟩ := o_need hf
          refine jm_iald (pc := 159) M ax_57 b4 dX1_bestFrom_159 ?_
          refine j_iadd (pc := 160) M.1 dX1_bestFrom_160 ?_
          obtain ⟨y1, e1, hf⟩ := o_nx hf
          refine j_top e1 ?_
          refine j_istore (pc := 161) M.1 [(7, .int y1), (0, .ref o), (1, .int x1), (2, .int x2), (3, .int x3), (4, .int x4), (5, .int x5), (6, .int a.1)] dX1_bestFrom_161 rfl rfl ?_
          refine j_aload_n (pc := 163) M.1 dX1_bestFrom_163 1 rfl ?_
          refine jm_getA (pc := 164) M fa_178 dX1_bestFrom_164 ?_
          refine j_iload (pc := 167) M.1 dX1_bestFrom_167 6 rfl ?_
          refine j_iload (pc := 169) M.1 dX1_bestFrom_169 0 rfl ?_
          refine j_aload_n (pc := 171) M.1 dX1_bestFrom_171 1 rfl ?_
          refine jm_getA (pc := 172) M fa_178 dX1_bestFrom_172 ?_
          refine j_iload (pc := 175) M.1 dX1_bestFrom_175 6 rfl ?_
          obtain ⟨b5, hf⟩ := o_need hf
          refine jm_iald (pc := 177) M ax_54 b5 dX1_bestFrom_177 ?_
          refine j_icmp_le (pc := 178) M.1 186 dX1_bestFrom_178 rfl (fun c5 => ?_) (fun c5 => ?_)
          · replace hf := o_pos c5 hf
            refine j_aload_n (pc := 186) M.1 dX1_bestFrom_186 1 rfl ?_
            refine jm_getA (pc := 187) M fa_178 dX1_bestFrom_187 ?_
            refine j_iload (pc := 190) M.1 dX1_bestFrom_190 6 rfl ?_
            obtain ⟨b6, hf⟩ := o_need hf
            refine jm_iald (pc := 192) M ax_54 b6 dX1_bestFrom_192 ?_
            obtain ⟨b7, hf⟩ := o_need hf
            obtain ⟨σ1, e2, hf⟩ := o_nx hf
            refine jm_iast (pc := 193) M ax_54 b7 dX1_bestFrom_193 e2 ?_
            refine j_iinc (pc := 194) M.1 [(6, .int (a.1 + 1)), (7, .int y1), (0, .ref o), (1, .int x1), (2, .int x2), (3, .int x3), (4, .int x4), (5, .int x5)] dX1_bestFrom_194 7 rfl (congrArg _ kc_iconst_1) rfl rfl ?_
            refine j_goto (pc := 197) M.1 73 dX1_bestFrom_197 rfl ?_
            refine j_sub [2, 3, 4, 5, 6, 7, 0] (show lv_pick _ _ = [(0, .ref o), (1, .int x1), (2, .int x2), (3, .int x3), (4, .int x4), (5, .int x5), (6, .int (a.1 + 1))] from rfl) ?_
            have hy := hR _ hf
            exact hy
          · replace hf := o_neg c5 hf
            refine j_iload (pc := 181) M.1 dX1_bestFrom_181 0 rfl ?_
            refine j_goto (pc := 183) M.1 193 dX1_bestFrom_183 rfl ?_
            obtain ⟨b8, hf⟩ := o_need hf
            obtain ⟨σ2, e3, hf⟩ := o_nx hf
            refine jm_iast (pc := 193) M ax_54 b8 dX1_bestFrom_193 e3 ?_
            refine j_iinc (pc := 194) M.1 [(6, .int (a.1 + 1)), (7, .int y1), (0, .ref o), (1, .int x1), (2, .int x2), (3, .int x3), (4, .int x4), (5, .int x5)] dX1_bestFrom_194 7 rfl (congrArg _ kc_iconst_1) rfl rfl ?_
            refine j_goto (pc := 197) M.1 73 dX1_bestFrom_197 rfl ?_
            refine j_sub [2, 3, 4, 5, 6, 7, 0] (show lv_pick _ _ = [(0, .ref o), (1, .int x1), (2, .int x2), (3, .int x3), (4, .int x4), (5, .int x5), (6, .int (a.1 + 1))] from rfl) ?_
            have hy := hR _ hf
            exact hy
        · replace hf := o_pos c4 hf
          refine j_goto (pc := 126) M.1 194 dX1_bestFrom_126 rfl ?_
          refine j_iinc (pc := 194) M.1 [(6, .int (a.1 + 1)), (0, .ref o), (1, .int x1), (2, .int x2), (3, .int x3), (4, .int x4), (5, .int x5)] dX1_bestFrom_194 6 rfl (congrArg _ kc_iconst_1) rfl rfl ?_
          refine j_goto (pc := 197) M.1 73 dX1_bestFrom_197 rfl ?_
          refine j_sub [1, 2, 3, 4, 5, 6, 0] (show lv_pick _ _ = [(0, .ref o), (1, .int x1), (2, .int x2), (3, .int x3), (4, .int x4), (5, .int x5), (6, .int (a.1 + 1))] from rfl) ?_
          have hy := hR _ hf
          exact hy
noncomputable def m_bestFrom_B55 (F : Nat) (K206 : Int32 × MS → Option (Int32 × MS)) (x1 x2 x3 x4 : Int32) (R : Int32 × MS → Option (Int32 × MS)) (a : Int32 × MS) : Option (Int32 × MS) :=
  if a.1 ≤ 0 then (K206 (a.1, a.2)) else (if okI x4 60 = true then if (a.2.2 56 x4.toNatClampNeg) = 0 then (lp (m_bestFrom_B73 F (fun a1 => R (a.1 + (-1), a1.2)) x1 x2 x3 x4 a.1) F (0, a.2)) else (K206 (a.1, a.2)) else none)
theorem km_bestFrom_B55 (M : MC γ cX1_bestFrom 8 G o 1 (some .int) (mQi G o res)) (x1 x2 x3 x4 : Int32) (K206 : Int32 × MS → Option (Int32 × MS)) (hK206 : ∀ a, K206 a = some res → J γ (MW G o a.2) 0 0 206 [(0, .ref o), (1, .int x1), (2, .int x2), (3, .int x3), (4, .int x4)] []) : ∀ R : Int32 × MS → Option (Int32 × MS), (∀ a, R a = some res → J γ (MW G o a.2) 0 0 55 [(0, .ref o), (1, .int x1), (2, .int x2), (3, .int x3), (4, .int x4), (5, .int a.1)] []) → ∀ a, m_bestFrom_B55 F K206 x1 x2 x3 x4 R a = some res → J γ (MW G o a.2) 0 0 55 [(0, .ref o), (1, .int x1), (2, .int x2), (3, .int x3), (4, .int x4), (5, .int a.1)] [] := by
  intro R hR a hf
  unfold m_bestFrom_B55 at hf
  refine j_iload (pc := 55) M.1 dX1_bestFrom_55 5 rfl ?_
  refine j_if_le (pc := 57) M.1 206 dX1_bestFrom_57 rfl (fun c1 => ?_) (fun c1 => ?_)
  · replace hf := o_pos c1 hf
    refine j_sub [0, 1, 2, 3, 4] (show lv_pick _ _ = [(0, .ref o), (1, .int x1), (2, .int x2), (3, .int x3), (4, .int x4)] from rfl) ?_
    have hy := hK206 _ hf
    exact hy
  · replace hf := o_neg c1 hf
    refine j_aload_n (pc := 60) M.1 dX1_bestFrom_60 0 rfl ?_
    refine jm_getA (pc := 61) M fa_184 dX1_bestFrom_61 ?_
    refine j_iload (pc := 64) M.1 dX1_bestFrom_64 4 rfl ?_
    obtain ⟨b1, hf⟩ := o_need hf
    refine jm_zald (pc := 66) M ax_56 b1 dX1_bestFrom_66 ?_
    refine j_if_ne (pc := 67) M.1 206 dX1_bestFrom_67 rfl (fun c2 => ?_) (fun c2 => ?_)
    · replace hf := o_neg c2 hf
      refine j_sub [0, 1, 2, 3, 4] (show lv_pick _ _ = [(0, .ref o), (1, .int x1), (2, .int x2), (3, .int x3), (4, .int x4)] from rfl) ?_
      have hy := hK206 _ hf
      exact hy
    · replace hf := o_pos c2 hf
      refine j_iconst (pc := 70) M.1 dX1_bestFrom_70 kc_iconst_0 ?_
      refine j_istore (pc := 71) M.1 [(6, .int 0), (0, .ref o), (1, .int x1), (2, .int x2), (3, .int x3), (4, .int x4), (5, .int a.1)] dX1_bestFrom_71 rfl rfl ?_
      refine j_sub [1, 2, 3, 4, 5, 6, 0] (show lv_pick _ _ = [(0, .ref o), (1, .int x1), (2, .int x2), (3, .int x3), (4, .int x4), (5, .int a.1), (6, .int 0)] from rfl) ?_
      refine lp_W (km_bestFrom_B73 M x1 x2 x3 x4 a.1 _ ?_) F (0, a.2) hf
      · intro a1 hf
        refine j_iinc (pc := 200) M.1 [(5, .int (a.1 + (-1))), (0, .ref o), (1, .int x1), (2, .int x2), (3, .int x3), (4, .int x4)] dX1_bestFrom_200 5 rfl (congrArg _ kc_iconst_m1) rfl rfl ?_
        refine j_goto (pc := 203) M.1 55 dX1_bestFrom_203 rfl ?_
        refine j_sub [1, 2, 3, 4, 5, 0] (show lv_pick _ _ = [(0, .ref o), (1, .int x1), (2, .int x2), (3, .int x3), (4, .int x4), (5, .int (a.1 + (-1)))] from rfl) ?_
        have hy := hR _ hf
        exact hy
noncomputable def m_bestFrom_B41 (F : Nat) (K212 : Int32 × MS → Option (Int32 × MS)) (x1 x2 x3 : Int32) (R : Int32 × MS → Option (Int32 × MS)) (a : Int32 × MS) : Option (Int32 × MS) :=
  if (a.2.1 68) ≤ a.1 then (K212 (a.1, a.2)) else (lp (m_bestFrom_B55 F (fun a1 => R (a.1 + 1, a1.2)) x1 x2 x3 a.1) F (x3 - 1, a.2))
theorem km_bestFrom_B41 (M : MC γ cX1_bestFrom 8 G o 1 (some .int) (mQi G o res)) (x1 x2 x3 : Int32) (K212 : Int32 × MS → Option (Int32 × MS)) (hK212 : ∀ a, K212 a = some res → J γ (MW G o a.2) 0 0 212 [(0, .ref o), (3, .int x3)] []) : ∀ R : Int32 × MS → Option (Int32 × MS), (∀ a, R a = some res → J γ (MW G o a.2) 0 0 41 [(0, .ref o), (1, .int x1), (2, .int x2), (3, .int x3), (4, .int a.1)] []) → ∀ a, m_bestFrom_B41 F K212 x1 x2 x3 R a = some res → J γ (MW G o a.2) 0 0 41 [(0, .ref o), (1, .int x1), (2, .int x2), (3, .int x3), (4, .int a.1)] [] := by
  intro R hR a hf
  unfold m_bestFrom_B41 at hf
  refine j_iload (pc := 41) M.1 dX1_bestFrom_41 4 rfl ?_
  refine j_aload_n (pc := 43) M.1 dX1_bestFrom_43 0 rfl ?_
  refine jm_getS (pc := 44) M fm_491 dX1_bestFrom_44 ?_
  refine j_icmp_ge (pc := 47) M.1 212 dX1_bestFrom_47 rfl (fun c1 => ?_) (fun c1 => ?_)
  · replace hf := o_pos c1 hf
    refine j_sub [0, 3] (show lv_pick _ _ = [(0, .ref o), (3, .int x3)] from rfl) ?_
    have hy := hK212 _ hf
    exact hy
  · replace hf := o_neg c1 hf
    refine j_iload_n (pc := 50) M.1 dX1_bestFrom_50 3 rfl ?_
    refine j_iconst (pc := 51) M.1 dX1_bestFrom_51 kc_iconst_1 ?_
    refine j_isub (pc := 52) M.1 dX1_bestFrom_52 ?_
    refine j_istore (pc := 53) M.1 [(5, .int (x3 - 1)), (0, .ref o), (1, .int x1), (2, .int x2), (3, .int x3), (4, .int a.1)] dX1_bestFrom_53 rfl rfl ?_
    refine j_sub [1, 2, 3, 4, 5, 0] (show lv_pick _ _ = [(0, .ref o), (1, .int x1), (2, .int x2), (3, .int x3), (4, .int a.1), (5, .int (x3 - 1))] from rfl) ?_
    refine lp_W (km_bestFrom_B55 M x1 x2 x3 a.1 _ ?_) F (x3 - 1, a.2) hf
    · intro a1 hf
      refine j_iinc (pc := 206) M.1 [(4, .int (a.1 + 1)), (0, .ref o), (1, .int x1), (2, .int x2), (3, .int x3)] dX1_bestFrom_206 4 rfl (congrArg _ kc_iconst_1) rfl rfl ?_
      refine j_goto (pc := 209) M.1 41 dX1_bestFrom_209 rfl ?_
      refine j_sub [1, 2, 3, 4, 0] (show lv_pick _ _ = [(0, .ref o), (1, .int x1), (2, .int x2), (3, .int x3), (4, .int (a.1 + 1))] from rfl) ?_
      have hy := hR _ hf
      exact hy
noncomputable def m_bestFrom_B218 (F : Nat) (x3 : Int32) (R : Int32 × Int32 × MS → Option (Int32 × MS)) (a : Int32 × Int32 × MS) : Option (Int32 × MS) :=
  if x3 ≤ a.2.1 then (some (a.1, a.2.2)) else (if okI a.2.1 256 = true then if (a.2.2.2 54 a.2.1.toNatClampNeg) ≤ a.1 then (R (a.1, a.2.1 + 1, a.2.2)) else (if okI a.2.1 256 = true then nx (a.2.2.2 54 a.2.1.toNatClampNeg : Int32) (fun y1 => R (y1, a.2.1 + 1, a.2.2)) else none) else none)
theorem km_bestFrom_B218 (M : MC γ cX1_bestFrom 8 G o 1 (some .int) (mQi G o res)) (x3 : Int32) : ∀ R : Int32 × Int32 × MS → Option (Int32 × MS), (∀ a, R a = some res → J γ (MW G o a.2.2) 0 0 218 [(0, .ref o), (3, .int x3), (4, .int a.1), (5, .int a.2.1)] []) → ∀ a, m_bestFrom_B218 F x3 R a = some res → J γ (MW G o a.2.2) 0 0 218 [(0, .ref o), (3, .int x3), (4, .int a.1), (5, .int a.2.1)] [] := by
  intro R hR a hf
  unfold m_bestFrom_B218 at hf
  refine j_iload (pc := 218) M.1 dX1_bestFrom_218 3 rfl ?_
  refine j_iload_n (pc := 220) M.1 dX1_bestFrom_220 1 rfl ?_
  refine j_icmp_ge (pc := 221) M.1 256 dX1_bestFrom_221 rfl (fun c1 => ?_) (fun c1 => ?_)
  · replace hf := o_pos c1 hf
    refine j_iload (pc := 256) M.1 dX1_bestFrom_256 2 rfl ?_
    exact jm_iret (pc := 258) M dX1_bestFrom_258 hf
  · replace hf := o_neg c1 hf
    refine j_aload_n (pc := 224) M.1 dX1_bestFrom_224 0 rfl ?_
    refine jm_getA (pc := 225) M fa_178 dX1_bestFrom_225 ?_
    refine j_iload (pc := 228) M.1 dX1_bestFrom_228 3 rfl ?_
    obtain ⟨b1, hf⟩ := o_need hf
    refine jm_iald (pc := 230) M ax_54 b1 dX1_bestFrom_230 ?_
    refine j_iload (pc := 231) M.1 dX1_bestFrom_231 2 rfl ?_
    refine j_icmp_le (pc := 233) M.1 246 dX1_bestFrom_233 rfl (fun c2 => ?_) (fun c2 => ?_)
    · replace hf := o_pos c2 hf
      refine j_iload (pc := 246) M.1 dX1_bestFrom_246 2 rfl ?_
      refine j_istore (pc := 248) M.1 [(4, .int a.1), (0, .ref o), (3, .int x3), (5, .int a.2.1)] dX1_bestFrom_248 rfl rfl ?_
      refine j_iinc (pc := 250) M.1 [(5, .int (a.2.1 + 1)), (4, .int a.1), (0, .ref o), (3, .int x3)] dX1_bestFrom_250 3 rfl (congrArg _ kc_iconst_1) rfl rfl ?_
      refine j_goto (pc := 253) M.1 218 dX1_bestFrom_253 rfl ?_
      refine j_sub [2, 3, 1, 0] (show lv_pick _ _ = [(0, .ref o), (3, .int x3), (4, .int a.1), (5, .int (a.2.1 + 1))] from rfl) ?_
      have hy := hR _ hf
      exact hy
    · replace hf := o_neg c2 hf
      refine j_aload_n (pc := 236) M.1 dX1_bestFrom_236 0 rfl ?_
      refine jm_getA (pc := 237) M fa_178 dX1_bestFrom_237 ?_
      refine j_iload (pc := 240) M.1 dX1_bestFrom_240 3 rfl ?_
      obtain ⟨b2, hf⟩ := o_need hf
      refine jm_iald (pc := 242) M ax_54 b2 dX1_bestFrom_242 ?_
      refine j_goto (pc := 243) M.1 248 dX1_bestFrom_243 rfl ?_
      obtain ⟨y1, e1, hf⟩ := o_nx hf
      refine j_top e1 ?_
      refine j_istore (pc := 248) M.1 [(4, .int y1), (0, .ref o), (3, .int x3), (5, .int a.2.1)] dX1_bestFrom_248 rfl rfl ?_
      refine j_iinc (pc := 250) M.1 [(5, .int (a.2.1 + 1)), (4, .int y1), (0, .ref o), (3, .int x3)] dX1_bestFrom_250 3 rfl (congrArg _ kc_iconst_1) rfl rfl ?_
      refine j_goto (pc := 253) M.1 218 dX1_bestFrom_253 rfl ?_
      refine j_sub [2, 3, 1, 0] (show lv_pick _ _ = [(0, .ref o), (3, .int x3), (4, .int y1), (5, .int (a.2.1 + 1))] from rfl) ?_
      have hy := hR _ hf
      exact hy
noncomputable def m_bestFrom (F : Nat) (x1 x2 : Int32) (σ : MS) : Option (Int32 × MS) :=
  nx (1 <<< ((x2 - x1) &&& 31) : Int32) (fun y1 => lp (m_bestFrom_B9 F (fun a1 => lp (m_bestFrom_B41 F (fun a2 => lp (m_bestFrom_B218 F y1) F (0, 0, a2.2)) x1 x2 y1) F (0, a1.2)) x1 x2 y1) F (0, σ))
theorem met_bestFrom {l : Launch} {G : gG} {o F : Nat} {x1 x2 : Int32} {σ : MS} {res : Int32 × MS} (hf : m_bestFrom F x1 x2 σ = some res) : MetMi l G yX1_bestFrom cX1_bestFrom 8 (some .int) 1 o [.int x1, .int x2] σ res := by
  refine metMi_of (by decide) rfl rfl (fun γ hγ M => ?_)
  subst hγ
  show J γ (MW G o σ) 0 0 0 [(0, .ref o), (1, .int x1), (2, .int x2)] []
  unfold m_bestFrom at hf
  refine j_iconst (pc := 0) M.1 dX1_bestFrom_0 kc_iconst_1 ?_
  refine j_iload_n (pc := 1) M.1 dX1_bestFrom_1 2 rfl ?_
  refine j_iload_n (pc := 2) M.1 dX1_bestFrom_2 1 rfl ?_
  refine j_isub (pc := 3) M.1 dX1_bestFrom_3 ?_
  refine j_ishl (pc := 4) M.1 dX1_bestFrom_4 ?_
  obtain ⟨y1, e1, hf⟩ := o_nx hf
  refine j_top e1 ?_
  refine j_istore_n (pc := 5) M.1 [(3, .int y1), (0, .ref o), (1, .int x1), (2, .int x2)] dX1_bestFrom_5 rfl rfl ?_
  refine j_iconst (pc := 6) M.1 dX1_bestFrom_6 kc_iconst_0 ?_
  refine j_istore (pc := 7) M.1 [(4, .int 0), (3, .int y1), (0, .ref o), (1, .int x1), (2, .int x2)] dX1_bestFrom_7 rfl rfl ?_
  refine j_sub [2, 3, 4, 1, 0] (show lv_pick _ _ = [(0, .ref o), (1, .int x1), (2, .int x2), (3, .int y1), (4, .int 0)] from rfl) ?_
  refine lp_W (km_bestFrom_B9 M x1 x2 y1 _ ?_) F (0, σ) hf
  · intro a1 hf
    refine j_iconst (pc := 38) M.1 dX1_bestFrom_38 kc_iconst_0 ?_
    refine j_istore (pc := 39) M.1 [(4, .int 0), (0, .ref o), (1, .int x1), (2, .int x2), (3, .int y1)] dX1_bestFrom_39 rfl rfl ?_
    refine j_sub [1, 2, 3, 4, 0] (show lv_pick _ _ = [(0, .ref o), (1, .int x1), (2, .int x2), (3, .int y1), (4, .int 0)] from rfl) ?_
    refine lp_W (km_bestFrom_B41 M x1 x2 y1 _ ?_) F (0, a1.2) hf
    · intro a2 hf
      refine j_iconst (pc := 212) M.1 dX1_bestFrom_212 kc_iconst_0 ?_
      refine j_istore (pc := 213) M.1 [(4, .int 0), (0, .ref o), (3, .int y1)] dX1_bestFrom_213 rfl rfl ?_
      refine j_iconst (pc := 215) M.1 dX1_bestFrom_215 kc_iconst_0 ?_
      refine j_istore (pc := 216) M.1 [(5, .int 0), (4, .int 0), (0, .ref o), (3, .int y1)] dX1_bestFrom_216 rfl rfl ?_
      refine j_sub [2, 3, 1, 0] (show lv_pick _ _ = [(0, .ref o), (3, .int y1), (4, .int 0), (5, .int 0)] from rfl) ?_
      refine lp_W (km_bestFrom_B218 M y1) F (0, 0, a2.2) hf
end
theorem dX1_byteHere_0 : decode cX1_byteHere 0 = .ok (.aload_n 0, 1) := by decide +kernel
theorem dX1_byteHere_1 : decode cX1_byteHere 1 = .ok (.getfield 348, 3) := by decide +kernel
theorem dX1_byteHere_4 : decode cX1_byteHere 4 = .ok (.aload_n 0, 1) := by decide +kernel
theorem dX1_byteHere_5 : decode cX1_byteHere 5 = .ok (.getfield 351, 3) := by decide +kernel
theorem dX1_byteHere_8 : decode cX1_byteHere 8 = .ok (.if_icmp .ge 19, 3) := by decide +kernel
theorem dX1_byteHere_11 : decode cX1_byteHere 11 = .ok (.aload_n 0, 1) := by decide +kernel
theorem dX1_byteHere_12 : decode cX1_byteHere 12 = .ok (.getfield 70, 3) := by decide +kernel
theorem dX1_byteHere_15 : decode cX1_byteHere 15 = .ok (.aload_n 0, 1) := by decide +kernel
theorem dX1_byteHere_16 : decode cX1_byteHere 16 = .ok (.getfield 348, 3) := by decide +kernel
theorem dX1_byteHere_19 : decode cX1_byteHere 19 = .ok (.baload, 1) := by decide +kernel
theorem dX1_byteHere_20 : decode cX1_byteHere 20 = .ok (.sipush 255, 3) := by decide +kernel
theorem dX1_byteHere_23 : decode cX1_byteHere 23 = .ok (.iand, 1) := by decide +kernel
theorem dX1_byteHere_24 : decode cX1_byteHere 24 = .ok (.goto 4, 3) := by decide +kernel
theorem dX1_byteHere_27 : decode cX1_byteHere 27 = .ok (.iconst (-1), 1) := by decide +kernel
theorem dX1_byteHere_28 : decode cX1_byteHere 28 = .ok (.ireturn, 1) := by decide +kernel
section
variable {res : Int32 × MS}
noncomputable def m_byteHere (F : Nat) (σ : MS) : Option (Int32 × MS) :=
  if (σ.1 30) ≤ (σ.1 29) then (some ((-1), σ)) else (if okI (σ.1 29) 400 = true then some ((σ.2 20 (σ.1 29).toNatClampNeg) &&& 255, σ) else none)
theorem met_byteHere {l : Launch} {G : gG} {o F : Nat} {σ : MS} {res : Int32 × MS} (hf : m_byteHere F σ = some res) : MetMi l G yX1_byteHere cX1_byteHere 1 (some .int) 1 o [] σ res := by
  refine metMi_of (by decide) rfl rfl (fun γ hγ M => ?_)
  subst hγ
  show J γ (MW G o σ) 0 0 0 [(0, .ref o)] []
  unfold m_byteHere at hf
  refine j_aload_n (pc := 0) M.1 dX1_byteHere_0 0 rfl ?_
  refine jm_getS (pc := 1) M fm_348 dX1_byteHere_1 ?_
  refine j_aload_n (pc := 4) M.1 dX1_byteHere_4 0 rfl ?_
  refine jm_getS (pc := 5) M fm_351 dX1_byteHere_5 ?_
  refine j_icmp_ge (pc := 8) M.1 27 dX1_byteHere_8 rfl (fun c1 => ?_) (fun c1 => ?_)
  · replace hf := o_pos c1 hf
    refine j_iconst (pc := 27) M.1 dX1_byteHere_27 kc_iconst_m1 ?_
    exact jm_iret (pc := 28) M dX1_byteHere_28 hf
  · replace hf := o_neg c1 hf
    refine j_aload_n (pc := 11) M.1 dX1_byteHere_11 0 rfl ?_
    refine jm_getA (pc := 12) M fa_70 dX1_byteHere_12 ?_
    refine j_aload_n (pc := 15) M.1 dX1_byteHere_15 0 rfl ?_
    refine jm_getS (pc := 16) M fm_348 dX1_byteHere_16 ?_
    obtain ⟨b1, hf⟩ := o_need hf
    refine jm_bald (pc := 19) M ax_20 b1 dX1_byteHere_19 ?_
    refine j_sipush (pc := 20) M.1 dX1_byteHere_20 kc_sipush_255 ?_
    refine j_iand (pc := 23) M.1 dX1_byteHere_23 ?_
    refine j_goto (pc := 24) M.1 28 dX1_byteHere_24 rfl ?_
    exact jm_iret (pc := 28) M dX1_byteHere_28 hf
end
theorem dX1_costs_0 : decode cX1_costs 0 = .ok (.iconst 0, 1) := by decide +kernel
theorem dX1_costs_1 : decode cX1_costs 1 = .ok (.istore_n 2, 1) := by decide +kernel
theorem dX1_costs_2 : decode cX1_costs 2 = .ok (.iconst 0, 1) := by decide +kernel
theorem dX1_costs_3 : decode cX1_costs 3 = .ok (.istore_n 3, 1) := by decide +kernel
theorem dX1_costs_4 : decode cX1_costs 4 = .ok (.iload_n 3, 1) := by decide +kernel
theorem dX1_costs_5 : decode cX1_costs 5 = .ok (.aload_n 0, 1) := by decide +kernel
theorem dX1_costs_6 : decode cX1_costs 6 = .ok (.getfield 555, 3) := by decide +kernel
theorem dX1_costs_9 : decode cX1_costs 9 = .ok (.if_icmp .ge 31, 3) := by decide +kernel
theorem dX1_costs_12 : decode cX1_costs 12 = .ok (.iload_n 2, 1) := by decide +kernel
theorem dX1_costs_13 : decode cX1_costs 13 = .ok (.iload_n 1, 1) := by decide +kernel
theorem dX1_costs_14 : decode cX1_costs 14 = .ok (.iload_n 3, 1) := by decide +kernel
theorem dX1_costs_15 : decode cX1_costs 15 = .ok (.ishr, 1) := by decide +kernel
theorem dX1_costs_16 : decode cX1_costs 16 = .ok (.iconst 1, 1) := by decide +kernel
theorem dX1_costs_17 : decode cX1_costs 17 = .ok (.iand, 1) := by decide +kernel
theorem dX1_costs_18 : decode cX1_costs 18 = .ok (.iconst 1, 1) := by decide +kernel
theorem dX1_costs_19 : decode cX1_costs 19 = .ok (.if_icmp .ne 12, 3) := by decide +kernel
theorem dX1_costs_22 : decode cX1_costs 22 = .ok (.aload_n 0, 1) := by decide +kernel
theorem dX1_costs_23 : decode cX1_costs 23 = .ok (.getfield 256, 3) := by decide +kernel
theorem dX1_costs_26 : decode cX1_costs 26 = .ok (.iload_n 3, 1) := by decide +kernel
theorem dX1_costs_27 : decode cX1_costs 27 = .ok (.iaload, 1) := by decide +kernel
theorem dX1_costs_28 : decode cX1_costs 28 = .ok (.goto 4, 3) := by decide +kernel
theorem dX1_costs_31 : decode cX1_costs 31 = .ok (.iconst 0, 1) := by decide +kernel
theorem dX1_costs_32 : decode cX1_costs 32 = .ok (.iadd, 1) := by decide +kernel
theorem dX1_costs_33 : decode cX1_costs 33 = .ok (.istore_n 2, 1) := by decide +kernel
theorem dX1_costs_34 : decode cX1_costs 34 = .ok (.iinc 3 1, 3) := by decide +kernel
theorem dX1_costs_37 : decode cX1_costs 37 = .ok (.goto (-33), 3) := by decide +kernel
theorem dX1_costs_40 : decode cX1_costs 40 = .ok (.iload_n 2, 1) := by decide +kernel
theorem dX1_costs_41 : decode cX1_costs 41 = .ok (.ireturn, 1) := by decide +kernel
section
variable {res : Int32 × MS}
noncomputable def m_costs_B4 (F : Nat) (x1 : Int32) (R : Int32 × Int32 × MS → Option (Int32 × MS)) (a : Int32 × Int32 × MS) : Option (Int32 × MS) :=
  if (a.2.2.1 101) ≤ a.2.1 then (some (a.1, a.2.2)) else (if ((x1 >>> (a.2.1 &&& 31)) &&& 1) = 1 then (if okI a.2.1 9 = true then nx (a.1 + (a.2.2.2 80 a.2.1.toNatClampNeg) : Int32) (fun y1 => R (y1, a.2.1 + 1, a.2.2)) else none) else (R (a.1 + 0, a.2.1 + 1, a.2.2)))
theorem km_costs_B4 (M : MC γ cX1_costs 4 G o 1 (some .int) (mQi G o res)) (x1 : Int32) : ∀ R : Int32 × Int32 × MS → Option (Int32 × MS), (∀ a, R a = some res → J γ (MW G o a.2.2) 0 0 4 [(0, .ref o), (1, .int x1), (2, .int a.1), (3, .int a.2.1)] []) → ∀ a, m_costs_B4 F x1 R a = some res → J γ (MW G o a.2.2) 0 0 4 [(0, .ref o), (1, .int x1), (2, .int a.1), (3, .int a.2.1)] [] := by
  intro R hR a hf
  unfold m_costs_B4 at hf
  refine j_iload_n (pc := 4) M.1 dX1_costs_4 3 rfl ?_
  refine j_aload_n (pc := 5) M.1 dX1_costs_5 0 rfl ?_
  refine jm_getS (pc := 6) M fm_555 dX1_costs_6 ?_
  refine j_icmp_ge (pc := 9) M.1 40 dX1_costs_9 rfl (fun c1 => ?_) (fun c1 => ?_)
  · replace hf := o_pos c1 hf
    refine j_iload_n (pc := 40) M.1 dX1_costs_40 2 rfl ?_
    exact jm_iret (pc := 41) M dX1_costs_41 hf
  · replace hf := o_neg c1 hf
    refine j_iload_n (pc := 12) M.1 dX1_costs_12 2 rfl ?_
    refine j_iload_n (pc := 13) M.1 dX1_costs_13 1 rfl ?_
    refine j_iload_n (pc := 14) M.1 dX1_costs_14 3 rfl ?_
    refine j_ishr (pc := 15) M.1 dX1_costs_15 ?_
    refine j_iconst (pc := 16) M.1 dX1_costs_16 kc_iconst_1 ?_
    refine j_iand (pc := 17) M.1 dX1_costs_17 ?_
    refine j_iconst (pc := 18) M.1 dX1_costs_18 kc_iconst_1 ?_
    refine j_icmp_ne (pc := 19) M.1 31 dX1_costs_19 rfl (fun c2 => ?_) (fun c2 => ?_)
    · replace hf := o_neg c2 hf
      refine j_iconst (pc := 31) M.1 dX1_costs_31 kc_iconst_0 ?_
      refine j_iadd (pc := 32) M.1 dX1_costs_32 ?_
      refine j_istore_n (pc := 33) M.1 [(2, .int (a.1 + 0)), (0, .ref o), (1, .int x1), (3, .int a.2.1)] dX1_costs_33 rfl rfl ?_
      refine j_iinc (pc := 34) M.1 [(3, .int (a.2.1 + 1)), (2, .int (a.1 + 0)), (0, .ref o), (1, .int x1)] dX1_costs_34 3 rfl (congrArg _ kc_iconst_1) rfl rfl ?_
      refine j_goto (pc := 37) M.1 4 dX1_costs_37 rfl ?_
      refine j_sub [2, 3, 1, 0] (show lv_pick _ _ = [(0, .ref o), (1, .int x1), (2, .int (a.1 + 0)), (3, .int (a.2.1 + 1))] from rfl) ?_
      have hy := hR _ hf
      exact hy
    · replace hf := o_pos c2 hf
      refine j_aload_n (pc := 22) M.1 dX1_costs_22 0 rfl ?_
      refine jm_getA (pc := 23) M fa_256 dX1_costs_23 ?_
      refine j_iload_n (pc := 26) M.1 dX1_costs_26 3 rfl ?_
      obtain ⟨b1, hf⟩ := o_need hf
      refine jm_iald (pc := 27) M ax_80 b1 dX1_costs_27 ?_
      refine j_goto (pc := 28) M.1 32 dX1_costs_28 rfl ?_
      refine j_iadd (pc := 32) M.1 dX1_costs_32 ?_
      obtain ⟨y1, e1, hf⟩ := o_nx hf
      refine j_top e1 ?_
      refine j_istore_n (pc := 33) M.1 [(2, .int y1), (0, .ref o), (1, .int x1), (3, .int a.2.1)] dX1_costs_33 rfl rfl ?_
      refine j_iinc (pc := 34) M.1 [(3, .int (a.2.1 + 1)), (2, .int y1), (0, .ref o), (1, .int x1)] dX1_costs_34 3 rfl (congrArg _ kc_iconst_1) rfl rfl ?_
      refine j_goto (pc := 37) M.1 4 dX1_costs_37 rfl ?_
      refine j_sub [2, 3, 1, 0] (show lv_pick _ _ = [(0, .ref o), (1, .int x1), (2, .int y1), (3, .int (a.2.1 + 1))] from rfl) ?_
      have hy := hR _ hf
      exact hy
noncomputable def m_costs (F : Nat) (x1 : Int32) (σ : MS) : Option (Int32 × MS) :=
  lp (m_costs_B4 F x1) F (0, 0, σ)
theorem met_costs {l : Launch} {G : gG} {o F : Nat} {x1 : Int32} {σ : MS} {res : Int32 × MS} (hf : m_costs F x1 σ = some res) : MetMi l G yX1_costs cX1_costs 4 (some .int) 1 o [.int x1] σ res := by
  refine metMi_of (by decide) rfl rfl (fun γ hγ M => ?_)
  subst hγ
  show J γ (MW G o σ) 0 0 0 [(0, .ref o), (1, .int x1)] []
  unfold m_costs at hf
  refine j_iconst (pc := 0) M.1 dX1_costs_0 kc_iconst_0 ?_
  refine j_istore_n (pc := 1) M.1 [(2, .int 0), (0, .ref o), (1, .int x1)] dX1_costs_1 rfl rfl ?_
  refine j_iconst (pc := 2) M.1 dX1_costs_2 kc_iconst_0 ?_
  refine j_istore_n (pc := 3) M.1 [(3, .int 0), (2, .int 0), (0, .ref o), (1, .int x1)] dX1_costs_3 rfl rfl ?_
  refine j_sub [2, 3, 1, 0] (show lv_pick _ _ = [(0, .ref o), (1, .int x1), (2, .int 0), (3, .int 0)] from rfl) ?_
  refine lp_W (km_costs_B4 M x1) F (0, 0, σ) hf
end
theorem dX1_draws_0 : decode cX1_draws 0 = .ok (.aload_n 0, 1) := by decide +kernel
theorem dX1_draws_1 : decode cX1_draws 1 = .ok (.getfield 196, 3) := by decide +kernel
theorem dX1_draws_4 : decode cX1_draws 4 = .ok (.aload_n 0, 1) := by decide +kernel
theorem dX1_draws_5 : decode cX1_draws 5 = .ok (.getfield 524, 3) := by decide +kernel
theorem dX1_draws_8 : decode cX1_draws 8 = .ok (.iload_n 1, 1) := by decide +kernel
theorem dX1_draws_9 : decode cX1_draws 9 = .ok (.iastore, 1) := by decide +kernel
theorem dX1_draws_10 : decode cX1_draws 10 = .ok (.aload_n 0, 1) := by decide +kernel
theorem dX1_draws_11 : decode cX1_draws 11 = .ok (.getfield 199, 3) := by decide +kernel
theorem dX1_draws_14 : decode cX1_draws 14 = .ok (.aload_n 0, 1) := by decide +kernel
theorem dX1_draws_15 : decode cX1_draws 15 = .ok (.getfield 524, 3) := by decide +kernel
theorem dX1_draws_18 : decode cX1_draws 18 = .ok (.iload_n 2, 1) := by decide +kernel
theorem dX1_draws_19 : decode cX1_draws 19 = .ok (.iastore, 1) := by decide +kernel
theorem dX1_draws_20 : decode cX1_draws 20 = .ok (.aload_n 0, 1) := by decide +kernel
theorem dX1_draws_21 : decode cX1_draws 21 = .ok (.getfield 202, 3) := by decide +kernel
theorem dX1_draws_24 : decode cX1_draws 24 = .ok (.aload_n 0, 1) := by decide +kernel
theorem dX1_draws_25 : decode cX1_draws 25 = .ok (.getfield 524, 3) := by decide +kernel
theorem dX1_draws_28 : decode cX1_draws 28 = .ok (.iload_n 3, 1) := by decide +kernel
theorem dX1_draws_29 : decode cX1_draws 29 = .ok (.iastore, 1) := by decide +kernel
theorem dX1_draws_30 : decode cX1_draws 30 = .ok (.aload_n 0, 1) := by decide +kernel
theorem dX1_draws_31 : decode cX1_draws 31 = .ok (.getfield 205, 3) := by decide +kernel
theorem dX1_draws_34 : decode cX1_draws 34 = .ok (.aload_n 0, 1) := by decide +kernel
theorem dX1_draws_35 : decode cX1_draws 35 = .ok (.getfield 524, 3) := by decide +kernel
theorem dX1_draws_38 : decode cX1_draws 38 = .ok (.aload_n 0, 1) := by decide +kernel
theorem dX1_draws_39 : decode cX1_draws 39 = .ok (.getfield 291, 3) := by decide +kernel
theorem dX1_draws_42 : decode cX1_draws 42 = .ok (.iastore, 1) := by decide +kernel
theorem dX1_draws_43 : decode cX1_draws 43 = .ok (.aload_n 0, 1) := by decide +kernel
theorem dX1_draws_44 : decode cX1_draws 44 = .ok (.getfield 211, 3) := by decide +kernel
theorem dX1_draws_47 : decode cX1_draws 47 = .ok (.aload_n 0, 1) := by decide +kernel
theorem dX1_draws_48 : decode cX1_draws 48 = .ok (.getfield 524, 3) := by decide +kernel
theorem dX1_draws_51 : decode cX1_draws 51 = .ok (.iload 4, 2) := by decide +kernel
theorem dX1_draws_53 : decode cX1_draws 53 = .ok (.bastore, 1) := by decide +kernel
theorem dX1_draws_54 : decode cX1_draws 54 = .ok (.aload_n 0, 1) := by decide +kernel
theorem dX1_draws_55 : decode cX1_draws 55 = .ok (.aload_n 0, 1) := by decide +kernel
theorem dX1_draws_56 : decode cX1_draws 56 = .ok (.getfield 524, 3) := by decide +kernel
theorem dX1_draws_59 : decode cX1_draws 59 = .ok (.iconst 1, 1) := by decide +kernel
theorem dX1_draws_60 : decode cX1_draws 60 = .ok (.iadd, 1) := by decide +kernel
theorem dX1_draws_61 : decode cX1_draws 61 = .ok (.putfield 524, 3) := by decide +kernel
theorem dX1_draws_64 : decode cX1_draws 64 = .ok (.aload_n 0, 1) := by decide +kernel
theorem dX1_draws_65 : decode cX1_draws 65 = .ok (.getfield 524, 3) := by decide +kernel
theorem dX1_draws_68 : decode cX1_draws 68 = .ok (.iconst 1, 1) := by decide +kernel
theorem dX1_draws_69 : decode cX1_draws 69 = .ok (.isub, 1) := by decide +kernel
theorem dX1_draws_70 : decode cX1_draws 70 = .ok (.ireturn, 1) := by decide +kernel
section
variable {res : Int32 × MS}
noncomputable def m_draws (F : Nat) (x1 x2 x3 x4 : Int32) (σ : MS) : Option (Int32 × MS) :=
  if okI (σ.1 80) 100 = true then nx (sA σ 60 (σ.1 80).toNatClampNeg x1) (fun σ1 => if okI (σ1.1 80) 100 = true then nx (sA σ1 61 (σ1.1 80).toNatClampNeg x2) (fun σ2 => if okI (σ2.1 80) 100 = true then nx (sA σ2 62 (σ2.1 80).toNatClampNeg x3) (fun σ3 => if okI (σ3.1 80) 100 = true then nx (sA σ3 63 (σ3.1 80).toNatClampNeg (σ3.1 2)) (fun σ4 => if okI (σ4.1 80) 100 = true then nx (sA σ4 65 (σ4.1 80).toNatClampNeg (vp_nar .boolean x4)) (fun σ5 => nx (sS σ5 80 ((σ5.1 80) + 1)) (fun σ6 => some ((σ6.1 80) - 1, σ6))) else none) else none) else none) else none) else none
theorem met_draws {l : Launch} {G : gG} {o F : Nat} {x1 x2 x3 x4 : Int32} {σ : MS} {res : Int32 × MS} (hf : m_draws F x1 x2 x3 x4 σ = some res) : MetMi l G yX1_draws cX1_draws 5 (some .int) 1 o [.int x1, .int x2, .int x3, .int x4] σ res := by
  refine metMi_of (by decide) rfl rfl (fun γ hγ M => ?_)
  subst hγ
  show J γ (MW G o σ) 0 0 0 [(0, .ref o), (1, .int x1), (2, .int x2), (3, .int x3), (4, .int x4)] []
  unfold m_draws at hf
  refine j_aload_n (pc := 0) M.1 dX1_draws_0 0 rfl ?_
  refine jm_getA (pc := 1) M fa_196 dX1_draws_1 ?_
  refine j_aload_n (pc := 4) M.1 dX1_draws_4 0 rfl ?_
  refine jm_getS (pc := 5) M fm_524 dX1_draws_5 ?_
  refine j_iload_n (pc := 8) M.1 dX1_draws_8 1 rfl ?_
  obtain ⟨b1, hf⟩ := o_need hf
  obtain ⟨σ1, e1, hf⟩ := o_nx hf
  refine jm_iast (pc := 9) M ax_60 b1 dX1_draws_9 e1 ?_
  refine j_aload_n (pc := 10) M.1 dX1_draws_10 0 rfl ?_
  refine jm_getA (pc := 11) M fa_199 dX1_draws_11 ?_
  refine j_aload_n (pc := 14) M.1 dX1_draws_14 0 rfl ?_
  refine jm_getS (pc := 15) M fm_524 dX1_draws_15 ?_
  refine j_iload_n (pc := 18) M.1 dX1_draws_18 2 rfl ?_
  obtain ⟨b2, hf⟩ := o_need hf
  obtain ⟨σ2, e2, hf⟩ := o_nx hf
  refine jm_iast (pc := 19) M ax_61 b2 dX1_draws_19 e2 ?_
  refine j_aload_n (pc := 20) M.1 dX1_draws_20 0 rfl ?_
  refine jm_getA (pc := 21) M fa_202 dX1_draws_21 ?_
  refine j_aload_n (pc := 24) M.1 dX1_draws_24 0 rfl ?_
  refine jm_getS (pc := 25) M fm_524 dX1_draws_25 ?_
  refine j_iload_n (pc := 28) M.1 dX1_draws_28 3 rfl ?_
  obtain ⟨b3, hf⟩ := o_need hf
  obtain ⟨σ3, e3, hf⟩ := o_nx hf
  refine jm_iast (pc := 29) M ax_62 b3 dX1_draws_29 e3 ?_
  refine j_aload_n (pc := 30) M.1 dX1_draws_30 0 rfl ?_
  refine jm_getA (pc := 31) M fa_205 dX1_draws_31 ?_
  refine j_aload_n (pc := 34) M.1 dX1_draws_34 0 rfl ?_
  refine jm_getS (pc := 35) M fm_524 dX1_draws_35 ?_
  refine j_aload_n (pc := 38) M.1 dX1_draws_38 0 rfl ?_
  refine jm_getS (pc := 39) M fm_291 dX1_draws_39 ?_
  obtain ⟨b4, hf⟩ := o_need hf
  obtain ⟨σ4, e4, hf⟩ := o_nx hf
  refine jm_iast (pc := 42) M ax_63 b4 dX1_draws_42 e4 ?_
  refine j_aload_n (pc := 43) M.1 dX1_draws_43 0 rfl ?_
  refine jm_getA (pc := 44) M fa_211 dX1_draws_44 ?_
  refine j_aload_n (pc := 47) M.1 dX1_draws_47 0 rfl ?_
  refine jm_getS (pc := 48) M fm_524 dX1_draws_48 ?_
  refine j_iload (pc := 51) M.1 dX1_draws_51 4 rfl ?_
  obtain ⟨b5, hf⟩ := o_need hf
  obtain ⟨σ5, e5, hf⟩ := o_nx hf
  refine jm_zast (pc := 53) M ax_65 b5 dX1_draws_53 e5 ?_
  refine j_aload_n (pc := 54) M.1 dX1_draws_54 0 rfl ?_
  refine j_aload_n (pc := 55) M.1 dX1_draws_55 0 rfl ?_
  refine jm_getS (pc := 56) M fm_524 dX1_draws_56 ?_
  refine j_iconst (pc := 59) M.1 dX1_draws_59 kc_iconst_1 ?_
  refine j_iadd (pc := 60) M.1 dX1_draws_60 ?_
  obtain ⟨σ6, e6, hf⟩ := o_nx hf
  refine jm_put (pc := 61) M fm_524 dX1_draws_61 e6 ?_
  refine j_aload_n (pc := 64) M.1 dX1_draws_64 0 rfl ?_
  refine jm_getS (pc := 65) M fm_524 dX1_draws_65 ?_
  refine j_iconst (pc := 68) M.1 dX1_draws_68 kc_iconst_1 ?_
  refine j_isub (pc := 69) M.1 dX1_draws_69 ?_
  exact jm_iret (pc := 70) M dX1_draws_70 hf
end
theorem dX1_factOf_0 : decode cX1_factOf 0 = .ok (.iload_n 0, 1) := by decide +kernel
theorem dX1_factOf_1 : decode cX1_factOf 1 = .ok (.bipush 119, 2) := by decide +kernel
theorem dX1_factOf_3 : decode cX1_factOf 3 = .ok (.if_icmp .ne 7, 3) := by decide +kernel
theorem dX1_factOf_6 : decode cX1_factOf 6 = .ok (.iconst 0, 1) := by decide +kernel
theorem dX1_factOf_7 : decode cX1_factOf 7 = .ok (.goto 44, 3) := by decide +kernel
theorem dX1_factOf_10 : decode cX1_factOf 10 = .ok (.iload_n 0, 1) := by decide +kernel
theorem dX1_factOf_11 : decode cX1_factOf 11 = .ok (.bipush 104, 2) := by decide +kernel
theorem dX1_factOf_13 : decode cX1_factOf 13 = .ok (.if_icmp .ne 7, 3) := by decide +kernel
theorem dX1_factOf_16 : decode cX1_factOf 16 = .ok (.iconst 1, 1) := by decide +kernel
theorem dX1_factOf_17 : decode cX1_factOf 17 = .ok (.goto 34, 3) := by decide +kernel
theorem dX1_factOf_20 : decode cX1_factOf 20 = .ok (.iload_n 0, 1) := by decide +kernel
theorem dX1_factOf_21 : decode cX1_factOf 21 = .ok (.bipush 107, 2) := by decide +kernel
theorem dX1_factOf_23 : decode cX1_factOf 23 = .ok (.if_icmp .ne 7, 3) := by decide +kernel
theorem dX1_factOf_26 : decode cX1_factOf 26 = .ok (.iconst 2, 1) := by decide +kernel
theorem dX1_factOf_27 : decode cX1_factOf 27 = .ok (.goto 24, 3) := by decide +kernel
theorem dX1_factOf_30 : decode cX1_factOf 30 = .ok (.iload_n 0, 1) := by decide +kernel
theorem dX1_factOf_31 : decode cX1_factOf 31 = .ok (.bipush 109, 2) := by decide +kernel
theorem dX1_factOf_33 : decode cX1_factOf 33 = .ok (.if_icmp .ne 7, 3) := by decide +kernel
theorem dX1_factOf_36 : decode cX1_factOf 36 = .ok (.iconst 3, 1) := by decide +kernel
theorem dX1_factOf_37 : decode cX1_factOf 37 = .ok (.goto 14, 3) := by decide +kernel
theorem dX1_factOf_40 : decode cX1_factOf 40 = .ok (.iload_n 0, 1) := by decide +kernel
theorem dX1_factOf_41 : decode cX1_factOf 41 = .ok (.bipush 112, 2) := by decide +kernel
theorem dX1_factOf_43 : decode cX1_factOf 43 = .ok (.if_icmp .ne 7, 3) := by decide +kernel
theorem dX1_factOf_46 : decode cX1_factOf 46 = .ok (.iconst 4, 1) := by decide +kernel
theorem dX1_factOf_47 : decode cX1_factOf 47 = .ok (.goto 4, 3) := by decide +kernel
theorem dX1_factOf_50 : decode cX1_factOf 50 = .ok (.iconst (-1), 1) := by decide +kernel
theorem dX1_factOf_51 : decode cX1_factOf 51 = .ok (.ireturn, 1) := by decide +kernel
section
variable {res : Int32}
noncomputable def m_factOf (F : Nat) (x0 : Int32) : Option Int32 :=
  if x0 = 119 then (some 0) else (if x0 = 104 then (some 1) else (if x0 = 107 then (some 2) else (if x0 = 109 then (some 3) else (if x0 = 112 then (some 4) else (some ((-1)))))))
theorem met_factOf {l : Launch} {F : Nat} {x0 : Int32} {res : Int32} (hf : m_factOf F x0 = some res) : MetSi l yX1_factOf cX1_factOf 1 (some .int) 1 [.int x0] res := by
  refine metSi_of (own := RX1) (by decide) rfl rfl (fun γ hγ M => ?_)
  subst hγ
  show J γ (sP γ) 0 0 0 [(0, .int x0)] []
  unfold m_factOf at hf
  refine j_iload_n (pc := 0) M.1 dX1_factOf_0 0 rfl ?_
  refine j_bipush (pc := 1) M.1 dX1_factOf_1 kc_bipush_119 ?_
  refine j_icmp_ne (pc := 3) M.1 10 dX1_factOf_3 rfl (fun c1 => ?_) (fun c1 => ?_)
  · replace hf := o_neg c1 hf
    refine j_iload_n (pc := 10) M.1 dX1_factOf_10 0 rfl ?_
    refine j_bipush (pc := 11) M.1 dX1_factOf_11 kc_bipush_104 ?_
    refine j_icmp_ne (pc := 13) M.1 20 dX1_factOf_13 rfl (fun c2 => ?_) (fun c2 => ?_)
    · replace hf := o_neg c2 hf
      refine j_iload_n (pc := 20) M.1 dX1_factOf_20 0 rfl ?_
      refine j_bipush (pc := 21) M.1 dX1_factOf_21 kc_bipush_107 ?_
      refine j_icmp_ne (pc := 23) M.1 30 dX1_factOf_23 rfl (fun c3 => ?_) (fun c3 => ?_)
      · replace hf := o_neg c3 hf
        refine j_iload_n (pc := 30) M.1 dX1_factOf_30 0 rfl ?_
        refine j_bipush (pc := 31) M.1 dX1_factOf_31 kc_bipush_109 ?_
        refine j_icmp_ne (pc := 33) M.1 40 dX1_factOf_33 rfl (fun c4 => ?_) (fun c4 => ?_)
        · replace hf := o_neg c4 hf
          refine j_iload_n (pc := 40) M.1 dX1_factOf_40 0 rfl ?_
          refine j_bipush (pc := 41) M.1 dX1_factOf_41 kc_bipush_112 ?_
          refine j_icmp_ne (pc := 43) M.1 50 dX1_factOf_43 rfl (fun c5 => ?_) (fun c5 => ?_)
          · replace hf := o_neg c5 hf
            refine j_iconst (pc := 50) M.1 dX1_factOf_50 kc_iconst_m1 ?_
            exact js_iret (pc := 51) M dX1_factOf_51 hf
          · replace hf := o_pos c5 hf
            refine j_iconst (pc := 46) M.1 dX1_factOf_46 kc_iconst_4 ?_
            refine j_goto (pc := 47) M.1 51 dX1_factOf_47 rfl ?_
            exact js_iret (pc := 51) M dX1_factOf_51 hf
        · replace hf := o_pos c4 hf
          refine j_iconst (pc := 36) M.1 dX1_factOf_36 kc_iconst_3 ?_
          refine j_goto (pc := 37) M.1 51 dX1_factOf_37 rfl ?_
          exact js_iret (pc := 51) M dX1_factOf_51 hf
      · replace hf := o_pos c3 hf
        refine j_iconst (pc := 26) M.1 dX1_factOf_26 kc_iconst_2 ?_
        refine j_goto (pc := 27) M.1 51 dX1_factOf_27 rfl ?_
        exact js_iret (pc := 51) M dX1_factOf_51 hf
    · replace hf := o_pos c2 hf
      refine j_iconst (pc := 16) M.1 dX1_factOf_16 kc_iconst_1 ?_
      refine j_goto (pc := 17) M.1 51 dX1_factOf_17 rfl ?_
      exact js_iret (pc := 51) M dX1_factOf_51 hf
  · replace hf := o_pos c1 hf
    refine j_iconst (pc := 6) M.1 dX1_factOf_6 kc_iconst_0 ?_
    refine j_goto (pc := 7) M.1 51 dX1_factOf_7 rfl ?_
    exact js_iret (pc := 51) M dX1_factOf_51 hf
end
theorem dX1_hasOpenSum_0 : decode cX1_hasOpenSum 0 = .ok (.iload_n 1, 1) := by decide +kernel
theorem dX1_hasOpenSum_1 : decode cX1_hasOpenSum 1 = .ok (.istore_n 2, 1) := by decide +kernel
theorem dX1_hasOpenSum_2 : decode cX1_hasOpenSum 2 = .ok (.iload_n 2, 1) := by decide +kernel
theorem dX1_hasOpenSum_3 : decode cX1_hasOpenSum 3 = .ok (.aload_n 0, 1) := by decide +kernel
theorem dX1_hasOpenSum_4 : decode cX1_hasOpenSum 4 = .ok (.getfield 378, 3) := by decide +kernel
theorem dX1_hasOpenSum_7 : decode cX1_hasOpenSum 7 = .ok (.if_icmp .ge 26, 3) := by decide +kernel
theorem dX1_hasOpenSum_10 : decode cX1_hasOpenSum 10 = .ok (.aload_n 0, 1) := by decide +kernel
theorem dX1_hasOpenSum_11 : decode cX1_hasOpenSum 11 = .ok (.getfield 77, 3) := by decide +kernel
theorem dX1_hasOpenSum_14 : decode cX1_hasOpenSum 14 = .ok (.iload_n 2, 1) := by decide +kernel
theorem dX1_hasOpenSum_15 : decode cX1_hasOpenSum 15 = .ok (.iaload, 1) := by decide +kernel
theorem dX1_hasOpenSum_16 : decode cX1_hasOpenSum 16 = .ok (.ldc_w 374, 3) := by decide +kernel
theorem dX1_hasOpenSum_19 : decode cX1_hasOpenSum 19 = .ok (.idiv, 1) := by decide +kernel
theorem dX1_hasOpenSum_20 : decode cX1_hasOpenSum 20 = .ok (.bipush 14, 2) := by decide +kernel
theorem dX1_hasOpenSum_22 : decode cX1_hasOpenSum 22 = .ok (.if_icmp .ne 5, 3) := by decide +kernel
theorem dX1_hasOpenSum_25 : decode cX1_hasOpenSum 25 = .ok (.iconst 1, 1) := by decide +kernel
theorem dX1_hasOpenSum_26 : decode cX1_hasOpenSum 26 = .ok (.ireturn, 1) := by decide +kernel
theorem dX1_hasOpenSum_27 : decode cX1_hasOpenSum 27 = .ok (.iinc 2 1, 3) := by decide +kernel
theorem dX1_hasOpenSum_30 : decode cX1_hasOpenSum 30 = .ok (.goto (-28), 3) := by decide +kernel
theorem dX1_hasOpenSum_33 : decode cX1_hasOpenSum 33 = .ok (.iconst 0, 1) := by decide +kernel
theorem dX1_hasOpenSum_34 : decode cX1_hasOpenSum 34 = .ok (.ireturn, 1) := by decide +kernel
section
variable {res : Int32 × MS}
noncomputable def m_hasOpenSum_B2 (F : Nat) (R : Int32 × MS → Option (Int32 × MS)) (a : Int32 × MS) : Option (Int32 × MS) :=
  if (a.2.1 35) ≤ a.1 then (some (0, a.2)) else (if okI a.1 180 = true then if ((a.2.2 22 a.1.toNatClampNeg) / 1048576) = 14 then (some (1, a.2)) else (R (a.1 + 1, a.2)) else none)
theorem km_hasOpenSum_B2 (M : MC γ cX1_hasOpenSum 3 G o 1 (some .boolean) (mQi G o res)) : ∀ R : Int32 × MS → Option (Int32 × MS), (∀ a, R a = some res → J γ (MW G o a.2) 0 0 2 [(0, .ref o), (2, .int a.1)] []) → ∀ a, m_hasOpenSum_B2 F R a = some res → J γ (MW G o a.2) 0 0 2 [(0, .ref o), (2, .int a.1)] [] := by
  intro R hR a hf
  unfold m_hasOpenSum_B2 at hf
  refine j_iload_n (pc := 2) M.1 dX1_hasOpenSum_2 1 rfl ?_
  refine j_aload_n (pc := 3) M.1 dX1_hasOpenSum_3 0 rfl ?_
  refine jm_getS (pc := 4) M fm_378 dX1_hasOpenSum_4 ?_
  refine j_icmp_ge (pc := 7) M.1 33 dX1_hasOpenSum_7 rfl (fun c1 => ?_) (fun c1 => ?_)
  · replace hf := o_pos c1 hf
    refine j_iconst (pc := 33) M.1 dX1_hasOpenSum_33 kc_iconst_0 ?_
    exact jm_zret (pc := 34) M dX1_hasOpenSum_34 rfl hf
  · replace hf := o_neg c1 hf
    refine j_aload_n (pc := 10) M.1 dX1_hasOpenSum_10 0 rfl ?_
    refine jm_getA (pc := 11) M fa_77 dX1_hasOpenSum_11 ?_
    refine j_iload_n (pc := 14) M.1 dX1_hasOpenSum_14 1 rfl ?_
    obtain ⟨b1, hf⟩ := o_need hf
    refine jm_iald (pc := 15) M ax_22 b1 dX1_hasOpenSum_15 ?_
    refine j_ldcw (pc := 16) M.1 q1824 dX1_hasOpenSum_16 ?_
    refine j_idiv (pc := 19) M.1 dX1_hasOpenSum_19 (by decide) ?_
    refine j_bipush (pc := 20) M.1 dX1_hasOpenSum_20 kc_bipush_14 ?_
    refine j_icmp_ne (pc := 22) M.1 27 dX1_hasOpenSum_22 rfl (fun c2 => ?_) (fun c2 => ?_)
    · replace hf := o_neg c2 hf
      refine j_iinc (pc := 27) M.1 [(2, .int (a.1 + 1)), (0, .ref o)] dX1_hasOpenSum_27 1 rfl (congrArg _ kc_iconst_1) rfl rfl ?_
      refine j_goto (pc := 30) M.1 2 dX1_hasOpenSum_30 rfl ?_
      refine j_sub [1, 0] (show lv_pick _ _ = [(0, .ref o), (2, .int (a.1 + 1))] from rfl) ?_
      have hy := hR _ hf
      exact hy
    · replace hf := o_pos c2 hf
      refine j_iconst (pc := 25) M.1 dX1_hasOpenSum_25 kc_iconst_1 ?_
      exact jm_zret (pc := 26) M dX1_hasOpenSum_26 rfl hf
noncomputable def m_hasOpenSum (F : Nat) (x1 : Int32) (σ : MS) : Option (Int32 × MS) :=
  lp (m_hasOpenSum_B2 F) F (x1, σ)
theorem met_hasOpenSum {l : Launch} {G : gG} {o F : Nat} {x1 : Int32} {σ : MS} {res : Int32 × MS} (hf : m_hasOpenSum F x1 σ = some res) : MetMi l G yX1_hasOpenSum cX1_hasOpenSum 3 (some .boolean) 1 o [.int x1] σ res := by
  refine metMi_of (by decide) rfl rfl (fun γ hγ M => ?_)
  subst hγ
  show J γ (MW G o σ) 0 0 0 [(0, .ref o), (1, .int x1)] []
  unfold m_hasOpenSum at hf
  refine j_iload_n (pc := 0) M.1 dX1_hasOpenSum_0 1 rfl ?_
  refine j_istore_n (pc := 1) M.1 [(2, .int x1), (0, .ref o), (1, .int x1)] dX1_hasOpenSum_1 rfl rfl ?_
  refine j_sub [1, 0] (show lv_pick _ _ = [(0, .ref o), (2, .int x1)] from rfl) ?_
  refine lp_W (km_hasOpenSum_B2 M) F (x1, σ) hf
end
theorem dX1_hours_0 : decode cX1_hours 0 = .ok (.iconst 0, 1) := by decide +kernel
theorem dX1_hours_1 : decode cX1_hours 1 = .ok (.istore_n 1, 1) := by decide +kernel
theorem dX1_hours_2 : decode cX1_hours 2 = .ok (.iload_n 1, 1) := by decide +kernel
theorem dX1_hours_3 : decode cX1_hours 3 = .ok (.bipush 8, 2) := by decide +kernel
theorem dX1_hours_5 : decode cX1_hours 5 = .ok (.if_icmp .ge 33, 3) := by decide +kernel
theorem dX1_hours_8 : decode cX1_hours 8 = .ok (.aload_n 0, 1) := by decide +kernel
theorem dX1_hours_9 : decode cX1_hours 9 = .ok (.getfield 226, 3) := by decide +kernel
theorem dX1_hours_12 : decode cX1_hours 12 = .ok (.iload_n 1, 1) := by decide +kernel
theorem dX1_hours_13 : decode cX1_hours 13 = .ok (.aload_n 0, 1) := by decide +kernel
theorem dX1_hours_14 : decode cX1_hours 14 = .ok (.getfield 214, 3) := by decide +kernel
theorem dX1_hours_17 : decode cX1_hours 17 = .ok (.iload_n 1, 1) := by decide +kernel
theorem dX1_hours_18 : decode cX1_hours 18 = .ok (.iaload, 1) := by decide +kernel
theorem dX1_hours_19 : decode cX1_hours 19 = .ok (.iastore, 1) := by decide +kernel
theorem dX1_hours_20 : decode cX1_hours 20 = .ok (.aload_n 0, 1) := by decide +kernel
theorem dX1_hours_21 : decode cX1_hours 21 = .ok (.getfield 229, 3) := by decide +kernel
theorem dX1_hours_24 : decode cX1_hours 24 = .ok (.iload_n 1, 1) := by decide +kernel
theorem dX1_hours_25 : decode cX1_hours 25 = .ok (.aload_n 0, 1) := by decide +kernel
theorem dX1_hours_26 : decode cX1_hours 26 = .ok (.getfield 217, 3) := by decide +kernel
theorem dX1_hours_29 : decode cX1_hours 29 = .ok (.iload_n 1, 1) := by decide +kernel
theorem dX1_hours_30 : decode cX1_hours 30 = .ok (.iaload, 1) := by decide +kernel
theorem dX1_hours_31 : decode cX1_hours 31 = .ok (.iastore, 1) := by decide +kernel
theorem dX1_hours_32 : decode cX1_hours 32 = .ok (.iinc 1 1, 3) := by decide +kernel
theorem dX1_hours_35 : decode cX1_hours 35 = .ok (.goto (-33), 3) := by decide +kernel
theorem dX1_hours_38 : decode cX1_hours 38 = .ok (.iconst 1, 1) := by decide +kernel
theorem dX1_hours_39 : decode cX1_hours 39 = .ok (.istore_n 1, 1) := by decide +kernel
theorem dX1_hours_40 : decode cX1_hours 40 = .ok (.iload_n 1, 1) := by decide +kernel
theorem dX1_hours_41 : decode cX1_hours 41 = .ok (.ifCond .eq 143, 3) := by decide +kernel
theorem dX1_hours_44 : decode cX1_hours 44 = .ok (.iconst 0, 1) := by decide +kernel
theorem dX1_hours_45 : decode cX1_hours 45 = .ok (.istore_n 1, 1) := by decide +kernel
theorem dX1_hours_46 : decode cX1_hours 46 = .ok (.iconst 0, 1) := by decide +kernel
theorem dX1_hours_47 : decode cX1_hours 47 = .ok (.istore_n 2, 1) := by decide +kernel
theorem dX1_hours_48 : decode cX1_hours 48 = .ok (.iload_n 2, 1) := by decide +kernel
theorem dX1_hours_49 : decode cX1_hours 49 = .ok (.aload_n 0, 1) := by decide +kernel
theorem dX1_hours_50 : decode cX1_hours 50 = .ok (.getfield 540, 3) := by decide +kernel
theorem dX1_hours_53 : decode cX1_hours 53 = .ok (.if_icmp .ge 128, 3) := by decide +kernel
theorem dX1_hours_56 : decode cX1_hours 56 = .ok (.aload_n 0, 1) := by decide +kernel
theorem dX1_hours_57 : decode cX1_hours 57 = .ok (.getfield 220, 3) := by decide +kernel
theorem dX1_hours_60 : decode cX1_hours 60 = .ok (.iload_n 2, 1) := by decide +kernel
theorem dX1_hours_61 : decode cX1_hours 61 = .ok (.iaload, 1) := by decide +kernel
theorem dX1_hours_62 : decode cX1_hours 62 = .ok (.istore_n 3, 1) := by decide +kernel
theorem dX1_hours_63 : decode cX1_hours 63 = .ok (.aload_n 0, 1) := by decide +kernel
theorem dX1_hours_64 : decode cX1_hours 64 = .ok (.getfield 223, 3) := by decide +kernel
theorem dX1_hours_67 : decode cX1_hours 67 = .ok (.iload_n 2, 1) := by decide +kernel
theorem dX1_hours_68 : decode cX1_hours 68 = .ok (.iaload, 1) := by decide +kernel
theorem dX1_hours_69 : decode cX1_hours 69 = .ok (.istore 4, 2) := by decide +kernel
theorem dX1_hours_71 : decode cX1_hours 71 = .ok (.aload_n 0, 1) := by decide +kernel
theorem dX1_hours_72 : decode cX1_hours 72 = .ok (.getfield 226, 3) := by decide +kernel
theorem dX1_hours_75 : decode cX1_hours 75 = .ok (.iload_n 3, 1) := by decide +kernel
theorem dX1_hours_76 : decode cX1_hours 76 = .ok (.iaload, 1) := by decide +kernel
theorem dX1_hours_77 : decode cX1_hours 77 = .ok (.aload_n 0, 1) := by decide +kernel
theorem dX1_hours_78 : decode cX1_hours 78 = .ok (.getfield 226, 3) := by decide +kernel
theorem dX1_hours_81 : decode cX1_hours 81 = .ok (.iload 4, 2) := by decide +kernel
theorem dX1_hours_83 : decode cX1_hours 83 = .ok (.iaload, 1) := by decide +kernel
theorem dX1_hours_84 : decode cX1_hours 84 = .ok (.iconst 1, 1) := by decide +kernel
theorem dX1_hours_85 : decode cX1_hours 85 = .ok (.iadd, 1) := by decide +kernel
theorem dX1_hours_86 : decode cX1_hours 86 = .ok (.if_icmp .ge 20, 3) := by decide +kernel
theorem dX1_hours_89 : decode cX1_hours 89 = .ok (.aload_n 0, 1) := by decide +kernel
theorem dX1_hours_90 : decode cX1_hours 90 = .ok (.getfield 226, 3) := by decide +kernel
theorem dX1_hours_93 : decode cX1_hours 93 = .ok (.iload_n 3, 1) := by decide +kernel
theorem dX1_hours_94 : decode cX1_hours 94 = .ok (.aload_n 0, 1) := by decide +kernel
theorem dX1_hours_95 : decode cX1_hours 95 = .ok (.getfield 226, 3) := by decide +kernel
theorem dX1_hours_98 : decode cX1_hours 98 = .ok (.iload 4, 2) := by decide +kernel
theorem dX1_hours_100 : decode cX1_hours 100 = .ok (.iaload, 1) := by decide +kernel
theorem dX1_hours_101 : decode cX1_hours 101 = .ok (.iconst 1, 1) := by decide +kernel
theorem dX1_hours_102 : decode cX1_hours 102 = .ok (.iadd, 1) := by decide +kernel
theorem dX1_hours_103 : decode cX1_hours 103 = .ok (.iastore, 1) := by decide +kernel
theorem dX1_hours_104 : decode cX1_hours 104 = .ok (.iconst 1, 1) := by decide +kernel
theorem dX1_hours_105 : decode cX1_hours 105 = .ok (.istore_n 1, 1) := by decide +kernel
theorem dX1_hours_106 : decode cX1_hours 106 = .ok (.aload_n 0, 1) := by decide +kernel
theorem dX1_hours_107 : decode cX1_hours 107 = .ok (.getfield 229, 3) := by decide +kernel
theorem dX1_hours_110 : decode cX1_hours 110 = .ok (.iload 4, 2) := by decide +kernel
theorem dX1_hours_112 : decode cX1_hours 112 = .ok (.iaload, 1) := by decide +kernel
theorem dX1_hours_113 : decode cX1_hours 113 = .ok (.aload_n 0, 1) := by decide +kernel
theorem dX1_hours_114 : decode cX1_hours 114 = .ok (.getfield 229, 3) := by decide +kernel
theorem dX1_hours_117 : decode cX1_hours 117 = .ok (.iload_n 3, 1) := by decide +kernel
theorem dX1_hours_118 : decode cX1_hours 118 = .ok (.iaload, 1) := by decide +kernel
theorem dX1_hours_119 : decode cX1_hours 119 = .ok (.iconst 1, 1) := by decide +kernel
theorem dX1_hours_120 : decode cX1_hours 120 = .ok (.isub, 1) := by decide +kernel
theorem dX1_hours_121 : decode cX1_hours 121 = .ok (.if_icmp .le 20, 3) := by decide +kernel
theorem dX1_hours_124 : decode cX1_hours 124 = .ok (.aload_n 0, 1) := by decide +kernel
theorem dX1_hours_125 : decode cX1_hours 125 = .ok (.getfield 229, 3) := by decide +kernel
theorem dX1_hours_128 : decode cX1_hours 128 = .ok (.iload 4, 2) := by decide +kernel
theorem dX1_hours_130 : decode cX1_hours 130 = .ok (.aload_n 0, 1) := by decide +kernel
theorem dX1_hours_131 : decode cX1_hours 131 = .ok (.getfield 229, 3) := by decide +kernel
theorem dX1_hours_134 : decode cX1_hours 134 = .ok (.iload_n 3, 1) := by decide +kernel
theorem dX1_hours_135 : decode cX1_hours 135 = .ok (.iaload, 1) := by decide +kernel
theorem dX1_hours_136 : decode cX1_hours 136 = .ok (.iconst 1, 1) := by decide +kernel
theorem dX1_hours_137 : decode cX1_hours 137 = .ok (.isub, 1) := by decide +kernel
theorem dX1_hours_138 : decode cX1_hours 138 = .ok (.iastore, 1) := by decide +kernel
theorem dX1_hours_139 : decode cX1_hours 139 = .ok (.iconst 1, 1) := by decide +kernel
theorem dX1_hours_140 : decode cX1_hours 140 = .ok (.istore_n 1, 1) := by decide +kernel
theorem dX1_hours_141 : decode cX1_hours 141 = .ok (.aload_n 0, 1) := by decide +kernel
theorem dX1_hours_142 : decode cX1_hours 142 = .ok (.getfield 226, 3) := by decide +kernel
theorem dX1_hours_145 : decode cX1_hours 145 = .ok (.iload_n 3, 1) := by decide +kernel
theorem dX1_hours_146 : decode cX1_hours 146 = .ok (.iaload, 1) := by decide +kernel
theorem dX1_hours_147 : decode cX1_hours 147 = .ok (.aload_n 0, 1) := by decide +kernel
theorem dX1_hours_148 : decode cX1_hours 148 = .ok (.getfield 229, 3) := by decide +kernel
theorem dX1_hours_151 : decode cX1_hours 151 = .ok (.iload_n 3, 1) := by decide +kernel
theorem dX1_hours_152 : decode cX1_hours 152 = .ok (.iaload, 1) := by decide +kernel
theorem dX1_hours_153 : decode cX1_hours 153 = .ok (.if_icmp .gt 20, 3) := by decide +kernel
theorem dX1_hours_156 : decode cX1_hours 156 = .ok (.aload_n 0, 1) := by decide +kernel
theorem dX1_hours_157 : decode cX1_hours 157 = .ok (.getfield 226, 3) := by decide +kernel
theorem dX1_hours_160 : decode cX1_hours 160 = .ok (.iload 4, 2) := by decide +kernel
theorem dX1_hours_162 : decode cX1_hours 162 = .ok (.iaload, 1) := by decide +kernel
theorem dX1_hours_163 : decode cX1_hours 163 = .ok (.aload_n 0, 1) := by decide +kernel
theorem dX1_hours_164 : decode cX1_hours 164 = .ok (.getfield 229, 3) := by decide +kernel
theorem dX1_hours_167 : decode cX1_hours 167 = .ok (.iload 4, 2) := by decide +kernel
theorem dX1_hours_169 : decode cX1_hours 169 = .ok (.iaload, 1) := by decide +kernel
theorem dX1_hours_170 : decode cX1_hours 170 = .ok (.if_icmp .le 5, 3) := by decide +kernel
theorem dX1_hours_173 : decode cX1_hours 173 = .ok (.iconst 0, 1) := by decide +kernel
theorem dX1_hours_174 : decode cX1_hours 174 = .ok (.ireturn, 1) := by decide +kernel
theorem dX1_hours_175 : decode cX1_hours 175 = .ok (.iinc 2 1, 3) := by decide +kernel
theorem dX1_hours_178 : decode cX1_hours 178 = .ok (.goto (-130), 3) := by decide +kernel
theorem dX1_hours_181 : decode cX1_hours 181 = .ok (.goto (-141), 3) := by decide +kernel
theorem dX1_hours_184 : decode cX1_hours 184 = .ok (.iconst 1, 1) := by decide +kernel
theorem dX1_hours_185 : decode cX1_hours 185 = .ok (.ireturn, 1) := by decide +kernel
section
variable {res : Int32 × MS}
noncomputable def m_hours_B2 (F : Nat) (K38 : Int32 × MS → Option (Int32 × MS)) (R : Int32 × MS → Option (Int32 × MS)) (a : Int32 × MS) : Option (Int32 × MS) :=
  if 8 ≤ a.1 then (K38 (a.1, a.2)) else (if okI a.1 8 = true then if okI a.1 8 = true then nx (sA a.2 70 a.1.toNatClampNeg (a.2.2 66 a.1.toNatClampNeg)) (fun σ1 => if okI a.1 8 = true then if okI a.1 8 = true then nx (sA σ1 71 a.1.toNatClampNeg (σ1.2 67 a.1.toNatClampNeg)) (fun σ2 => R (a.1 + 1, σ2)) else none else none) else none else none)
theorem km_hours_B2 (M : MC γ cX1_hours 5 G o 1 (some .boolean) (mQi G o res)) (K38 : Int32 × MS → Option (Int32 × MS)) (hK38 : ∀ a, K38 a = some res → J γ (MW G o a.2) 0 0 38 [(0, .ref o)] []) : ∀ R : Int32 × MS → Option (Int32 × MS), (∀ a, R a = some res → J γ (MW G o a.2) 0 0 2 [(0, .ref o), (1, .int a.1)] []) → ∀ a, m_hours_B2 F K38 R a = some res → J γ (MW G o a.2) 0 0 2 [(0, .ref o), (1, .int a.1)] [] := by
  intro R hR a hf
  unfold m_hours_B2 at hf
  refine j_iload_n (pc := 2) M.1 dX1_hours_2 1 rfl ?_
  refine j_bipush (pc := 3) M.1 dX1_hours_3 kc_bipush_8 ?_
  refine j_icmp_ge (pc := 5) M.1 38 dX1_hours_5 rfl (fun c1 => ?_) (fun c1 => ?_)
  · replace hf := o_pos c1 hf
    refine j_sub [0] (show lv_pick _ _ = [(0, .ref o)] from rfl) ?_
    have hy := hK38 _ hf
    exact hy
  · replace hf := o_neg c1 hf
    refine j_aload_n (pc := 8) M.1 dX1_hours_8 0 rfl ?_
    refine jm_getA (pc := 9) M fa_226 dX1_hours_9 ?_
    refine j_iload_n (pc := 12) M.1 dX1_hours_12 1 rfl ?_
    refine j_aload_n (pc := 13) M.1 dX1_hours_13 0 rfl ?_
    refine jm_getA (pc := 14) M fa_214 dX1_hours_14 ?_
    refine j_iload_n (pc := 17) M.1 dX1_hours_17 1 rfl ?_
    obtain ⟨b1, hf⟩ := o_need hf
    refine jm_iald (pc := 18) M ax_66 b1 dX1_hours_18 ?_
    obtain ⟨b2, hf⟩ := o_need hf
    obtain ⟨σ1, e1, hf⟩ := o_nx hf
    refine jm_iast (pc := 19) M ax_70 b2 dX1_hours_19 e1 ?_
    refine j_aload_n (pc := 20) M.1 dX1_hours_20 0 rfl ?_
    refine jm_getA (pc := 21) M fa_229 dX1_hours_21 ?_
    refine j_iload_n (pc := 24) M.1 dX1_hours_24 1 rfl ?_
    refine j_aload_n (pc := 25) M.1 dX1_hours_25 0 rfl ?_
    refine jm_getA (pc := 26) M fa_217 dX1_hours_26 ?_
    refine j_iload_n (pc := 29) M.1 dX1_hours_29 1 rfl ?_
    obtain ⟨b3, hf⟩ := o_need hf
    refine jm_iald (pc := 30) M ax_67 b3 dX1_hours_30 ?_
    obtain ⟨b4, hf⟩ := o_need hf
    obtain ⟨σ2, e2, hf⟩ := o_nx hf
    refine jm_iast (pc := 31) M ax_71 b4 dX1_hours_31 e2 ?_
    refine j_iinc (pc := 32) M.1 [(1, .int (a.1 + 1)), (0, .ref o)] dX1_hours_32 1 rfl (congrArg _ kc_iconst_1) rfl rfl ?_
    refine j_goto (pc := 35) M.1 2 dX1_hours_35 rfl ?_
    refine j_sub [1, 0] (show lv_pick _ _ = [(0, .ref o), (1, .int (a.1 + 1))] from rfl) ?_
    have hy := hR _ hf
    exact hy
noncomputable def m_hours_141 (F : Nat) (K181 : Int32 × Int32 × MS → Option (Int32 × MS)) (R : Int32 × Int32 × MS → Option (Int32 × MS)) (x1 x2 x3 x4 : Int32) (σ : MS) : Option (Int32 × MS) :=
  if okI x3 8 = true then if okI x3 8 = true then if (σ.2 71 x3.toNatClampNeg) < (σ.2 70 x3.toNatClampNeg) then (some (0, σ)) else (if okI x4 8 = true then if okI x4 8 = true then if (σ.2 70 x4.toNatClampNeg) ≤ (σ.2 71 x4.toNatClampNeg) then (R (x1, x2 + 1, σ)) else (some (0, σ)) else none else none) else none else none
theorem km_hours_141 (M : MC γ cX1_hours 5 G o 1 (some .boolean) (mQi G o res)) (x1 x2 x3 x4 : Int32) (K181 : Int32 × Int32 × MS → Option (Int32 × MS)) (hK181 : ∀ a, K181 a = some res → J γ (MW G o a.2.2) 0 0 181 [(0, .ref o), (1, .int a.1)] []) (R : Int32 × Int32 × MS → Option (Int32 × MS)) (hR : ∀ a, R a = some res → J γ (MW G o a.2.2) 0 0 48 [(0, .ref o), (1, .int a.1), (2, .int a.2.1)] []) (σ : MS) (hf : m_hours_141 F K181 R x1 x2 x3 x4 σ = some res) : J γ (MW G o σ) 0 0 141 [(0, .ref o), (1, .int x1), (2, .int x2), (3, .int x3), (4, .int x4)] [] := by
  unfold m_hours_141 at hf
  refine j_aload_n (pc := 141) M.1 dX1_hours_141 0 rfl ?_
  refine jm_getA (pc := 142) M fa_226 dX1_hours_142 ?_
  refine j_iload_n (pc := 145) M.1 dX1_hours_145 3 rfl ?_
  obtain ⟨b1, hf⟩ := o_need hf
  refine jm_iald (pc := 146) M ax_70 b1 dX1_hours_146 ?_
  refine j_aload_n (pc := 147) M.1 dX1_hours_147 0 rfl ?_
  refine jm_getA (pc := 148) M fa_229 dX1_hours_148 ?_
  refine j_iload_n (pc := 151) M.1 dX1_hours_151 3 rfl ?_
  obtain ⟨b2, hf⟩ := o_need hf
  refine jm_iald (pc := 152) M ax_71 b2 dX1_hours_152 ?_
  refine j_icmp_gt (pc := 153) M.1 173 dX1_hours_153 rfl (fun c1 => ?_) (fun c1 => ?_)
  · replace hf := o_pos c1 hf
    refine j_iconst (pc := 173) M.1 dX1_hours_173 kc_iconst_0 ?_
    exact jm_zret (pc := 174) M dX1_hours_174 rfl hf
  · replace hf := o_neg c1 hf
    refine j_aload_n (pc := 156) M.1 dX1_hours_156 0 rfl ?_
    refine jm_getA (pc := 157) M fa_226 dX1_hours_157 ?_
    refine j_iload (pc := 160) M.1 dX1_hours_160 4 rfl ?_
    obtain ⟨b3, hf⟩ := o_need hf
    refine jm_iald (pc := 162) M ax_70 b3 dX1_hours_162 ?_
    refine j_aload_n (pc := 163) M.1 dX1_hours_163 0 rfl ?_
    refine jm_getA (pc := 164) M fa_229 dX1_hours_164 ?_
    refine j_iload (pc := 167) M.1 dX1_hours_167 4 rfl ?_
    obtain ⟨b4, hf⟩ := o_need hf
    refine jm_iald (pc := 169) M ax_71 b4 dX1_hours_169 ?_
    refine j_icmp_le (pc := 170) M.1 175 dX1_hours_170 rfl (fun c2 => ?_) (fun c2 => ?_)
    · replace hf := o_pos c2 hf
      refine j_iinc (pc := 175) M.1 [(2, .int (x2 + 1)), (0, .ref o), (1, .int x1), (3, .int x3), (4, .int x4)] dX1_hours_175 2 rfl (congrArg _ kc_iconst_1) rfl rfl ?_
      refine j_goto (pc := 178) M.1 48 dX1_hours_178 rfl ?_
      refine j_sub [1, 2, 0] (show lv_pick _ _ = [(0, .ref o), (1, .int x1), (2, .int (x2 + 1))] from rfl) ?_
      have hy := hR _ hf
      exact hy
    · replace hf := o_neg c2 hf
      refine j_iconst (pc := 173) M.1 dX1_hours_173 kc_iconst_0 ?_
      exact jm_zret (pc := 174) M dX1_hours_174 rfl hf
noncomputable def m_hours_106 (F : Nat) (K181 : Int32 × Int32 × MS → Option (Int32 × MS)) (R : Int32 × Int32 × MS → Option (Int32 × MS)) (x1 x2 x3 x4 : Int32) (σ : MS) : Option (Int32 × MS) :=
  if okI x4 8 = true then if okI x3 8 = true then if (σ.2 71 x4.toNatClampNeg) ≤ ((σ.2 71 x3.toNatClampNeg) - 1) then (m_hours_141 F K181 R x1 x2 x3 x4 σ) else (if okI x3 8 = true then if okI x4 8 = true then nx (sA σ 71 x4.toNatClampNeg ((σ.2 71 x3.toNatClampNeg) - 1)) (fun σ1 => m_hours_141 F K181 R 1 x2 x3 x4 σ1) else none else none) else none else none
theorem km_hours_106 (M : MC γ cX1_hours 5 G o 1 (some .boolean) (mQi G o res)) (x1 x2 x3 x4 : Int32) (K181 : Int32 × Int32 × MS → Option (Int32 × MS)) (hK181 : ∀ a, K181 a = some res → J γ (MW G o a.2.2) 0 0 181 [(0, .ref o), (1, .int a.1)] []) (R : Int32 × Int32 × MS → Option (Int32 × MS)) (hR : ∀ a, R a = some res → J γ (MW G o a.2.2) 0 0 48 [(0, .ref o), (1, .int a.1), (2, .int a.2.1)] []) (σ : MS) (hf : m_hours_106 F K181 R x1 x2 x3 x4 σ = some res) : J γ (MW G o σ) 0 0 106 [(0, .ref o), (1, .int x1), (2, .int x2), (3, .int x3), (4, .int x4)] [] := by
  unfold m_hours_106 at hf
  refine j_aload_n (pc := 106) M.1 dX1_hours_106 0 rfl ?_
  refine jm_getA (pc := 107) M fa_229 dX1_hours_107 ?_
  refine j_iload (pc := 110) M.1 dX1_hours_110 4 rfl ?_
  obtain ⟨b1, hf⟩ := o_need hf
  refine jm_iald (pc := 112) M ax_71 b1 dX1_hours_112 ?_
  refine j_aload_n (pc := 113) M.1 dX1_hours_113 0 rfl ?_
  refine jm_getA (pc := 114) M fa_229 dX1_hours_114 ?_
  refine j_iload_n (pc := 117) M.1 dX1_hours_117 3 rfl ?_
  obtain ⟨b2, hf⟩ := o_need hf
  refine jm_iald (pc := 118) M ax_71 b2 dX1_hours_118 ?_
  refine j_iconst (pc := 119) M.1 dX1_hours_119 kc_iconst_1 ?_
  refine j_isub (pc := 120) M.1 dX1_hours_120 ?_
  refine j_icmp_le (pc := 121) M.1 141 dX1_hours_121 rfl (fun c1 => ?_) (fun c1 => ?_)
  · replace hf := o_pos c1 hf
    exact km_hours_141 M x1 x2 x3 x4 K181 hK181 R hR σ hf
  · replace hf := o_neg c1 hf
    refine j_aload_n (pc := 124) M.1 dX1_hours_124 0 rfl ?_
    refine jm_getA (pc := 125) M fa_229 dX1_hours_125 ?_
    refine j_iload (pc := 128) M.1 dX1_hours_128 4 rfl ?_
    refine j_aload_n (pc := 130) M.1 dX1_hours_130 0 rfl ?_
    refine jm_getA (pc := 131) M fa_229 dX1_hours_131 ?_
    refine j_iload_n (pc := 134) M.1 dX1_hours_134 3 rfl ?_
    obtain ⟨b3, hf⟩ := o_need hf
    refine jm_iald (pc := 135) M ax_71 b3 dX1_hours_135 ?_
    refine j_iconst (pc := 136) M.1 dX1_hours_136 kc_iconst_1 ?_
    refine j_isub (pc := 137) M.1 dX1_hours_137 ?_
    obtain ⟨b4, hf⟩ := o_need hf
    obtain ⟨σ1, e1, hf⟩ := o_nx hf
    refine jm_iast (pc := 138) M ax_71 b4 dX1_hours_138 e1 ?_
    refine j_iconst (pc := 139) M.1 dX1_hours_139 kc_iconst_1 ?_
    refine j_istore_n (pc := 140) M.1 [(1, .int 1), (0, .ref o), (2, .int x2), (3, .int x3), (4, .int x4)] dX1_hours_140 rfl rfl ?_
    refine j_sub [1, 0, 2, 3, 4] (show lv_pick _ _ = [(0, .ref o), (1, .int 1), (2, .int x2), (3, .int x3), (4, .int x4)] from rfl) ?_
    exact km_hours_141 M 1 x2 x3 x4 K181 hK181 R hR σ1 hf
noncomputable def m_hours_B48 (F : Nat) (K181 : Int32 × Int32 × MS → Option (Int32 × MS)) (R : Int32 × Int32 × MS → Option (Int32 × MS)) (a : Int32 × Int32 × MS) : Option (Int32 × MS) :=
  if (a.2.2.1 89) ≤ a.2.1 then (K181 (a.1, a.2.1, a.2.2)) else (if okI a.2.1 40 = true then nx (a.2.2.2 68 a.2.1.toNatClampNeg : Int32) (fun y1 => if okI a.2.1 40 = true then nx (a.2.2.2 69 a.2.1.toNatClampNeg : Int32) (fun y2 => if okI y1 8 = true then if okI y2 8 = true then if ((a.2.2.2 70 y2.toNatClampNeg) + 1) ≤ (a.2.2.2 70 y1.toNatClampNeg) then (m_hours_106 F K181 R a.1 a.2.1 y1 y2 a.2.2) else (if okI y2 8 = true then if okI y1 8 = true then nx (sA a.2.2 70 y1.toNatClampNeg ((a.2.2.2 70 y2.toNatClampNeg) + 1)) (fun σ1 => m_hours_106 F K181 R 1 a.2.1 y1 y2 σ1) else none else none) else none else none) else none) else none)
theorem km_hours_B48 (M : MC γ cX1_hours 5 G o 1 (some .boolean) (mQi G o res)) (K181 : Int32 × Int32 × MS → Option (Int32 × MS)) (hK181 : ∀ a, K181 a = some res → J γ (MW G o a.2.2) 0 0 181 [(0, .ref o), (1, .int a.1)] []) : ∀ R : Int32 × Int32 × MS → Option (Int32 × MS), (∀ a, R a = some res → J γ (MW G o a.2.2) 0 0 48 [(0, .ref o), (1, .int a.1), (2, .int a.2.1)] []) → ∀ a, m_hours_B48 F K181 R a = some res → J γ (MW G o a.2.2) 0 0 48 [(0, .ref o), (1, .int a.1), (2, .int a.2.1)] [] := by
  intro R hR a hf
  unfold m_hours_B48 at hf
  refine j_iload_n (pc := 48) M.1 dX1_hours_48 2 rfl ?_
  refine j_aload_n (pc := 49) M.1 dX1_hours_49 0 rfl ?_
  refine jm_getS (pc := 50) M fm_540 dX1_hours_50 ?_
  refine j_icmp_ge (pc := 53) M.1 181 dX1_hours_53 rfl (fun c1 => ?_) (fun c1 => ?_)
  · replace hf := o_pos c1 hf
    refine j_sub [0, 1] (show lv_pick _ _ = [(0, .ref o), (1, .int a.1)] from rfl) ?_
    have hy := hK181 _ hf
    exact hy
  · replace hf := o_neg c1 hf
    refine j_aload_n (pc := 56) M.1 dX1_hours_56 0 rfl ?_
    refine jm_getA (pc := 57) M fa_220 dX1_hours_57 ?_
    refine j_iload_n (pc := 60) M.1 dX1_hours_60 2 rfl ?_
    obtain ⟨b1, hf⟩ := o_need hf
    refine jm_iald (pc := 61) M ax_68 b1 dX1_hours_61 ?_
    obtain ⟨y1, e1, hf⟩ := o_nx hf
    refine j_top e1 ?_
    refine j_istore_n (pc := 62) M.1 [(3, .int y1), (0, .ref o), (1, .int a.1), (2, .int a.2.1)] dX1_hours_62 rfl rfl ?_
    refine j_aload_n (pc := 63) M.1 dX1_hours_63 1 rfl ?_
    refine jm_getA (pc := 64) M fa_223 dX1_hours_64 ?_
    refine j_iload_n (pc := 67) M.1 dX1_hours_67 3 rfl ?_
    obtain ⟨b2, hf⟩ := o_need hf
    refine jm_iald (pc := 68) M ax_69 b2 dX1_hours_68 ?_
    obtain ⟨y2, e2, hf⟩ := o_nx hf
    refine j_top e2 ?_
    refine j_istore (pc := 69) M.1 [(4, .int y2), (3, .int y1), (0, .ref o), (1, .int a.1), (2, .int a.2.1)] dX1_hours_69 rfl rfl ?_
    refine j_aload_n (pc := 71) M.1 dX1_hours_71 2 rfl ?_
    refine jm_getA (pc := 72) M fa_226 dX1_hours_72 ?_
    refine j_iload_n (pc := 75) M.1 dX1_hours_75 1 rfl ?_
    obtain ⟨b3, hf⟩ := o_need hf
    refine jm_iald (pc := 76) M ax_70 b3 dX1_hours_76 ?_
    refine j_aload_n (pc := 77) M.1 dX1_hours_77 2 rfl ?_
    refine jm_getA (pc := 78) M fa_226 dX1_hours_78 ?_
    refine j_iload (pc := 81) M.1 dX1_hours_81 0 rfl ?_
    obtain ⟨b4, hf⟩ := o_need hf
    refine jm_iald (pc := 83) M ax_70 b4 dX1_hours_83 ?_
    refine j_iconst (pc := 84) M.1 dX1_hours_84 kc_iconst_1 ?_
    refine j_iadd (pc := 85) M.1 dX1_hours_85 ?_
    refine j_icmp_ge (pc := 86) M.1 106 dX1_hours_86 rfl (fun c2 => ?_) (fun c2 => ?_)
    · replace hf := o_pos c2 hf
      refine j_sub [2, 3, 4, 1, 0] (show lv_pick _ _ = [(0, .ref o), (1, .int a.1), (2, .int a.2.1), (3, .int y1), (4, .int y2)] from rfl) ?_
      exact km_hours_106 M a.1 a.2.1 y1 y2 K181 hK181 R hR a.2.2 hf
    · replace hf := o_neg c2 hf
      refine j_aload_n (pc := 89) M.1 dX1_hours_89 2 rfl ?_
      refine jm_getA (pc := 90) M fa_226 dX1_hours_90 ?_
      refine j_iload_n (pc := 93) M.1 dX1_hours_93 1 rfl ?_
      refine j_aload_n (pc := 94) M.1 dX1_hours_94 2 rfl ?_
      refine jm_getA (pc := 95) M fa_226 dX1_hours_95 ?_
      refine j_iload (pc := 98) M.1 dX1_hours_98 0 rfl ?_
      obtain ⟨b5, hf⟩ := o_need hf
      refine jm_iald (pc := 100) M ax_70 b5 dX1_hours_100 ?_
      refine j_iconst (pc := 101) M.1 dX1_hours_101 kc_iconst_1 ?_
      refine j_iadd (pc := 102) M.1 dX1_hours_102 ?_
      obtain ⟨b6, hf⟩ := o_need hf
      obtain ⟨σ1, e3, hf⟩ := o_nx hf
      refine jm_iast (pc := 103) M ax_70 b6 dX1_hours_103 e3 ?_
      refine j_iconst (pc := 104) M.1 dX1_hours_104 kc_iconst_1 ?_
      refine j_istore_n (pc := 105) M.1 [(1, .int 1), (4, .int y2), (3, .int y1), (0, .ref o), (2, .int a.2.1)] dX1_hours_105 rfl rfl ?_
      refine j_sub [3, 0, 4, 2, 1] (show lv_pick _ _ = [(0, .ref o), (1, .int 1), (2, .int a.2.1), (3, .int y1), (4, .int y2)] from rfl) ?_
      exact km_hours_106 M 1 a.2.1 y1 y2 K181 hK181 R hR σ1 hf
noncomputable def m_hours_B40 (F : Nat) (R : Int32 × MS → Option (Int32 × MS)) (a : Int32 × MS) : Option (Int32 × MS) :=
  if a.1 = 0 then (some (1, a.2)) else (lp (m_hours_B48 F (fun a1 => R (a1.1, a1.2.2))) F (0, 0, a.2))
theorem km_hours_B40 (M : MC γ cX1_hours 5 G o 1 (some .boolean) (mQi G o res)) : ∀ R : Int32 × MS → Option (Int32 × MS), (∀ a, R a = some res → J γ (MW G o a.2) 0 0 40 [(0, .ref o), (1, .int a.1)] []) → ∀ a, m_hours_B40 F R a = some res → J γ (MW G o a.2) 0 0 40 [(0, .ref o), (1, .int a.1)] [] := by
  intro R hR a hf
  unfold m_hours_B40 at hf
  refine j_iload_n (pc := 40) M.1 dX1_hours_40 1 rfl ?_
  refine j_if_eq (pc := 41) M.1 184 dX1_hours_41 rfl (fun c1 => ?_) (fun c1 => ?_)
  · replace hf := o_pos c1 hf
    refine j_iconst (pc := 184) M.1 dX1_hours_184 kc_iconst_1 ?_
    exact jm_zret (pc := 185) M dX1_hours_185 rfl hf
  · replace hf := o_neg c1 hf
    refine j_iconst (pc := 44) M.1 dX1_hours_44 kc_iconst_0 ?_
    refine j_istore_n (pc := 45) M.1 [(1, .int 0), (0, .ref o)] dX1_hours_45 rfl rfl ?_
    refine j_iconst (pc := 46) M.1 dX1_hours_46 kc_iconst_0 ?_
    refine j_istore_n (pc := 47) M.1 [(2, .int 0), (1, .int 0), (0, .ref o)] dX1_hours_47 rfl rfl ?_
    refine j_sub [2, 1, 0] (show lv_pick _ _ = [(0, .ref o), (1, .int 0), (2, .int 0)] from rfl) ?_
    refine lp_W (km_hours_B48 M _ ?_) F (0, 0, a.2) hf
    · intro a1 hf
      refine j_goto (pc := 181) M.1 40 dX1_hours_181 rfl ?_
      have hy := hR _ hf
      exact hy
noncomputable def m_hours (F : Nat) (σ : MS) : Option (Int32 × MS) :=
  lp (m_hours_B2 F (fun a1 => lp (m_hours_B40 F) F (1, a1.2))) F (0, σ)
theorem met_hours {l : Launch} {G : gG} {o F : Nat} {σ : MS} {res : Int32 × MS} (hf : m_hours F σ = some res) : MetMi l G yX1_hours cX1_hours 5 (some .boolean) 1 o [] σ res := by
  refine metMi_of (by decide) rfl rfl (fun γ hγ M => ?_)
  subst hγ
  show J γ (MW G o σ) 0 0 0 [(0, .ref o)] []
  unfold m_hours at hf
  refine j_iconst (pc := 0) M.1 dX1_hours_0 kc_iconst_0 ?_
  refine j_istore_n (pc := 1) M.1 [(1, .int 0), (0, .ref o)] dX1_hours_1 rfl rfl ?_
  refine j_sub [1, 0] (show lv_pick _ _ = [(0, .ref o), (1, .int 0)] from rfl) ?_
  refine lp_W (km_hours_B2 M _ ?_) F (0, σ) hf
  · intro a1 hf
    refine j_iconst (pc := 38) M.1 dX1_hours_38 kc_iconst_1 ?_
    refine j_istore_n (pc := 39) M.1 [(1, .int 1), (0, .ref o)] dX1_hours_39 rfl rfl ?_
    refine j_sub [1, 0] (show lv_pick _ _ = [(0, .ref o), (1, .int 1)] from rfl) ?_
    refine lp_W (km_hours_B40 M) F (1, a1.2) hf
end
theorem dX1_in_0 : decode cX1_in 0 = .ok (.iload_n 0, 1) := by decide +kernel
theorem dX1_in_1 : decode cX1_in 1 = .ok (.iload_n 1, 1) := by decide +kernel
theorem dX1_in_2 : decode cX1_in 2 = .ok (.if_icmp .lt 12, 3) := by decide +kernel
theorem dX1_in_5 : decode cX1_in 5 = .ok (.iload_n 0, 1) := by decide +kernel
theorem dX1_in_6 : decode cX1_in 6 = .ok (.iload_n 2, 1) := by decide +kernel
theorem dX1_in_7 : decode cX1_in 7 = .ok (.if_icmp .gt 7, 3) := by decide +kernel
theorem dX1_in_10 : decode cX1_in 10 = .ok (.iconst 1, 1) := by decide +kernel
theorem dX1_in_11 : decode cX1_in 11 = .ok (.goto 4, 3) := by decide +kernel
theorem dX1_in_14 : decode cX1_in 14 = .ok (.iconst 0, 1) := by decide +kernel
theorem dX1_in_15 : decode cX1_in 15 = .ok (.ireturn, 1) := by decide +kernel
section
variable {res : Int32}
noncomputable def m_in (F : Nat) (x0 x1 x2 : Int32) : Option Int32 :=
  if x0 < x1 then (some 0) else (if x2 < x0 then (some 0) else (some 1))
theorem met_in {l : Launch} {F : Nat} {x0 x1 x2 : Int32} {res : Int32} (hf : m_in F x0 x1 x2 = some res) : MetSi l yX1_in cX1_in 3 (some .boolean) 1 [.int x0, .int x1, .int x2] res := by
  refine metSi_of (own := RX1) (by decide) rfl rfl (fun γ hγ M => ?_)
  subst hγ
  show J γ (sP γ) 0 0 0 [(0, .int x0), (1, .int x1), (2, .int x2)] []
  unfold m_in at hf
  refine j_iload_n (pc := 0) M.1 dX1_in_0 0 rfl ?_
  refine j_iload_n (pc := 1) M.1 dX1_in_1 1 rfl ?_
  refine j_icmp_lt (pc := 2) M.1 14 dX1_in_2 rfl (fun c1 => ?_) (fun c1 => ?_)
  · replace hf := o_pos c1 hf
    refine j_iconst (pc := 14) M.1 dX1_in_14 kc_iconst_0 ?_
    exact js_zret (pc := 15) M dX1_in_15 rfl hf
  · replace hf := o_neg c1 hf
    refine j_iload_n (pc := 5) M.1 dX1_in_5 0 rfl ?_
    refine j_iload_n (pc := 6) M.1 dX1_in_6 2 rfl ?_
    refine j_icmp_gt (pc := 7) M.1 14 dX1_in_7 rfl (fun c2 => ?_) (fun c2 => ?_)
    · replace hf := o_pos c2 hf
      refine j_iconst (pc := 14) M.1 dX1_in_14 kc_iconst_0 ?_
      exact js_zret (pc := 15) M dX1_in_15 rfl hf
    · replace hf := o_neg c2 hf
      refine j_iconst (pc := 10) M.1 dX1_in_10 kc_iconst_1 ?_
      refine j_goto (pc := 11) M.1 15 dX1_in_11 rfl ?_
      exact js_zret (pc := 15) M dX1_in_15 rfl hf
end
theorem dX1_isBorder_0 : decode cX1_isBorder 0 = .ok (.iload_n 1, 1) := by decide +kernel
theorem dX1_isBorder_1 : decode cX1_isBorder 1 = .ok (.aload_n 0, 1) := by decide +kernel
theorem dX1_isBorder_2 : decode cX1_isBorder 2 = .ok (.getfield 272, 3) := by decide +kernel
theorem dX1_isBorder_5 : decode cX1_isBorder 5 = .ok (.irem, 1) := by decide +kernel
theorem dX1_isBorder_6 : decode cX1_isBorder 6 = .ok (.ifCond .eq 42, 3) := by decide +kernel
theorem dX1_isBorder_9 : decode cX1_isBorder 9 = .ok (.iload_n 1, 1) := by decide +kernel
theorem dX1_isBorder_10 : decode cX1_isBorder 10 = .ok (.aload_n 0, 1) := by decide +kernel
theorem dX1_isBorder_11 : decode cX1_isBorder 11 = .ok (.getfield 272, 3) := by decide +kernel
theorem dX1_isBorder_14 : decode cX1_isBorder 14 = .ok (.irem, 1) := by decide +kernel
theorem dX1_isBorder_15 : decode cX1_isBorder 15 = .ok (.aload_n 0, 1) := by decide +kernel
theorem dX1_isBorder_16 : decode cX1_isBorder 16 = .ok (.getfield 272, 3) := by decide +kernel
theorem dX1_isBorder_19 : decode cX1_isBorder 19 = .ok (.iconst 1, 1) := by decide +kernel
theorem dX1_isBorder_20 : decode cX1_isBorder 20 = .ok (.isub, 1) := by decide +kernel
theorem dX1_isBorder_21 : decode cX1_isBorder 21 = .ok (.if_icmp .eq 27, 3) := by decide +kernel
theorem dX1_isBorder_24 : decode cX1_isBorder 24 = .ok (.iload_n 1, 1) := by decide +kernel
theorem dX1_isBorder_25 : decode cX1_isBorder 25 = .ok (.aload_n 0, 1) := by decide +kernel
theorem dX1_isBorder_26 : decode cX1_isBorder 26 = .ok (.getfield 272, 3) := by decide +kernel
theorem dX1_isBorder_29 : decode cX1_isBorder 29 = .ok (.idiv, 1) := by decide +kernel
theorem dX1_isBorder_30 : decode cX1_isBorder 30 = .ok (.ifCond .eq 18, 3) := by decide +kernel
theorem dX1_isBorder_33 : decode cX1_isBorder 33 = .ok (.iload_n 1, 1) := by decide +kernel
theorem dX1_isBorder_34 : decode cX1_isBorder 34 = .ok (.aload_n 0, 1) := by decide +kernel
theorem dX1_isBorder_35 : decode cX1_isBorder 35 = .ok (.getfield 272, 3) := by decide +kernel
theorem dX1_isBorder_38 : decode cX1_isBorder 38 = .ok (.idiv, 1) := by decide +kernel
theorem dX1_isBorder_39 : decode cX1_isBorder 39 = .ok (.aload_n 0, 1) := by decide +kernel
theorem dX1_isBorder_40 : decode cX1_isBorder 40 = .ok (.getfield 275, 3) := by decide +kernel
theorem dX1_isBorder_43 : decode cX1_isBorder 43 = .ok (.iconst 1, 1) := by decide +kernel
theorem dX1_isBorder_44 : decode cX1_isBorder 44 = .ok (.isub, 1) := by decide +kernel
theorem dX1_isBorder_45 : decode cX1_isBorder 45 = .ok (.if_icmp .ne 7, 3) := by decide +kernel
theorem dX1_isBorder_48 : decode cX1_isBorder 48 = .ok (.iconst 1, 1) := by decide +kernel
theorem dX1_isBorder_49 : decode cX1_isBorder 49 = .ok (.goto 4, 3) := by decide +kernel
theorem dX1_isBorder_52 : decode cX1_isBorder 52 = .ok (.iconst 0, 1) := by decide +kernel
theorem dX1_isBorder_53 : decode cX1_isBorder 53 = .ok (.ireturn, 1) := by decide +kernel
section
variable {res : Int32 × MS}
noncomputable def m_isBorder (F : Nat) (x1 : Int32) (σ : MS) : Option (Int32 × MS) :=
  if ¬ (σ.1 0) = 0 then if (jrem x1 (σ.1 0)) = 0 then (some (1, σ)) else (if ¬ (σ.1 0) = 0 then if (jrem x1 (σ.1 0)) = ((σ.1 0) - 1) then (some (1, σ)) else (if ¬ (σ.1 0) = 0 then if (x1 / (σ.1 0)) = 0 then (some (1, σ)) else (if ¬ (σ.1 0) = 0 then if (x1 / (σ.1 0)) = ((σ.1 1) - 1) then (some (1, σ)) else (some (0, σ)) else none) else none) else none) else none
theorem met_isBorder {l : Launch} {G : gG} {o F : Nat} {x1 : Int32} {σ : MS} {res : Int32 × MS} (hf : m_isBorder F x1 σ = some res) : MetMi l G yX1_isBorder cX1_isBorder 2 (some .boolean) 1 o [.int x1] σ res := by
  refine metMi_of (by decide) rfl rfl (fun γ hγ M => ?_)
  subst hγ
  show J γ (MW G o σ) 0 0 0 [(0, .ref o), (1, .int x1)] []
  unfold m_isBorder at hf
  refine j_iload_n (pc := 0) M.1 dX1_isBorder_0 1 rfl ?_
  refine j_aload_n (pc := 1) M.1 dX1_isBorder_1 0 rfl ?_
  refine jm_getS (pc := 2) M fm_272 dX1_isBorder_2 ?_
  obtain ⟨b1, hf⟩ := o_need hf
  refine j_irem (pc := 5) M.1 dX1_isBorder_5 b1 ?_
  refine j_if_eq (pc := 6) M.1 48 dX1_isBorder_6 rfl (fun c1 => ?_) (fun c1 => ?_)
  · replace hf := o_pos c1 hf
    refine j_iconst (pc := 48) M.1 dX1_isBorder_48 kc_iconst_1 ?_
    refine j_goto (pc := 49) M.1 53 dX1_isBorder_49 rfl ?_
    exact jm_zret (pc := 53) M dX1_isBorder_53 rfl hf
  · replace hf := o_neg c1 hf
    refine j_iload_n (pc := 9) M.1 dX1_isBorder_9 1 rfl ?_
    refine j_aload_n (pc := 10) M.1 dX1_isBorder_10 0 rfl ?_
    refine jm_getS (pc := 11) M fm_272 dX1_isBorder_11 ?_
    obtain ⟨b2, hf⟩ := o_need hf
    refine j_irem (pc := 14) M.1 dX1_isBorder_14 b2 ?_
    refine j_aload_n (pc := 15) M.1 dX1_isBorder_15 0 rfl ?_
    refine jm_getS (pc := 16) M fm_272 dX1_isBorder_16 ?_
    refine j_iconst (pc := 19) M.1 dX1_isBorder_19 kc_iconst_1 ?_
    refine j_isub (pc := 20) M.1 dX1_isBorder_20 ?_
    refine j_icmp_eq (pc := 21) M.1 48 dX1_isBorder_21 rfl (fun c2 => ?_) (fun c2 => ?_)
    · replace hf := o_pos c2 hf
      refine j_iconst (pc := 48) M.1 dX1_isBorder_48 kc_iconst_1 ?_
      refine j_goto (pc := 49) M.1 53 dX1_isBorder_49 rfl ?_
      exact jm_zret (pc := 53) M dX1_isBorder_53 rfl hf
    · replace hf := o_neg c2 hf
      refine j_iload_n (pc := 24) M.1 dX1_isBorder_24 1 rfl ?_
      refine j_aload_n (pc := 25) M.1 dX1_isBorder_25 0 rfl ?_
      refine jm_getS (pc := 26) M fm_272 dX1_isBorder_26 ?_
      obtain ⟨b3, hf⟩ := o_need hf
      refine j_idiv (pc := 29) M.1 dX1_isBorder_29 b3 ?_
      refine j_if_eq (pc := 30) M.1 48 dX1_isBorder_30 rfl (fun c3 => ?_) (fun c3 => ?_)
      · replace hf := o_pos c3 hf
        refine j_iconst (pc := 48) M.1 dX1_isBorder_48 kc_iconst_1 ?_
        refine j_goto (pc := 49) M.1 53 dX1_isBorder_49 rfl ?_
        exact jm_zret (pc := 53) M dX1_isBorder_53 rfl hf
      · replace hf := o_neg c3 hf
        refine j_iload_n (pc := 33) M.1 dX1_isBorder_33 1 rfl ?_
        refine j_aload_n (pc := 34) M.1 dX1_isBorder_34 0 rfl ?_
        refine jm_getS (pc := 35) M fm_272 dX1_isBorder_35 ?_
        obtain ⟨b4, hf⟩ := o_need hf
        refine j_idiv (pc := 38) M.1 dX1_isBorder_38 b4 ?_
        refine j_aload_n (pc := 39) M.1 dX1_isBorder_39 0 rfl ?_
        refine jm_getS (pc := 40) M fm_275 dX1_isBorder_40 ?_
        refine j_iconst (pc := 43) M.1 dX1_isBorder_43 kc_iconst_1 ?_
        refine j_isub (pc := 44) M.1 dX1_isBorder_44 ?_
        refine j_icmp_ne (pc := 45) M.1 52 dX1_isBorder_45 rfl (fun c4 => ?_) (fun c4 => ?_)
        · replace hf := o_neg c4 hf
          refine j_iconst (pc := 52) M.1 dX1_isBorder_52 kc_iconst_0 ?_
          exact jm_zret (pc := 53) M dX1_isBorder_53 rfl hf
        · replace hf := o_pos c4 hf
          refine j_iconst (pc := 48) M.1 dX1_isBorder_48 kc_iconst_1 ?_
          refine j_goto (pc := 49) M.1 53 dX1_isBorder_49 rfl ?_
          exact jm_zret (pc := 53) M dX1_isBorder_53 rfl hf
end
theorem dX1_isCell_0 : decode cX1_isCell 0 = .ok (.iload_n 1, 1) := by decide +kernel
theorem dX1_isCell_1 : decode cX1_isCell 1 = .ok (.ifCond .lt 20, 3) := by decide +kernel
theorem dX1_isCell_4 : decode cX1_isCell 4 = .ok (.iload_n 1, 1) := by decide +kernel
theorem dX1_isCell_5 : decode cX1_isCell 5 = .ok (.aload_n 0, 1) := by decide +kernel
theorem dX1_isCell_6 : decode cX1_isCell 6 = .ok (.getfield 272, 3) := by decide +kernel
theorem dX1_isCell_9 : decode cX1_isCell 9 = .ok (.aload_n 0, 1) := by decide +kernel
theorem dX1_isCell_10 : decode cX1_isCell 10 = .ok (.getfield 275, 3) := by decide +kernel
theorem dX1_isCell_13 : decode cX1_isCell 13 = .ok (.imul, 1) := by decide +kernel
theorem dX1_isCell_14 : decode cX1_isCell 14 = .ok (.if_icmp .ge 7, 3) := by decide +kernel
theorem dX1_isCell_17 : decode cX1_isCell 17 = .ok (.iconst 1, 1) := by decide +kernel
theorem dX1_isCell_18 : decode cX1_isCell 18 = .ok (.goto 4, 3) := by decide +kernel
theorem dX1_isCell_21 : decode cX1_isCell 21 = .ok (.iconst 0, 1) := by decide +kernel
theorem dX1_isCell_22 : decode cX1_isCell 22 = .ok (.ireturn, 1) := by decide +kernel
section
variable {res : Int32 × MS}
noncomputable def m_isCell (F : Nat) (x1 : Int32) (σ : MS) : Option (Int32 × MS) :=
  if x1 < 0 then (some (0, σ)) else (if ((σ.1 0) * (σ.1 1)) ≤ x1 then (some (0, σ)) else (some (1, σ)))
theorem met_isCell {l : Launch} {G : gG} {o F : Nat} {x1 : Int32} {σ : MS} {res : Int32 × MS} (hf : m_isCell F x1 σ = some res) : MetMi l G yX1_isCell cX1_isCell 2 (some .boolean) 1 o [.int x1] σ res := by
  refine metMi_of (by decide) rfl rfl (fun γ hγ M => ?_)
  subst hγ
  show J γ (MW G o σ) 0 0 0 [(0, .ref o), (1, .int x1)] []
  unfold m_isCell at hf
  refine j_iload_n (pc := 0) M.1 dX1_isCell_0 1 rfl ?_
  refine j_if_lt (pc := 1) M.1 21 dX1_isCell_1 rfl (fun c1 => ?_) (fun c1 => ?_)
  · replace hf := o_pos c1 hf
    refine j_iconst (pc := 21) M.1 dX1_isCell_21 kc_iconst_0 ?_
    exact jm_zret (pc := 22) M dX1_isCell_22 rfl hf
  · replace hf := o_neg c1 hf
    refine j_iload_n (pc := 4) M.1 dX1_isCell_4 1 rfl ?_
    refine j_aload_n (pc := 5) M.1 dX1_isCell_5 0 rfl ?_
    refine jm_getS (pc := 6) M fm_272 dX1_isCell_6 ?_
    refine j_aload_n (pc := 9) M.1 dX1_isCell_9 0 rfl ?_
    refine jm_getS (pc := 10) M fm_275 dX1_isCell_10 ?_
    refine j_imul (pc := 13) M.1 dX1_isCell_13 ?_
    refine j_icmp_ge (pc := 14) M.1 21 dX1_isCell_14 rfl (fun c2 => ?_) (fun c2 => ?_)
    · replace hf := o_pos c2 hf
      refine j_iconst (pc := 21) M.1 dX1_isCell_21 kc_iconst_0 ?_
      exact jm_zret (pc := 22) M dX1_isCell_22 rfl hf
    · replace hf := o_neg c2 hf
      refine j_iconst (pc := 17) M.1 dX1_isCell_17 kc_iconst_1 ?_
      refine j_goto (pc := 18) M.1 22 dX1_isCell_18 rfl ?_
      exact jm_zret (pc := 22) M dX1_isCell_22 rfl hf
end
theorem dX1_isDig_0 : decode cX1_isDig 0 = .ok (.iload_n 1, 1) := by decide +kernel
theorem dX1_isDig_1 : decode cX1_isDig 1 = .ok (.ifCond .lt 15, 3) := by decide +kernel
theorem dX1_isDig_4 : decode cX1_isDig 4 = .ok (.iload_n 1, 1) := by decide +kernel
theorem dX1_isDig_5 : decode cX1_isDig 5 = .ok (.aload_n 0, 1) := by decide +kernel
theorem dX1_isDig_6 : decode cX1_isDig 6 = .ok (.getfield 285, 3) := by decide +kernel
theorem dX1_isDig_9 : decode cX1_isDig 9 = .ok (.if_icmp .ge 7, 3) := by decide +kernel
theorem dX1_isDig_12 : decode cX1_isDig 12 = .ok (.iconst 1, 1) := by decide +kernel
theorem dX1_isDig_13 : decode cX1_isDig 13 = .ok (.goto 4, 3) := by decide +kernel
theorem dX1_isDig_16 : decode cX1_isDig 16 = .ok (.iconst 0, 1) := by decide +kernel
theorem dX1_isDig_17 : decode cX1_isDig 17 = .ok (.ireturn, 1) := by decide +kernel
section
variable {res : Int32 × MS}
noncomputable def m_isDig (F : Nat) (x1 : Int32) (σ : MS) : Option (Int32 × MS) :=
  if x1 < 0 then (some (0, σ)) else (if (σ.1 4) ≤ x1 then (some (0, σ)) else (some (1, σ)))
theorem met_isDig {l : Launch} {G : gG} {o F : Nat} {x1 : Int32} {σ : MS} {res : Int32 × MS} (hf : m_isDig F x1 σ = some res) : MetMi l G yX1_isDig cX1_isDig 2 (some .boolean) 1 o [.int x1] σ res := by
  refine metMi_of (by decide) rfl rfl (fun γ hγ M => ?_)
  subst hγ
  show J γ (MW G o σ) 0 0 0 [(0, .ref o), (1, .int x1)] []
  unfold m_isDig at hf
  refine j_iload_n (pc := 0) M.1 dX1_isDig_0 1 rfl ?_
  refine j_if_lt (pc := 1) M.1 16 dX1_isDig_1 rfl (fun c1 => ?_) (fun c1 => ?_)
  · replace hf := o_pos c1 hf
    refine j_iconst (pc := 16) M.1 dX1_isDig_16 kc_iconst_0 ?_
    exact jm_zret (pc := 17) M dX1_isDig_17 rfl hf
  · replace hf := o_neg c1 hf
    refine j_iload_n (pc := 4) M.1 dX1_isDig_4 1 rfl ?_
    refine j_aload_n (pc := 5) M.1 dX1_isDig_5 0 rfl ?_
    refine jm_getS (pc := 6) M fm_285 dX1_isDig_6 ?_
    refine j_icmp_ge (pc := 9) M.1 16 dX1_isDig_9 rfl (fun c2 => ?_) (fun c2 => ?_)
    · replace hf := o_pos c2 hf
      refine j_iconst (pc := 16) M.1 dX1_isDig_16 kc_iconst_0 ?_
      exact jm_zret (pc := 17) M dX1_isDig_17 rfl hf
    · replace hf := o_neg c2 hf
      refine j_iconst (pc := 12) M.1 dX1_isDig_12 kc_iconst_1 ?_
      refine j_goto (pc := 13) M.1 17 dX1_isDig_13 rfl ?_
      exact jm_zret (pc := 17) M dX1_isDig_17 rfl hf
end
theorem dX1_isFind_0 : decode cX1_isFind 0 = .ok (.iload_n 1, 1) := by decide +kernel
theorem dX1_isFind_1 : decode cX1_isFind 1 = .ok (.ifCond .lt 15, 3) := by decide +kernel
theorem dX1_isFind_4 : decode cX1_isFind 4 = .ok (.iload_n 1, 1) := by decide +kernel
theorem dX1_isFind_5 : decode cX1_isFind 5 = .ok (.aload_n 0, 1) := by decide +kernel
theorem dX1_isFind_6 : decode cX1_isFind 6 = .ok (.getfield 470, 3) := by decide +kernel
theorem dX1_isFind_9 : decode cX1_isFind 9 = .ok (.if_icmp .ge 7, 3) := by decide +kernel
theorem dX1_isFind_12 : decode cX1_isFind 12 = .ok (.iconst 1, 1) := by decide +kernel
theorem dX1_isFind_13 : decode cX1_isFind 13 = .ok (.goto 4, 3) := by decide +kernel
theorem dX1_isFind_16 : decode cX1_isFind 16 = .ok (.iconst 0, 1) := by decide +kernel
theorem dX1_isFind_17 : decode cX1_isFind 17 = .ok (.ireturn, 1) := by decide +kernel
section
variable {res : Int32 × MS}
noncomputable def m_isFind (F : Nat) (x1 : Int32) (σ : MS) : Option (Int32 × MS) :=
  if x1 < 0 then (some (0, σ)) else (if (σ.1 57) ≤ x1 then (some (0, σ)) else (some (1, σ)))
theorem met_isFind {l : Launch} {G : gG} {o F : Nat} {x1 : Int32} {σ : MS} {res : Int32 × MS} (hf : m_isFind F x1 σ = some res) : MetMi l G yX1_isFind cX1_isFind 2 (some .boolean) 1 o [.int x1] σ res := by
  refine metMi_of (by decide) rfl rfl (fun γ hγ M => ?_)
  subst hγ
  show J γ (MW G o σ) 0 0 0 [(0, .ref o), (1, .int x1)] []
  unfold m_isFind at hf
  refine j_iload_n (pc := 0) M.1 dX1_isFind_0 1 rfl ?_
  refine j_if_lt (pc := 1) M.1 16 dX1_isFind_1 rfl (fun c1 => ?_) (fun c1 => ?_)
  · replace hf := o_pos c1 hf
    refine j_iconst (pc := 16) M.1 dX1_isFind_16 kc_iconst_0 ?_
    exact jm_zret (pc := 17) M dX1_isFind_17 rfl hf
  · replace hf := o_neg c1 hf
    refine j_iload_n (pc := 4) M.1 dX1_isFind_4 1 rfl ?_
    refine j_aload_n (pc := 5) M.1 dX1_isFind_5 0 rfl ?_
    refine jm_getS (pc := 6) M fm_470 dX1_isFind_6 ?_
    refine j_icmp_ge (pc := 9) M.1 16 dX1_isFind_9 rfl (fun c2 => ?_) (fun c2 => ?_)
    · replace hf := o_pos c2 hf
      refine j_iconst (pc := 16) M.1 dX1_isFind_16 kc_iconst_0 ?_
      exact jm_zret (pc := 17) M dX1_isFind_17 rfl hf
    · replace hf := o_neg c2 hf
      refine j_iconst (pc := 12) M.1 dX1_isFind_12 kc_iconst_1 ?_
      refine j_goto (pc := 13) M.1 17 dX1_isFind_13 rfl ?_
      exact jm_zret (pc := 17) M dX1_isFind_17 rfl hf
end
theorem dX1_isKnown_0 : decode cX1_isKnown 0 = .ok (.aload_n 0, 1) := by decide +kernel
theorem dX1_isKnown_1 : decode cX1_isKnown 1 = .ok (.getfield 49, 3) := by decide +kernel
theorem dX1_isKnown_4 : decode cX1_isKnown 4 = .ok (.iload_n 1, 1) := by decide +kernel
theorem dX1_isKnown_5 : decode cX1_isKnown 5 = .ok (.iaload, 1) := by decide +kernel
theorem dX1_isKnown_6 : decode cX1_isKnown 6 = .ok (.iload_n 2, 1) := by decide +kernel
theorem dX1_isKnown_7 : decode cX1_isKnown 7 = .ok (.if_icmp .gt 27, 3) := by decide +kernel
theorem dX1_isKnown_10 : decode cX1_isKnown 10 = .ok (.aload_n 0, 1) := by decide +kernel
theorem dX1_isKnown_11 : decode cX1_isKnown 11 = .ok (.getfield 52, 3) := by decide +kernel
theorem dX1_isKnown_14 : decode cX1_isKnown 14 = .ok (.iload_n 1, 1) := by decide +kernel
theorem dX1_isKnown_15 : decode cX1_isKnown 15 = .ok (.iaload, 1) := by decide +kernel
theorem dX1_isKnown_16 : decode cX1_isKnown 16 = .ok (.iconst (-1), 1) := by decide +kernel
theorem dX1_isKnown_17 : decode cX1_isKnown 17 = .ok (.if_icmp .eq 13, 3) := by decide +kernel
theorem dX1_isKnown_20 : decode cX1_isKnown 20 = .ok (.aload_n 0, 1) := by decide +kernel
theorem dX1_isKnown_21 : decode cX1_isKnown 21 = .ok (.getfield 52, 3) := by decide +kernel
theorem dX1_isKnown_24 : decode cX1_isKnown 24 = .ok (.iload_n 1, 1) := by decide +kernel
theorem dX1_isKnown_25 : decode cX1_isKnown 25 = .ok (.iaload, 1) := by decide +kernel
theorem dX1_isKnown_26 : decode cX1_isKnown 26 = .ok (.iload_n 2, 1) := by decide +kernel
theorem dX1_isKnown_27 : decode cX1_isKnown 27 = .ok (.if_icmp .le 7, 3) := by decide +kernel
theorem dX1_isKnown_30 : decode cX1_isKnown 30 = .ok (.iconst 1, 1) := by decide +kernel
theorem dX1_isKnown_31 : decode cX1_isKnown 31 = .ok (.goto 4, 3) := by decide +kernel
theorem dX1_isKnown_34 : decode cX1_isKnown 34 = .ok (.iconst 0, 1) := by decide +kernel
theorem dX1_isKnown_35 : decode cX1_isKnown 35 = .ok (.ireturn, 1) := by decide +kernel
section
variable {res : Int32 × MS}
noncomputable def m_isKnown (F : Nat) (x1 x2 : Int32) (σ : MS) : Option (Int32 × MS) :=
  if okI x1 100 = true then if x2 < (σ.2 13 x1.toNatClampNeg) then (some (0, σ)) else (if okI x1 100 = true then if (σ.2 14 x1.toNatClampNeg) = ((-1)) then (some (1, σ)) else (if okI x1 100 = true then if (σ.2 14 x1.toNatClampNeg) ≤ x2 then (some (0, σ)) else (some (1, σ)) else none) else none) else none
theorem met_isKnown {l : Launch} {G : gG} {o F : Nat} {x1 x2 : Int32} {σ : MS} {res : Int32 × MS} (hf : m_isKnown F x1 x2 σ = some res) : MetMi l G yX1_isKnown cX1_isKnown 3 (some .boolean) 1 o [.int x1, .int x2] σ res := by
  refine metMi_of (by decide) rfl rfl (fun γ hγ M => ?_)
  subst hγ
  show J γ (MW G o σ) 0 0 0 [(0, .ref o), (1, .int x1), (2, .int x2)] []
  unfold m_isKnown at hf
  refine j_aload_n (pc := 0) M.1 dX1_isKnown_0 0 rfl ?_
  refine jm_getA (pc := 1) M fa_49 dX1_isKnown_1 ?_
  refine j_iload_n (pc := 4) M.1 dX1_isKnown_4 1 rfl ?_
  obtain ⟨b1, hf⟩ := o_need hf
  refine jm_iald (pc := 5) M ax_13 b1 dX1_isKnown_5 ?_
  refine j_iload_n (pc := 6) M.1 dX1_isKnown_6 2 rfl ?_
  refine j_icmp_gt (pc := 7) M.1 34 dX1_isKnown_7 rfl (fun c1 => ?_) (fun c1 => ?_)
  · replace hf := o_pos c1 hf
    refine j_iconst (pc := 34) M.1 dX1_isKnown_34 kc_iconst_0 ?_
    exact jm_zret (pc := 35) M dX1_isKnown_35 rfl hf
  · replace hf := o_neg c1 hf
    refine j_aload_n (pc := 10) M.1 dX1_isKnown_10 0 rfl ?_
    refine jm_getA (pc := 11) M fa_52 dX1_isKnown_11 ?_
    refine j_iload_n (pc := 14) M.1 dX1_isKnown_14 1 rfl ?_
    obtain ⟨b2, hf⟩ := o_need hf
    refine jm_iald (pc := 15) M ax_14 b2 dX1_isKnown_15 ?_
    refine j_iconst (pc := 16) M.1 dX1_isKnown_16 kc_iconst_m1 ?_
    refine j_icmp_eq (pc := 17) M.1 30 dX1_isKnown_17 rfl (fun c2 => ?_) (fun c2 => ?_)
    · replace hf := o_pos c2 hf
      refine j_iconst (pc := 30) M.1 dX1_isKnown_30 kc_iconst_1 ?_
      refine j_goto (pc := 31) M.1 35 dX1_isKnown_31 rfl ?_
      exact jm_zret (pc := 35) M dX1_isKnown_35 rfl hf
    · replace hf := o_neg c2 hf
      refine j_aload_n (pc := 20) M.1 dX1_isKnown_20 0 rfl ?_
      refine jm_getA (pc := 21) M fa_52 dX1_isKnown_21 ?_
      refine j_iload_n (pc := 24) M.1 dX1_isKnown_24 1 rfl ?_
      obtain ⟨b3, hf⟩ := o_need hf
      refine jm_iald (pc := 25) M ax_14 b3 dX1_isKnown_25 ?_
      refine j_iload_n (pc := 26) M.1 dX1_isKnown_26 2 rfl ?_
      refine j_icmp_le (pc := 27) M.1 34 dX1_isKnown_27 rfl (fun c3 => ?_) (fun c3 => ?_)
      · replace hf := o_pos c3 hf
        refine j_iconst (pc := 34) M.1 dX1_isKnown_34 kc_iconst_0 ?_
        exact jm_zret (pc := 35) M dX1_isKnown_35 rfl hf
      · replace hf := o_neg c3 hf
        refine j_iconst (pc := 30) M.1 dX1_isKnown_30 kc_iconst_1 ?_
        refine j_goto (pc := 31) M.1 35 dX1_isKnown_31 rfl ?_
        exact jm_zret (pc := 35) M dX1_isKnown_35 rfl hf
end
theorem dX1_isLayer_0 : decode cX1_isLayer 0 = .ok (.iload_n 0, 1) := by decide +kernel
theorem dX1_isLayer_1 : decode cX1_isLayer 1 = .ok (.ifCond .lt 13, 3) := by decide +kernel
theorem dX1_isLayer_4 : decode cX1_isLayer 4 = .ok (.iload_n 0, 1) := by decide +kernel
theorem dX1_isLayer_5 : decode cX1_isLayer 5 = .ok (.bipush 8, 2) := by decide +kernel
theorem dX1_isLayer_7 : decode cX1_isLayer 7 = .ok (.if_icmp .ge 7, 3) := by decide +kernel
theorem dX1_isLayer_10 : decode cX1_isLayer 10 = .ok (.iconst 1, 1) := by decide +kernel
theorem dX1_isLayer_11 : decode cX1_isLayer 11 = .ok (.goto 4, 3) := by decide +kernel
theorem dX1_isLayer_14 : decode cX1_isLayer 14 = .ok (.iconst 0, 1) := by decide +kernel
theorem dX1_isLayer_15 : decode cX1_isLayer 15 = .ok (.ireturn, 1) := by decide +kernel
section
variable {res : Int32}
noncomputable def m_isLayer (F : Nat) (x0 : Int32) : Option Int32 :=
  if x0 < 0 then (some 0) else (if 8 ≤ x0 then (some 0) else (some 1))
theorem met_isLayer {l : Launch} {F : Nat} {x0 : Int32} {res : Int32} (hf : m_isLayer F x0 = some res) : MetSi l yX1_isLayer cX1_isLayer 1 (some .boolean) 1 [.int x0] res := by
  refine metSi_of (own := RX1) (by decide) rfl rfl (fun γ hγ M => ?_)
  subst hγ
  show J γ (sP γ) 0 0 0 [(0, .int x0)] []
  unfold m_isLayer at hf
  refine j_iload_n (pc := 0) M.1 dX1_isLayer_0 0 rfl ?_
  refine j_if_lt (pc := 1) M.1 14 dX1_isLayer_1 rfl (fun c1 => ?_) (fun c1 => ?_)
  · replace hf := o_pos c1 hf
    refine j_iconst (pc := 14) M.1 dX1_isLayer_14 kc_iconst_0 ?_
    exact js_zret (pc := 15) M dX1_isLayer_15 rfl hf
  · replace hf := o_neg c1 hf
    refine j_iload_n (pc := 4) M.1 dX1_isLayer_4 0 rfl ?_
    refine j_bipush (pc := 5) M.1 dX1_isLayer_5 kc_bipush_8 ?_
    refine j_icmp_ge (pc := 7) M.1 14 dX1_isLayer_7 rfl (fun c2 => ?_) (fun c2 => ?_)
    · replace hf := o_pos c2 hf
      refine j_iconst (pc := 14) M.1 dX1_isLayer_14 kc_iconst_0 ?_
      exact js_zret (pc := 15) M dX1_isLayer_15 rfl hf
    · replace hf := o_neg c2 hf
      refine j_iconst (pc := 10) M.1 dX1_isLayer_10 kc_iconst_1 ?_
      refine j_goto (pc := 11) M.1 15 dX1_isLayer_11 rfl ?_
      exact js_zret (pc := 15) M dX1_isLayer_15 rfl hf
end
theorem dX1_isLetter_0 : decode cX1_isLetter 0 = .ok (.iload_n 0, 1) := by decide +kernel
theorem dX1_isLetter_1 : decode cX1_isLetter 1 = .ok (.bipush 110, 2) := by decide +kernel
theorem dX1_isLetter_3 : decode cX1_isLetter 3 = .ok (.if_icmp .eq 27, 3) := by decide +kernel
theorem dX1_isLetter_6 : decode cX1_isLetter 6 = .ok (.iload_n 0, 1) := by decide +kernel
theorem dX1_isLetter_7 : decode cX1_isLetter 7 = .ok (.bipush 97, 2) := by decide +kernel
theorem dX1_isLetter_9 : decode cX1_isLetter 9 = .ok (.if_icmp .eq 21, 3) := by decide +kernel
theorem dX1_isLetter_12 : decode cX1_isLetter 12 = .ok (.iload_n 0, 1) := by decide +kernel
theorem dX1_isLetter_13 : decode cX1_isLetter 13 = .ok (.bipush 118, 2) := by decide +kernel
theorem dX1_isLetter_15 : decode cX1_isLetter 15 = .ok (.if_icmp .eq 15, 3) := by decide +kernel
theorem dX1_isLetter_18 : decode cX1_isLetter 18 = .ok (.iload_n 0, 1) := by decide +kernel
theorem dX1_isLetter_19 : decode cX1_isLetter 19 = .ok (.bipush 102, 2) := by decide +kernel
theorem dX1_isLetter_21 : decode cX1_isLetter 21 = .ok (.if_icmp .eq 9, 3) := by decide +kernel
theorem dX1_isLetter_24 : decode cX1_isLetter 24 = .ok (.iload_n 0, 1) := by decide +kernel
theorem dX1_isLetter_25 : decode cX1_isLetter 25 = .ok (.bipush 120, 2) := by decide +kernel
theorem dX1_isLetter_27 : decode cX1_isLetter 27 = .ok (.if_icmp .ne 7, 3) := by decide +kernel
theorem dX1_isLetter_30 : decode cX1_isLetter 30 = .ok (.iconst 1, 1) := by decide +kernel
theorem dX1_isLetter_31 : decode cX1_isLetter 31 = .ok (.goto 4, 3) := by decide +kernel
theorem dX1_isLetter_34 : decode cX1_isLetter 34 = .ok (.iconst 0, 1) := by decide +kernel
theorem dX1_isLetter_35 : decode cX1_isLetter 35 = .ok (.ireturn, 1) := by decide +kernel
section
variable {res : Int32}
noncomputable def m_isLetter (F : Nat) (x0 : Int32) : Option Int32 :=
  if x0 = 110 then (some 1) else (if x0 = 97 then (some 1) else (if x0 = 118 then (some 1) else (if x0 = 102 then (some 1) else (if x0 = 120 then (some 1) else (some 0)))))
theorem met_isLetter {l : Launch} {F : Nat} {x0 : Int32} {res : Int32} (hf : m_isLetter F x0 = some res) : MetSi l yX1_isLetter cX1_isLetter 1 (some .boolean) 1 [.int x0] res := by
  refine metSi_of (own := RX1) (by decide) rfl rfl (fun γ hγ M => ?_)
  subst hγ
  show J γ (sP γ) 0 0 0 [(0, .int x0)] []
  unfold m_isLetter at hf
  refine j_iload_n (pc := 0) M.1 dX1_isLetter_0 0 rfl ?_
  refine j_bipush (pc := 1) M.1 dX1_isLetter_1 kc_bipush_110 ?_
  refine j_icmp_eq (pc := 3) M.1 30 dX1_isLetter_3 rfl (fun c1 => ?_) (fun c1 => ?_)
  · replace hf := o_pos c1 hf
    refine j_iconst (pc := 30) M.1 dX1_isLetter_30 kc_iconst_1 ?_
    refine j_goto (pc := 31) M.1 35 dX1_isLetter_31 rfl ?_
    exact js_zret (pc := 35) M dX1_isLetter_35 rfl hf
  · replace hf := o_neg c1 hf
    refine j_iload_n (pc := 6) M.1 dX1_isLetter_6 0 rfl ?_
    refine j_bipush (pc := 7) M.1 dX1_isLetter_7 kc_bipush_97 ?_
    refine j_icmp_eq (pc := 9) M.1 30 dX1_isLetter_9 rfl (fun c2 => ?_) (fun c2 => ?_)
    · replace hf := o_pos c2 hf
      refine j_iconst (pc := 30) M.1 dX1_isLetter_30 kc_iconst_1 ?_
      refine j_goto (pc := 31) M.1 35 dX1_isLetter_31 rfl ?_
      exact js_zret (pc := 35) M dX1_isLetter_35 rfl hf
    · replace hf := o_neg c2 hf
      refine j_iload_n (pc := 12) M.1 dX1_isLetter_12 0 rfl ?_
      refine j_bipush (pc := 13) M.1 dX1_isLetter_13 kc_bipush_118 ?_
      refine j_icmp_eq (pc := 15) M.1 30 dX1_isLetter_15 rfl (fun c3 => ?_) (fun c3 => ?_)
      · replace hf := o_pos c3 hf
        refine j_iconst (pc := 30) M.1 dX1_isLetter_30 kc_iconst_1 ?_
        refine j_goto (pc := 31) M.1 35 dX1_isLetter_31 rfl ?_
        exact js_zret (pc := 35) M dX1_isLetter_35 rfl hf
      · replace hf := o_neg c3 hf
        refine j_iload_n (pc := 18) M.1 dX1_isLetter_18 0 rfl ?_
        refine j_bipush (pc := 19) M.1 dX1_isLetter_19 kc_bipush_102 ?_
        refine j_icmp_eq (pc := 21) M.1 30 dX1_isLetter_21 rfl (fun c4 => ?_) (fun c4 => ?_)
        · replace hf := o_pos c4 hf
          refine j_iconst (pc := 30) M.1 dX1_isLetter_30 kc_iconst_1 ?_
          refine j_goto (pc := 31) M.1 35 dX1_isLetter_31 rfl ?_
          exact js_zret (pc := 35) M dX1_isLetter_35 rfl hf
        · replace hf := o_neg c4 hf
          refine j_iload_n (pc := 24) M.1 dX1_isLetter_24 0 rfl ?_
          refine j_bipush (pc := 25) M.1 dX1_isLetter_25 kc_bipush_120 ?_
          refine j_icmp_ne (pc := 27) M.1 34 dX1_isLetter_27 rfl (fun c5 => ?_) (fun c5 => ?_)
          · replace hf := o_neg c5 hf
            refine j_iconst (pc := 34) M.1 dX1_isLetter_34 kc_iconst_0 ?_
            exact js_zret (pc := 35) M dX1_isLetter_35 rfl hf
          · replace hf := o_pos c5 hf
            refine j_iconst (pc := 30) M.1 dX1_isLetter_30 kc_iconst_1 ?_
            refine j_goto (pc := 31) M.1 35 dX1_isLetter_31 rfl ?_
            exact js_zret (pc := 35) M dX1_isLetter_35 rfl hf
end
theorem dX1_isPlace_0 : decode cX1_isPlace 0 = .ok (.iload_n 1, 1) := by decide +kernel
theorem dX1_isPlace_1 : decode cX1_isPlace 1 = .ok (.ifCond .lt 15, 3) := by decide +kernel
theorem dX1_isPlace_4 : decode cX1_isPlace 4 = .ok (.iload_n 1, 1) := by decide +kernel
theorem dX1_isPlace_5 : decode cX1_isPlace 5 = .ok (.aload_n 0, 1) := by decide +kernel
theorem dX1_isPlace_6 : decode cX1_isPlace 6 = .ok (.getfield 282, 3) := by decide +kernel
theorem dX1_isPlace_9 : decode cX1_isPlace 9 = .ok (.if_icmp .ge 7, 3) := by decide +kernel
theorem dX1_isPlace_12 : decode cX1_isPlace 12 = .ok (.iconst 1, 1) := by decide +kernel
theorem dX1_isPlace_13 : decode cX1_isPlace 13 = .ok (.goto 4, 3) := by decide +kernel
theorem dX1_isPlace_16 : decode cX1_isPlace 16 = .ok (.iconst 0, 1) := by decide +kernel
theorem dX1_isPlace_17 : decode cX1_isPlace 17 = .ok (.ireturn, 1) := by decide +kernel
section
variable {res : Int32 × MS}
noncomputable def m_isPlace (F : Nat) (x1 : Int32) (σ : MS) : Option (Int32 × MS) :=
  if x1 < 0 then (some (0, σ)) else (if (σ.1 3) ≤ x1 then (some (0, σ)) else (some (1, σ)))
theorem met_isPlace {l : Launch} {G : gG} {o F : Nat} {x1 : Int32} {σ : MS} {res : Int32 × MS} (hf : m_isPlace F x1 σ = some res) : MetMi l G yX1_isPlace cX1_isPlace 2 (some .boolean) 1 o [.int x1] σ res := by
  refine metMi_of (by decide) rfl rfl (fun γ hγ M => ?_)
  subst hγ
  show J γ (MW G o σ) 0 0 0 [(0, .ref o), (1, .int x1)] []
  unfold m_isPlace at hf
  refine j_iload_n (pc := 0) M.1 dX1_isPlace_0 1 rfl ?_
  refine j_if_lt (pc := 1) M.1 16 dX1_isPlace_1 rfl (fun c1 => ?_) (fun c1 => ?_)
  · replace hf := o_pos c1 hf
    refine j_iconst (pc := 16) M.1 dX1_isPlace_16 kc_iconst_0 ?_
    exact jm_zret (pc := 17) M dX1_isPlace_17 rfl hf
  · replace hf := o_neg c1 hf
    refine j_iload_n (pc := 4) M.1 dX1_isPlace_4 1 rfl ?_
    refine j_aload_n (pc := 5) M.1 dX1_isPlace_5 0 rfl ?_
    refine jm_getS (pc := 6) M fm_282 dX1_isPlace_6 ?_
    refine j_icmp_ge (pc := 9) M.1 16 dX1_isPlace_9 rfl (fun c2 => ?_) (fun c2 => ?_)
    · replace hf := o_pos c2 hf
      refine j_iconst (pc := 16) M.1 dX1_isPlace_16 kc_iconst_0 ?_
      exact jm_zret (pc := 17) M dX1_isPlace_17 rfl hf
    · replace hf := o_neg c2 hf
      refine j_iconst (pc := 12) M.1 dX1_isPlace_12 kc_iconst_1 ?_
      refine j_goto (pc := 13) M.1 17 dX1_isPlace_13 rfl ?_
      exact jm_zret (pc := 17) M dX1_isPlace_17 rfl hf
end
theorem dX1_isThing_0 : decode cX1_isThing 0 = .ok (.iload_n 1, 1) := by decide +kernel
theorem dX1_isThing_1 : decode cX1_isThing 1 = .ok (.ifCond .lt 15, 3) := by decide +kernel
theorem dX1_isThing_4 : decode cX1_isThing 4 = .ok (.iload_n 1, 1) := by decide +kernel
theorem dX1_isThing_5 : decode cX1_isThing 5 = .ok (.aload_n 0, 1) := by decide +kernel
theorem dX1_isThing_6 : decode cX1_isThing 6 = .ok (.getfield 491, 3) := by decide +kernel
theorem dX1_isThing_9 : decode cX1_isThing 9 = .ok (.if_icmp .ge 7, 3) := by decide +kernel
theorem dX1_isThing_12 : decode cX1_isThing 12 = .ok (.iconst 1, 1) := by decide +kernel
theorem dX1_isThing_13 : decode cX1_isThing 13 = .ok (.goto 4, 3) := by decide +kernel
theorem dX1_isThing_16 : decode cX1_isThing 16 = .ok (.iconst 0, 1) := by decide +kernel
theorem dX1_isThing_17 : decode cX1_isThing 17 = .ok (.ireturn, 1) := by decide +kernel
section
variable {res : Int32 × MS}
noncomputable def m_isThing (F : Nat) (x1 : Int32) (σ : MS) : Option (Int32 × MS) :=
  if x1 < 0 then (some (0, σ)) else (if (σ.1 68) ≤ x1 then (some (0, σ)) else (some (1, σ)))
theorem met_isThing {l : Launch} {G : gG} {o F : Nat} {x1 : Int32} {σ : MS} {res : Int32 × MS} (hf : m_isThing F x1 σ = some res) : MetMi l G yX1_isThing cX1_isThing 2 (some .boolean) 1 o [.int x1] σ res := by
  refine metMi_of (by decide) rfl rfl (fun γ hγ M => ?_)
  subst hγ
  show J γ (MW G o σ) 0 0 0 [(0, .ref o), (1, .int x1)] []
  unfold m_isThing at hf
  refine j_iload_n (pc := 0) M.1 dX1_isThing_0 1 rfl ?_
  refine j_if_lt (pc := 1) M.1 16 dX1_isThing_1 rfl (fun c1 => ?_) (fun c1 => ?_)
  · replace hf := o_pos c1 hf
    refine j_iconst (pc := 16) M.1 dX1_isThing_16 kc_iconst_0 ?_
    exact jm_zret (pc := 17) M dX1_isThing_17 rfl hf
  · replace hf := o_neg c1 hf
    refine j_iload_n (pc := 4) M.1 dX1_isThing_4 1 rfl ?_
    refine j_aload_n (pc := 5) M.1 dX1_isThing_5 0 rfl ?_
    refine jm_getS (pc := 6) M fm_491 dX1_isThing_6 ?_
    refine j_icmp_ge (pc := 9) M.1 16 dX1_isThing_9 rfl (fun c2 => ?_) (fun c2 => ?_)
    · replace hf := o_pos c2 hf
      refine j_iconst (pc := 16) M.1 dX1_isThing_16 kc_iconst_0 ?_
      exact jm_zret (pc := 17) M dX1_isThing_17 rfl hf
    · replace hf := o_neg c2 hf
      refine j_iconst (pc := 12) M.1 dX1_isThing_12 kc_iconst_1 ?_
      refine j_goto (pc := 13) M.1 17 dX1_isThing_13 rfl ?_
      exact jm_zret (pc := 17) M dX1_isThing_17 rfl hf
end
theorem dX1_isWall_0 : decode cX1_isWall 0 = .ok (.iload_n 1, 1) := by decide +kernel
theorem dX1_isWall_1 : decode cX1_isWall 1 = .ok (.ifCond .lt 15, 3) := by decide +kernel
theorem dX1_isWall_4 : decode cX1_isWall 4 = .ok (.iload_n 1, 1) := by decide +kernel
theorem dX1_isWall_5 : decode cX1_isWall 5 = .ok (.aload_n 0, 1) := by decide +kernel
theorem dX1_isWall_6 : decode cX1_isWall 6 = .ok (.getfield 521, 3) := by decide +kernel
theorem dX1_isWall_9 : decode cX1_isWall 9 = .ok (.if_icmp .ge 7, 3) := by decide +kernel
theorem dX1_isWall_12 : decode cX1_isWall 12 = .ok (.iconst 1, 1) := by decide +kernel
theorem dX1_isWall_13 : decode cX1_isWall 13 = .ok (.goto 4, 3) := by decide +kernel
theorem dX1_isWall_16 : decode cX1_isWall 16 = .ok (.iconst 0, 1) := by decide +kernel
theorem dX1_isWall_17 : decode cX1_isWall 17 = .ok (.ireturn, 1) := by decide +kernel
section
variable {res : Int32 × MS}
noncomputable def m_isWall (F : Nat) (x1 : Int32) (σ : MS) : Option (Int32 × MS) :=
  if x1 < 0 then (some (0, σ)) else (if (σ.1 79) ≤ x1 then (some (0, σ)) else (some (1, σ)))
theorem met_isWall {l : Launch} {G : gG} {o F : Nat} {x1 : Int32} {σ : MS} {res : Int32 × MS} (hf : m_isWall F x1 σ = some res) : MetMi l G yX1_isWall cX1_isWall 2 (some .boolean) 1 o [.int x1] σ res := by
  refine metMi_of (by decide) rfl rfl (fun γ hγ M => ?_)
  subst hγ
  show J γ (MW G o σ) 0 0 0 [(0, .ref o), (1, .int x1)] []
  unfold m_isWall at hf
  refine j_iload_n (pc := 0) M.1 dX1_isWall_0 1 rfl ?_
  refine j_if_lt (pc := 1) M.1 16 dX1_isWall_1 rfl (fun c1 => ?_) (fun c1 => ?_)
  · replace hf := o_pos c1 hf
    refine j_iconst (pc := 16) M.1 dX1_isWall_16 kc_iconst_0 ?_
    exact jm_zret (pc := 17) M dX1_isWall_17 rfl hf
  · replace hf := o_neg c1 hf
    refine j_iload_n (pc := 4) M.1 dX1_isWall_4 1 rfl ?_
    refine j_aload_n (pc := 5) M.1 dX1_isWall_5 0 rfl ?_
    refine jm_getS (pc := 6) M fm_521 dX1_isWall_6 ?_
    refine j_icmp_ge (pc := 9) M.1 16 dX1_isWall_9 rfl (fun c2 => ?_) (fun c2 => ?_)
    · replace hf := o_pos c2 hf
      refine j_iconst (pc := 16) M.1 dX1_isWall_16 kc_iconst_0 ?_
      exact jm_zret (pc := 17) M dX1_isWall_17 rfl hf
    · replace hf := o_neg c2 hf
      refine j_iconst (pc := 12) M.1 dX1_isWall_12 kc_iconst_1 ?_
      refine j_goto (pc := 13) M.1 17 dX1_isWall_13 rfl ?_
      exact jm_zret (pc := 17) M dX1_isWall_17 rfl hf
end
theorem dX1_isWeek_0 : decode cX1_isWeek 0 = .ok (.iload_n 0, 1) := by decide +kernel
theorem dX1_isWeek_1 : decode cX1_isWeek 1 = .ok (.ifCond .lt 14, 3) := by decide +kernel
theorem dX1_isWeek_4 : decode cX1_isWeek 4 = .ok (.iload_n 0, 1) := by decide +kernel
theorem dX1_isWeek_5 : decode cX1_isWeek 5 = .ok (.sipush 9999, 3) := by decide +kernel
theorem dX1_isWeek_8 : decode cX1_isWeek 8 = .ok (.if_icmp .gt 7, 3) := by decide +kernel
theorem dX1_isWeek_11 : decode cX1_isWeek 11 = .ok (.iconst 1, 1) := by decide +kernel
theorem dX1_isWeek_12 : decode cX1_isWeek 12 = .ok (.goto 4, 3) := by decide +kernel
theorem dX1_isWeek_15 : decode cX1_isWeek 15 = .ok (.iconst 0, 1) := by decide +kernel
theorem dX1_isWeek_16 : decode cX1_isWeek 16 = .ok (.ireturn, 1) := by decide +kernel
section
variable {res : Int32}
noncomputable def m_isWeek (F : Nat) (x0 : Int32) : Option Int32 :=
  if x0 < 0 then (some 0) else (if 9999 < x0 then (some 0) else (some 1))
theorem met_isWeek {l : Launch} {F : Nat} {x0 : Int32} {res : Int32} (hf : m_isWeek F x0 = some res) : MetSi l yX1_isWeek cX1_isWeek 1 (some .boolean) 1 [.int x0] res := by
  refine metSi_of (own := RX1) (by decide) rfl rfl (fun γ hγ M => ?_)
  subst hγ
  show J γ (sP γ) 0 0 0 [(0, .int x0)] []
  unfold m_isWeek at hf
  refine j_iload_n (pc := 0) M.1 dX1_isWeek_0 0 rfl ?_
  refine j_if_lt (pc := 1) M.1 15 dX1_isWeek_1 rfl (fun c1 => ?_) (fun c1 => ?_)
  · replace hf := o_pos c1 hf
    refine j_iconst (pc := 15) M.1 dX1_isWeek_15 kc_iconst_0 ?_
    exact js_zret (pc := 16) M dX1_isWeek_16 rfl hf
  · replace hf := o_neg c1 hf
    refine j_iload_n (pc := 4) M.1 dX1_isWeek_4 0 rfl ?_
    refine j_sipush (pc := 5) M.1 dX1_isWeek_5 kc_sipush_9999 ?_
    refine j_icmp_gt (pc := 8) M.1 15 dX1_isWeek_8 rfl (fun c2 => ?_) (fun c2 => ?_)
    · replace hf := o_pos c2 hf
      refine j_iconst (pc := 15) M.1 dX1_isWeek_15 kc_iconst_0 ?_
      exact js_zret (pc := 16) M dX1_isWeek_16 rfl hf
    · replace hf := o_neg c2 hf
      refine j_iconst (pc := 11) M.1 dX1_isWeek_11 kc_iconst_1 ?_
      refine j_goto (pc := 12) M.1 16 dX1_isWeek_12 rfl ?_
      exact js_zret (pc := 16) M dX1_isWeek_16 rfl hf
end
theorem dX1_joined_0 : decode cX1_joined 0 = .ok (.iload_n 1, 1) := by decide +kernel
theorem dX1_joined_1 : decode cX1_joined 1 = .ok (.ifCond .lt 20, 3) := by decide +kernel
theorem dX1_joined_4 : decode cX1_joined 4 = .ok (.iload_n 1, 1) := by decide +kernel
theorem dX1_joined_5 : decode cX1_joined 5 = .ok (.aload_n 0, 1) := by decide +kernel
theorem dX1_joined_6 : decode cX1_joined 6 = .ok (.getfield 512, 3) := by decide +kernel
theorem dX1_joined_9 : decode cX1_joined 9 = .ok (.if_icmp .ge 12, 3) := by decide +kernel
theorem dX1_joined_12 : decode cX1_joined 12 = .ok (.aload_n 0, 1) := by decide +kernel
theorem dX1_joined_13 : decode cX1_joined 13 = .ok (.getfield 175, 3) := by decide +kernel
theorem dX1_joined_16 : decode cX1_joined 16 = .ok (.iload_n 1, 1) := by decide +kernel
theorem dX1_joined_17 : decode cX1_joined 17 = .ok (.iaload, 1) := by decide +kernel
theorem dX1_joined_18 : decode cX1_joined 18 = .ok (.goto 4, 3) := by decide +kernel
theorem dX1_joined_21 : decode cX1_joined 21 = .ok (.iconst (-1), 1) := by decide +kernel
theorem dX1_joined_22 : decode cX1_joined 22 = .ok (.ireturn, 1) := by decide +kernel
section
variable {res : Int32 × MS}
noncomputable def m_joined (F : Nat) (x1 : Int32) (σ : MS) : Option (Int32 × MS) :=
  if x1 < 0 then (some ((-1), σ)) else (if (σ.1 69) ≤ x1 then (some ((-1), σ)) else (if okI x1 8 = true then some (σ.2 53 x1.toNatClampNeg, σ) else none))
theorem met_joined {l : Launch} {G : gG} {o F : Nat} {x1 : Int32} {σ : MS} {res : Int32 × MS} (hf : m_joined F x1 σ = some res) : MetMi l G yX1_joined cX1_joined 2 (some .int) 1 o [.int x1] σ res := by
  refine metMi_of (by decide) rfl rfl (fun γ hγ M => ?_)
  subst hγ
  show J γ (MW G o σ) 0 0 0 [(0, .ref o), (1, .int x1)] []
  unfold m_joined at hf
  refine j_iload_n (pc := 0) M.1 dX1_joined_0 1 rfl ?_
  refine j_if_lt (pc := 1) M.1 21 dX1_joined_1 rfl (fun c1 => ?_) (fun c1 => ?_)
  · replace hf := o_pos c1 hf
    refine j_iconst (pc := 21) M.1 dX1_joined_21 kc_iconst_m1 ?_
    exact jm_iret (pc := 22) M dX1_joined_22 hf
  · replace hf := o_neg c1 hf
    refine j_iload_n (pc := 4) M.1 dX1_joined_4 1 rfl ?_
    refine j_aload_n (pc := 5) M.1 dX1_joined_5 0 rfl ?_
    refine jm_getS (pc := 6) M fm_512 dX1_joined_6 ?_
    refine j_icmp_ge (pc := 9) M.1 21 dX1_joined_9 rfl (fun c2 => ?_) (fun c2 => ?_)
    · replace hf := o_pos c2 hf
      refine j_iconst (pc := 21) M.1 dX1_joined_21 kc_iconst_m1 ?_
      exact jm_iret (pc := 22) M dX1_joined_22 hf
    · replace hf := o_neg c2 hf
      refine j_aload_n (pc := 12) M.1 dX1_joined_12 0 rfl ?_
      refine jm_getA (pc := 13) M fa_175 dX1_joined_13 ?_
      refine j_iload_n (pc := 16) M.1 dX1_joined_16 1 rfl ?_
      obtain ⟨b1, hf⟩ := o_need hf
      refine jm_iald (pc := 17) M ax_53 b1 dX1_joined_17 ?_
      refine j_goto (pc := 18) M.1 22 dX1_joined_18 rfl ?_
      exact jm_iret (pc := 22) M dX1_joined_22 hf
end
theorem dX1_looksAt_0 : decode cX1_looksAt 0 = .ok (.iconst 0, 1) := by decide +kernel
theorem dX1_looksAt_1 : decode cX1_looksAt 1 = .ok (.istore_n 3, 1) := by decide +kernel
theorem dX1_looksAt_2 : decode cX1_looksAt 2 = .ok (.iconst 0, 1) := by decide +kernel
theorem dX1_looksAt_3 : decode cX1_looksAt 3 = .ok (.istore 4, 2) := by decide +kernel
theorem dX1_looksAt_5 : decode cX1_looksAt 5 = .ok (.iload 4, 2) := by decide +kernel
theorem dX1_looksAt_7 : decode cX1_looksAt 7 = .ok (.aload_n 0, 1) := by decide +kernel
theorem dX1_looksAt_8 : decode cX1_looksAt 8 = .ok (.getfield 524, 3) := by decide +kernel
theorem dX1_looksAt_11 : decode cX1_looksAt 11 = .ok (.if_icmp .ge 114, 3) := by decide +kernel
theorem dX1_looksAt_14 : decode cX1_looksAt 14 = .ok (.aload_n 0, 1) := by decide +kernel
theorem dX1_looksAt_15 : decode cX1_looksAt 15 = .ok (.getfield 196, 3) := by decide +kernel
theorem dX1_looksAt_18 : decode cX1_looksAt 18 = .ok (.iload 4, 2) := by decide +kernel
theorem dX1_looksAt_20 : decode cX1_looksAt 20 = .ok (.iaload, 1) := by decide +kernel
theorem dX1_looksAt_21 : decode cX1_looksAt 21 = .ok (.iload_n 1, 1) := by decide +kernel
theorem dX1_looksAt_22 : decode cX1_looksAt 22 = .ok (.if_icmp .ne 97, 3) := by decide +kernel
theorem dX1_looksAt_25 : decode cX1_looksAt 25 = .ok (.aload_n 0, 1) := by decide +kernel
theorem dX1_looksAt_26 : decode cX1_looksAt 26 = .ok (.getfield 211, 3) := by decide +kernel
theorem dX1_looksAt_29 : decode cX1_looksAt 29 = .ok (.iload 4, 2) := by decide +kernel
theorem dX1_looksAt_31 : decode cX1_looksAt 31 = .ok (.baload, 1) := by decide +kernel
theorem dX1_looksAt_32 : decode cX1_looksAt 32 = .ok (.ifCond .ne 87, 3) := by decide +kernel
theorem dX1_looksAt_35 : decode cX1_looksAt 35 = .ok (.aload_n 0, 1) := by decide +kernel
theorem dX1_looksAt_36 : decode cX1_looksAt 36 = .ok (.getfield 205, 3) := by decide +kernel
theorem dX1_looksAt_39 : decode cX1_looksAt 39 = .ok (.iload 4, 2) := by decide +kernel
theorem dX1_looksAt_41 : decode cX1_looksAt 41 = .ok (.iaload, 1) := by decide +kernel
theorem dX1_looksAt_42 : decode cX1_looksAt 42 = .ok (.iload_n 2, 1) := by decide +kernel
theorem dX1_looksAt_43 : decode cX1_looksAt 43 = .ok (.if_icmp .le 6, 3) := by decide +kernel
theorem dX1_looksAt_46 : decode cX1_looksAt 46 = .ok (.goto 73, 3) := by decide +kernel
theorem dX1_looksAt_49 : decode cX1_looksAt 49 = .ok (.iload_n 3, 1) := by decide +kernel
theorem dX1_looksAt_50 : decode cX1_looksAt 50 = .ok (.istore 5, 2) := by decide +kernel
theorem dX1_looksAt_52 : decode cX1_looksAt 52 = .ok (.iload 5, 2) := by decide +kernel
theorem dX1_looksAt_54 : decode cX1_looksAt 54 = .ok (.ifCond .le 52, 3) := by decide +kernel
theorem dX1_looksAt_57 : decode cX1_looksAt 57 = .ok (.aload_n 0, 1) := by decide +kernel
theorem dX1_looksAt_58 : decode cX1_looksAt 58 = .ok (.getfield 199, 3) := by decide +kernel
theorem dX1_looksAt_61 : decode cX1_looksAt 61 = .ok (.aload_n 0, 1) := by decide +kernel
theorem dX1_looksAt_62 : decode cX1_looksAt 62 = .ok (.getfield 208, 3) := by decide +kernel
theorem dX1_looksAt_65 : decode cX1_looksAt 65 = .ok (.iload 5, 2) := by decide +kernel
theorem dX1_looksAt_67 : decode cX1_looksAt 67 = .ok (.iconst 1, 1) := by decide +kernel
theorem dX1_looksAt_68 : decode cX1_looksAt 68 = .ok (.isub, 1) := by decide +kernel
theorem dX1_looksAt_69 : decode cX1_looksAt 69 = .ok (.iaload, 1) := by decide +kernel
theorem dX1_looksAt_70 : decode cX1_looksAt 70 = .ok (.iaload, 1) := by decide +kernel
theorem dX1_looksAt_71 : decode cX1_looksAt 71 = .ok (.aload_n 0, 1) := by decide +kernel
theorem dX1_looksAt_72 : decode cX1_looksAt 72 = .ok (.getfield 199, 3) := by decide +kernel
theorem dX1_looksAt_75 : decode cX1_looksAt 75 = .ok (.iload 4, 2) := by decide +kernel
theorem dX1_looksAt_77 : decode cX1_looksAt 77 = .ok (.iaload, 1) := by decide +kernel
theorem dX1_looksAt_78 : decode cX1_looksAt 78 = .ok (.if_icmp .le 28, 3) := by decide +kernel
theorem dX1_looksAt_81 : decode cX1_looksAt 81 = .ok (.aload_n 0, 1) := by decide +kernel
theorem dX1_looksAt_82 : decode cX1_looksAt 82 = .ok (.getfield 208, 3) := by decide +kernel
theorem dX1_looksAt_85 : decode cX1_looksAt 85 = .ok (.iload 5, 2) := by decide +kernel
theorem dX1_looksAt_87 : decode cX1_looksAt 87 = .ok (.aload_n 0, 1) := by decide +kernel
theorem dX1_looksAt_88 : decode cX1_looksAt 88 = .ok (.getfield 208, 3) := by decide +kernel
theorem dX1_looksAt_91 : decode cX1_looksAt 91 = .ok (.iload 5, 2) := by decide +kernel
theorem dX1_looksAt_93 : decode cX1_looksAt 93 = .ok (.iconst 1, 1) := by decide +kernel
theorem dX1_looksAt_94 : decode cX1_looksAt 94 = .ok (.isub, 1) := by decide +kernel
theorem dX1_looksAt_95 : decode cX1_looksAt 95 = .ok (.iaload, 1) := by decide +kernel
theorem dX1_looksAt_96 : decode cX1_looksAt 96 = .ok (.iastore, 1) := by decide +kernel
theorem dX1_looksAt_97 : decode cX1_looksAt 97 = .ok (.iload 5, 2) := by decide +kernel
theorem dX1_looksAt_99 : decode cX1_looksAt 99 = .ok (.iconst 1, 1) := by decide +kernel
theorem dX1_looksAt_100 : decode cX1_looksAt 100 = .ok (.isub, 1) := by decide +kernel
theorem dX1_looksAt_101 : decode cX1_looksAt 101 = .ok (.istore 5, 2) := by decide +kernel
theorem dX1_looksAt_103 : decode cX1_looksAt 103 = .ok (.goto (-51), 3) := by decide +kernel
theorem dX1_looksAt_106 : decode cX1_looksAt 106 = .ok (.aload_n 0, 1) := by decide +kernel
theorem dX1_looksAt_107 : decode cX1_looksAt 107 = .ok (.getfield 208, 3) := by decide +kernel
theorem dX1_looksAt_110 : decode cX1_looksAt 110 = .ok (.iload 5, 2) := by decide +kernel
theorem dX1_looksAt_112 : decode cX1_looksAt 112 = .ok (.iload 4, 2) := by decide +kernel
theorem dX1_looksAt_114 : decode cX1_looksAt 114 = .ok (.iastore, 1) := by decide +kernel
theorem dX1_looksAt_115 : decode cX1_looksAt 115 = .ok (.iload_n 3, 1) := by decide +kernel
theorem dX1_looksAt_116 : decode cX1_looksAt 116 = .ok (.iconst 1, 1) := by decide +kernel
theorem dX1_looksAt_117 : decode cX1_looksAt 117 = .ok (.iadd, 1) := by decide +kernel
theorem dX1_looksAt_118 : decode cX1_looksAt 118 = .ok (.istore_n 3, 1) := by decide +kernel
theorem dX1_looksAt_119 : decode cX1_looksAt 119 = .ok (.iinc 4 1, 3) := by decide +kernel
theorem dX1_looksAt_122 : decode cX1_looksAt 122 = .ok (.goto (-117), 3) := by decide +kernel
theorem dX1_looksAt_125 : decode cX1_looksAt 125 = .ok (.iload_n 3, 1) := by decide +kernel
theorem dX1_looksAt_126 : decode cX1_looksAt 126 = .ok (.ireturn, 1) := by decide +kernel
section
variable {res : Int32 × MS}
noncomputable def m_looksAt_B52 (F : Nat) (K106 : Int32 × MS → Option (Int32 × MS)) (x1 x2 x3 x4 : Int32) (R : Int32 × MS → Option (Int32 × MS)) (a : Int32 × MS) : Option (Int32 × MS) :=
  if a.1 ≤ 0 then (K106 (a.1, a.2)) else (if okI (a.1 - 1) 100 = true then if okI (a.2.2 64 (a.1 - 1).toNatClampNeg) 100 = true then if okI x4 100 = true then if (a.2.2 61 (a.2.2 64 (a.1 - 1).toNatClampNeg).toNatClampNeg) ≤ (a.2.2 61 x4.toNatClampNeg) then (K106 (a.1, a.2)) else (if okI (a.1 - 1) 100 = true then if okI a.1 100 = true then nx (sA a.2 64 a.1.toNatClampNeg (a.2.2 64 (a.1 - 1).toNatClampNeg)) (fun σ1 => R (a.1 - 1, σ1)) else none else none) else none else none else none)
theorem km_looksAt_B52 (M : MC γ cX1_looksAt 6 G o 1 (some .int) (mQi G o res)) (x1 x2 x3 x4 : Int32) (K106 : Int32 × MS → Option (Int32 × MS)) (hK106 : ∀ a, K106 a = some res → J γ (MW G o a.2) 0 0 106 [(0, .ref o), (1, .int x1), (2, .int x2), (3, .int x3), (4, .int x4), (5, .int a.1)] []) : ∀ R : Int32 × MS → Option (Int32 × MS), (∀ a, R a = some res → J γ (MW G o a.2) 0 0 52 [(0, .ref o), (1, .int x1), (2, .int x2), (3, .int x3), (4, .int x4), (5, .int a.1)] []) → ∀ a, m_looksAt_B52 F K106 x1 x2 x3 x4 R a = some res → J γ (MW G o a.2) 0 0 52 [(0, .ref o), (1, .int x1), (2, .int x2), (3, .int x3), (4, .int x4), (5, .int a.1)] [] := by
  intro R hR a hf
  unfold m_looksAt_B52 at hf
  refine j_iload (pc := 52) M.1 dX1_looksAt_52 5 rfl ?_
  refine j_if_le (pc := 54) M.1 106 dX1_looksAt_54 rfl (fun c1 => ?_) (fun c1 => ?_)
  · replace hf := o_pos c1 hf
    have hy := hK106 _ hf
    exact hy
  · replace hf := o_neg c1 hf
    refine j_aload_n (pc := 57) M.1 dX1_looksAt_57 0 rfl ?_
    refine jm_getA (pc := 58) M fa_199 dX1_looksAt_58 ?_
    refine j_aload_n (pc := 61) M.1 dX1_looksAt_61 0 rfl ?_
    refine jm_getA (pc := 62) M fa_208 dX1_looksAt_62 ?_
    refine j_iload (pc := 65) M.1 dX1_looksAt_65 5 rfl ?_
    refine j_iconst (pc := 67) M.1 dX1_looksAt_67 kc_iconst_1 ?_
    refine j_isub (pc := 68) M.1 dX1_looksAt_68 ?_
    obtain ⟨b1, hf⟩ := o_need hf
    refine jm_iald (pc := 69) M ax_64 b1 dX1_looksAt_69 ?_
    obtain ⟨b2, hf⟩ := o_need hf
    refine jm_iald (pc := 70) M ax_61 b2 dX1_looksAt_70 ?_
    refine j_aload_n (pc := 71) M.1 dX1_looksAt_71 0 rfl ?_
    refine jm_getA (pc := 72) M fa_199 dX1_looksAt_72 ?_
    refine j_iload (pc := 75) M.1 dX1_looksAt_75 4 rfl ?_
    obtain ⟨b3, hf⟩ := o_need hf
    refine jm_iald (pc := 77) M ax_61 b3 dX1_looksAt_77 ?_
    refine j_icmp_le (pc := 78) M.1 106 dX1_looksAt_78 rfl (fun c2 => ?_) (fun c2 => ?_)
    · replace hf := o_pos c2 hf
      have hy := hK106 _ hf
      exact hy
    · replace hf := o_neg c2 hf
      refine j_aload_n (pc := 81) M.1 dX1_looksAt_81 0 rfl ?_
      refine jm_getA (pc := 82) M fa_208 dX1_looksAt_82 ?_
      refine j_iload (pc := 85) M.1 dX1_looksAt_85 5 rfl ?_
      refine j_aload_n (pc := 87) M.1 dX1_looksAt_87 0 rfl ?_
      refine jm_getA (pc := 88) M fa_208 dX1_looksAt_88 ?_
      refine j_iload (pc := 91) M.1 dX1_looksAt_91 5 rfl ?_
      refine j_iconst (pc := 93) M.1 dX1_looksAt_93 kc_iconst_1 ?_
      refine j_isub (pc := 94) M.1 dX1_looksAt_94 ?_
      obtain ⟨b4, hf⟩ := o_need hf
      refine jm_iald (pc := 95) M ax_64 b4 dX1_looksAt_95 ?_
      obtain ⟨b5, hf⟩ := o_need hf
      obtain ⟨σ1, e1, hf⟩ := o_nx hf
      refine jm_iast (pc := 96) M ax_64 b5 dX1_looksAt_96 e1 ?_
      refine j_iload (pc := 97) M.1 dX1_looksAt_97 5 rfl ?_
      refine j_iconst (pc := 99) M.1 dX1_looksAt_99 kc_iconst_1 ?_
      refine j_isub (pc := 100) M.1 dX1_looksAt_100 ?_
      refine j_istore (pc := 101) M.1 [(5, .int (a.1 - 1)), (0, .ref o), (1, .int x1), (2, .int x2), (3, .int x3), (4, .int x4)] dX1_looksAt_101 rfl rfl ?_
      refine j_goto (pc := 103) M.1 52 dX1_looksAt_103 rfl ?_
      refine j_sub [1, 2, 3, 4, 5, 0] (show lv_pick _ _ = [(0, .ref o), (1, .int x1), (2, .int x2), (3, .int x3), (4, .int x4), (5, .int (a.1 - 1))] from rfl) ?_
      have hy := hR _ hf
      exact hy
noncomputable def m_looksAt_106 (F : Nat) (R : Int32 × Int32 × MS → Option (Int32 × MS)) (x1 x2 x3 x4 x5 : Int32) (σ : MS) : Option (Int32 × MS) :=
  if okI x5 100 = true then nx (sA σ 64 x5.toNatClampNeg x4) (fun σ1 => R (x3 + 1, x4 + 1, σ1)) else none
theorem km_looksAt_106 (M : MC γ cX1_looksAt 6 G o 1 (some .int) (mQi G o res)) (x1 x2 x3 x4 x5 : Int32) (R : Int32 × Int32 × MS → Option (Int32 × MS)) (hR : ∀ a, R a = some res → J γ (MW G o a.2.2) 0 0 5 [(0, .ref o), (1, .int x1), (2, .int x2), (3, .int a.1), (4, .int a.2.1)] []) (σ : MS) (hf : m_looksAt_106 F R x1 x2 x3 x4 x5 σ = some res) : J γ (MW G o σ) 0 0 106 [(0, .ref o), (1, .int x1), (2, .int x2), (3, .int x3), (4, .int x4), (5, .int x5)] [] := by
  unfold m_looksAt_106 at hf
  refine j_aload_n (pc := 106) M.1 dX1_looksAt_106 0 rfl ?_
  refine jm_getA (pc := 107) M fa_208 dX1_looksAt_107 ?_
  refine j_iload (pc := 110) M.1 dX1_looksAt_110 5 rfl ?_
  refine j_iload (pc := 112) M.1 dX1_looksAt_112 4 rfl ?_
  obtain ⟨b1, hf⟩ := o_need hf
  obtain ⟨σ1, e1, hf⟩ := o_nx hf
  refine jm_iast (pc := 114) M ax_64 b1 dX1_looksAt_114 e1 ?_
  refine j_iload_n (pc := 115) M.1 dX1_looksAt_115 3 rfl ?_
  refine j_iconst (pc := 116) M.1 dX1_looksAt_116 kc_iconst_1 ?_
  refine j_iadd (pc := 117) M.1 dX1_looksAt_117 ?_
  refine j_istore_n (pc := 118) M.1 [(3, .int (x3 + 1)), (0, .ref o), (1, .int x1), (2, .int x2), (4, .int x4), (5, .int x5)] dX1_looksAt_118 rfl rfl ?_
  refine j_iinc (pc := 119) M.1 [(4, .int (x4 + 1)), (3, .int (x3 + 1)), (0, .ref o), (1, .int x1), (2, .int x2), (5, .int x5)] dX1_looksAt_119 4 rfl (congrArg _ kc_iconst_1) rfl rfl ?_
  refine j_goto (pc := 122) M.1 5 dX1_looksAt_122 rfl ?_
  refine j_sub [2, 3, 4, 1, 0] (show lv_pick _ _ = [(0, .ref o), (1, .int x1), (2, .int x2), (3, .int (x3 + 1)), (4, .int (x4 + 1))] from rfl) ?_
  have hy := hR _ hf
  exact hy
noncomputable def m_looksAt_B5 (F : Nat) (x1 x2 : Int32) (R : Int32 × Int32 × MS → Option (Int32 × MS)) (a : Int32 × Int32 × MS) : Option (Int32 × MS) :=
  if (a.2.2.1 80) ≤ a.2.1 then (some (a.1, a.2.2)) else (if okI a.2.1 100 = true then if (a.2.2.2 60 a.2.1.toNatClampNeg) = x1 then (if okI a.2.1 100 = true then if (a.2.2.2 65 a.2.1.toNatClampNeg) = 0 then (if okI a.2.1 100 = true then if (a.2.2.2 63 a.2.1.toNatClampNeg) ≤ x2 then (lp (m_looksAt_B52 F (fun a1 => m_looksAt_106 F R x1 x2 a.1 a.2.1 a1.1 a1.2) x1 x2 a.1 a.2.1) F (a.1, a.2.2)) else (R (a.1, a.2.1 + 1, a.2.2)) else none) else (R (a.1, a.2.1 + 1, a.2.2)) else none) else (R (a.1, a.2.1 + 1, a.2.2)) else none)
theorem km_looksAt_B5 (M : MC γ cX1_looksAt 6 G o 1 (some .int) (mQi G o res)) (x1 x2 : Int32) : ∀ R : Int32 × Int32 × MS → Option (Int32 × MS), (∀ a, R a = some res → J γ (MW G o a.2.2) 0 0 5 [(0, .ref o), (1, .int x1), (2, .int x2), (3, .int a.1), (4, .int a.2.1)] []) → ∀ a, m_looksAt_B5 F x1 x2 R a = some res → J γ (MW G o a.2.2) 0 0 5 [(0, .ref o), (1, .int x1), (2, .int x2), (3, .int a.1), (4, .int a.2.1)] [] := by
  intro R hR a hf
  unfold m_looksAt_B5 at hf
  refine j_iload (pc := 5) M.1 dX1_looksAt_5 4 rfl ?_
  refine j_aload_n (pc := 7) M.1 dX1_looksAt_7 0 rfl ?_
  refine jm_getS (pc := 8) M fm_524 dX1_looksAt_8 ?_
  refine j_icmp_ge (pc := 11) M.1 125 dX1_looksAt_11 rfl (fun c1 => ?_) (fun c1 => ?_)
  · replace hf := o_pos c1 hf
    refine j_iload_n (pc := 125) M.1 dX1_looksAt_125 3 rfl ?_
    exact jm_iret (pc := 126) M dX1_looksAt_126 hf
  · replace hf := o_neg c1 hf
    refine j_aload_n (pc := 14) M.1 dX1_looksAt_14 0 rfl ?_
    refine jm_getA (pc := 15) M fa_196 dX1_looksAt_15 ?_
    refine j_iload (pc := 18) M.1 dX1_looksAt_18 4 rfl ?_
    obtain ⟨b1, hf⟩ := o_need hf
    refine jm_iald (pc := 20) M ax_60 b1 dX1_looksAt_20 ?_
    refine j_iload_n (pc := 21) M.1 dX1_looksAt_21 1 rfl ?_
    refine j_icmp_ne (pc := 22) M.1 119 dX1_looksAt_22 rfl (fun c2 => ?_) (fun c2 => ?_)
    · replace hf := o_neg c2 hf
      refine j_iinc (pc := 119) M.1 [(4, .int (a.2.1 + 1)), (0, .ref o), (1, .int x1), (2, .int x2), (3, .int a.1)] dX1_looksAt_119 4 rfl (congrArg _ kc_iconst_1) rfl rfl ?_
      refine j_goto (pc := 122) M.1 5 dX1_looksAt_122 rfl ?_
      refine j_sub [1, 2, 3, 4, 0] (show lv_pick _ _ = [(0, .ref o), (1, .int x1), (2, .int x2), (3, .int a.1), (4, .int (a.2.1 + 1))] from rfl) ?_
      have hy := hR _ hf
      exact hy
    · replace hf := o_pos c2 hf
      refine j_aload_n (pc := 25) M.1 dX1_looksAt_25 0 rfl ?_
      refine jm_getA (pc := 26) M fa_211 dX1_looksAt_26 ?_
      refine j_iload (pc := 29) M.1 dX1_looksAt_29 4 rfl ?_
      obtain ⟨b2, hf⟩ := o_need hf
      refine jm_zald (pc := 31) M ax_65 b2 dX1_looksAt_31 ?_
      refine j_if_ne (pc := 32) M.1 119 dX1_looksAt_32 rfl (fun c3 => ?_) (fun c3 => ?_)
      · replace hf := o_neg c3 hf
        refine j_iinc (pc := 119) M.1 [(4, .int (a.2.1 + 1)), (0, .ref o), (1, .int x1), (2, .int x2), (3, .int a.1)] dX1_looksAt_119 4 rfl (congrArg _ kc_iconst_1) rfl rfl ?_
        refine j_goto (pc := 122) M.1 5 dX1_looksAt_122 rfl ?_
        refine j_sub [1, 2, 3, 4, 0] (show lv_pick _ _ = [(0, .ref o), (1, .int x1), (2, .int x2), (3, .int a.1), (4, .int (a.2.1 + 1))] from rfl) ?_
        have hy := hR _ hf
        exact hy
      · replace hf := o_pos c3 hf
        refine j_aload_n (pc := 35) M.1 dX1_looksAt_35 0 rfl ?_
        refine jm_getA (pc := 36) M fa_205 dX1_looksAt_36 ?_
        refine j_iload (pc := 39) M.1 dX1_looksAt_39 4 rfl ?_
        obtain ⟨b3, hf⟩ := o_need hf
        refine jm_iald (pc := 41) M ax_63 b3 dX1_looksAt_41 ?_
        refine j_iload_n (pc := 42) M.1 dX1_looksAt_42 2 rfl ?_
        refine j_icmp_le (pc := 43) M.1 49 dX1_looksAt_43 rfl (fun c4 => ?_) (fun c4 => ?_)
        · replace hf := o_pos c4 hf
          refine j_iload_n (pc := 49) M.1 dX1_looksAt_49 3 rfl ?_
          refine j_istore (pc := 50) M.1 [(5, .int a.1), (0, .ref o), (1, .int x1), (2, .int x2), (3, .int a.1), (4, .int a.2.1)] dX1_looksAt_50 rfl rfl ?_
          refine j_sub [1, 2, 3, 4, 5, 0] (show lv_pick _ _ = [(0, .ref o), (1, .int x1), (2, .int x2), (3, .int a.1), (4, .int a.2.1), (5, .int a.1)] from rfl) ?_
          refine lp_W (km_looksAt_B52 M x1 x2 a.1 a.2.1 _ ?_) F (a.1, a.2.2) hf
          · intro a1 hf
            exact km_looksAt_106 M x1 x2 a.1 a.2.1 a1.1 R hR a1.2 hf
        · replace hf := o_neg c4 hf
          refine j_goto (pc := 46) M.1 119 dX1_looksAt_46 rfl ?_
          refine j_iinc (pc := 119) M.1 [(4, .int (a.2.1 + 1)), (0, .ref o), (1, .int x1), (2, .int x2), (3, .int a.1)] dX1_looksAt_119 4 rfl (congrArg _ kc_iconst_1) rfl rfl ?_
          refine j_goto (pc := 122) M.1 5 dX1_looksAt_122 rfl ?_
          refine j_sub [1, 2, 3, 4, 0] (show lv_pick _ _ = [(0, .ref o), (1, .int x1), (2, .int x2), (3, .int a.1), (4, .int (a.2.1 + 1))] from rfl) ?_
          have hy := hR _ hf
          exact hy
noncomputable def m_looksAt (F : Nat) (x1 x2 : Int32) (σ : MS) : Option (Int32 × MS) :=
  lp (m_looksAt_B5 F x1 x2) F (0, 0, σ)
theorem met_looksAt {l : Launch} {G : gG} {o F : Nat} {x1 x2 : Int32} {σ : MS} {res : Int32 × MS} (hf : m_looksAt F x1 x2 σ = some res) : MetMi l G yX1_looksAt cX1_looksAt 6 (some .int) 1 o [.int x1, .int x2] σ res := by
  refine metMi_of (by decide) rfl rfl (fun γ hγ M => ?_)
  subst hγ
  show J γ (MW G o σ) 0 0 0 [(0, .ref o), (1, .int x1), (2, .int x2)] []
  unfold m_looksAt at hf
  refine j_iconst (pc := 0) M.1 dX1_looksAt_0 kc_iconst_0 ?_
  refine j_istore_n (pc := 1) M.1 [(3, .int 0), (0, .ref o), (1, .int x1), (2, .int x2)] dX1_looksAt_1 rfl rfl ?_
  refine j_iconst (pc := 2) M.1 dX1_looksAt_2 kc_iconst_0 ?_
  refine j_istore (pc := 3) M.1 [(4, .int 0), (3, .int 0), (0, .ref o), (1, .int x1), (2, .int x2)] dX1_looksAt_3 rfl rfl ?_
  refine j_sub [2, 3, 4, 1, 0] (show lv_pick _ _ = [(0, .ref o), (1, .int x1), (2, .int x2), (3, .int 0), (4, .int 0)] from rfl) ?_
  refine lp_W (km_looksAt_B5 M x1 x2) F (0, 0, σ) hf
end
theorem dX1_mostOf_0 : decode cX1_mostOf 0 = .ok (.iload_n 0, 1) := by decide +kernel
theorem dX1_mostOf_1 : decode cX1_mostOf 1 = .ok (.bipush 110, 2) := by decide +kernel
theorem dX1_mostOf_3 : decode cX1_mostOf 3 = .ok (.if_icmp .ne 7, 3) := by decide +kernel
theorem dX1_mostOf_6 : decode cX1_mostOf 6 = .ok (.iconst 3, 1) := by decide +kernel
theorem dX1_mostOf_7 : decode cX1_mostOf 7 = .ok (.goto 38, 3) := by decide +kernel
theorem dX1_mostOf_10 : decode cX1_mostOf 10 = .ok (.iload_n 0, 1) := by decide +kernel
theorem dX1_mostOf_11 : decode cX1_mostOf 11 = .ok (.bipush 97, 2) := by decide +kernel
theorem dX1_mostOf_13 : decode cX1_mostOf 13 = .ok (.if_icmp .ne 8, 3) := by decide +kernel
theorem dX1_mostOf_16 : decode cX1_mostOf 16 = .ok (.bipush 8, 2) := by decide +kernel
theorem dX1_mostOf_18 : decode cX1_mostOf 18 = .ok (.goto 27, 3) := by decide +kernel
theorem dX1_mostOf_21 : decode cX1_mostOf 21 = .ok (.iload_n 0, 1) := by decide +kernel
theorem dX1_mostOf_22 : decode cX1_mostOf 22 = .ok (.bipush 118, 2) := by decide +kernel
theorem dX1_mostOf_24 : decode cX1_mostOf 24 = .ok (.if_icmp .ne 8, 3) := by decide +kernel
theorem dX1_mostOf_27 : decode cX1_mostOf 27 = .ok (.bipush 99, 2) := by decide +kernel
theorem dX1_mostOf_29 : decode cX1_mostOf 29 = .ok (.goto 16, 3) := by decide +kernel
theorem dX1_mostOf_32 : decode cX1_mostOf 32 = .ok (.iload_n 0, 1) := by decide +kernel
theorem dX1_mostOf_33 : decode cX1_mostOf 33 = .ok (.bipush 102, 2) := by decide +kernel
theorem dX1_mostOf_35 : decode cX1_mostOf 35 = .ok (.if_icmp .ne 8, 3) := by decide +kernel
theorem dX1_mostOf_38 : decode cX1_mostOf 38 = .ok (.bipush 7, 2) := by decide +kernel
theorem dX1_mostOf_40 : decode cX1_mostOf 40 = .ok (.goto 5, 3) := by decide +kernel
theorem dX1_mostOf_43 : decode cX1_mostOf 43 = .ok (.bipush 19, 2) := by decide +kernel
theorem dX1_mostOf_45 : decode cX1_mostOf 45 = .ok (.ireturn, 1) := by decide +kernel
section
variable {res : Int32}
noncomputable def m_mostOf (F : Nat) (x0 : Int32) : Option Int32 :=
  if x0 = 110 then (some 3) else (if x0 = 97 then (some 8) else (if x0 = 118 then (some 99) else (if x0 = 102 then (some 7) else (some 19))))
theorem met_mostOf {l : Launch} {F : Nat} {x0 : Int32} {res : Int32} (hf : m_mostOf F x0 = some res) : MetSi l yX1_mostOf cX1_mostOf 1 (some .int) 1 [.int x0] res := by
  refine metSi_of (own := RX1) (by decide) rfl rfl (fun γ hγ M => ?_)
  subst hγ
  show J γ (sP γ) 0 0 0 [(0, .int x0)] []
  unfold m_mostOf at hf
  refine j_iload_n (pc := 0) M.1 dX1_mostOf_0 0 rfl ?_
  refine j_bipush (pc := 1) M.1 dX1_mostOf_1 kc_bipush_110 ?_
  refine j_icmp_ne (pc := 3) M.1 10 dX1_mostOf_3 rfl (fun c1 => ?_) (fun c1 => ?_)
  · replace hf := o_neg c1 hf
    refine j_iload_n (pc := 10) M.1 dX1_mostOf_10 0 rfl ?_
    refine j_bipush (pc := 11) M.1 dX1_mostOf_11 kc_bipush_97 ?_
    refine j_icmp_ne (pc := 13) M.1 21 dX1_mostOf_13 rfl (fun c2 => ?_) (fun c2 => ?_)
    · replace hf := o_neg c2 hf
      refine j_iload_n (pc := 21) M.1 dX1_mostOf_21 0 rfl ?_
      refine j_bipush (pc := 22) M.1 dX1_mostOf_22 kc_bipush_118 ?_
      refine j_icmp_ne (pc := 24) M.1 32 dX1_mostOf_24 rfl (fun c3 => ?_) (fun c3 => ?_)
      · replace hf := o_neg c3 hf
        refine j_iload_n (pc := 32) M.1 dX1_mostOf_32 0 rfl ?_
        refine j_bipush (pc := 33) M.1 dX1_mostOf_33 kc_bipush_102 ?_
        refine j_icmp_ne (pc := 35) M.1 43 dX1_mostOf_35 rfl (fun c4 => ?_) (fun c4 => ?_)
        · replace hf := o_neg c4 hf
          refine j_bipush (pc := 43) M.1 dX1_mostOf_43 kc_bipush_19 ?_
          exact js_iret (pc := 45) M dX1_mostOf_45 hf
        · replace hf := o_pos c4 hf
          refine j_bipush (pc := 38) M.1 dX1_mostOf_38 kc_bipush_7 ?_
          refine j_goto (pc := 40) M.1 45 dX1_mostOf_40 rfl ?_
          exact js_iret (pc := 45) M dX1_mostOf_45 hf
      · replace hf := o_pos c3 hf
        refine j_bipush (pc := 27) M.1 dX1_mostOf_27 kc_bipush_99 ?_
        refine j_goto (pc := 29) M.1 45 dX1_mostOf_29 rfl ?_
        exact js_iret (pc := 45) M dX1_mostOf_45 hf
    · replace hf := o_pos c2 hf
      refine j_bipush (pc := 16) M.1 dX1_mostOf_16 kc_bipush_8 ?_
      refine j_goto (pc := 18) M.1 45 dX1_mostOf_18 rfl ?_
      exact js_iret (pc := 45) M dX1_mostOf_45 hf
  · replace hf := o_pos c1 hf
    refine j_iconst (pc := 6) M.1 dX1_mostOf_6 kc_iconst_3 ?_
    refine j_goto (pc := 7) M.1 45 dX1_mostOf_7 rfl ?_
    exact js_iret (pc := 45) M dX1_mostOf_45 hf
end
theorem dX1_reckon_0 : decode cX1_reckon 0 = .ok (.iload_n 0, 1) := by decide +kernel
theorem dX1_reckon_1 : decode cX1_reckon 1 = .ok (.tableswitch 85 2 8 #[43, 47, 51, 55, 59, 63, 74], 43) := by decide +kernel
theorem dX1_reckon_44 : decode cX1_reckon 44 = .ok (.iload_n 1, 1) := by decide +kernel
theorem dX1_reckon_45 : decode cX1_reckon 45 = .ok (.iload_n 2, 1) := by decide +kernel
theorem dX1_reckon_46 : decode cX1_reckon 46 = .ok (.iadd, 1) := by decide +kernel
theorem dX1_reckon_47 : decode cX1_reckon 47 = .ok (.ireturn, 1) := by decide +kernel
theorem dX1_reckon_48 : decode cX1_reckon 48 = .ok (.iload_n 1, 1) := by decide +kernel
theorem dX1_reckon_49 : decode cX1_reckon 49 = .ok (.iload_n 2, 1) := by decide +kernel
theorem dX1_reckon_50 : decode cX1_reckon 50 = .ok (.isub, 1) := by decide +kernel
theorem dX1_reckon_51 : decode cX1_reckon 51 = .ok (.ireturn, 1) := by decide +kernel
theorem dX1_reckon_52 : decode cX1_reckon 52 = .ok (.iload_n 1, 1) := by decide +kernel
theorem dX1_reckon_53 : decode cX1_reckon 53 = .ok (.iload_n 2, 1) := by decide +kernel
theorem dX1_reckon_54 : decode cX1_reckon 54 = .ok (.imul, 1) := by decide +kernel
theorem dX1_reckon_55 : decode cX1_reckon 55 = .ok (.ireturn, 1) := by decide +kernel
theorem dX1_reckon_56 : decode cX1_reckon 56 = .ok (.iload_n 1, 1) := by decide +kernel
theorem dX1_reckon_57 : decode cX1_reckon 57 = .ok (.iload_n 2, 1) := by decide +kernel
theorem dX1_reckon_58 : decode cX1_reckon 58 = .ok (.idiv, 1) := by decide +kernel
theorem dX1_reckon_59 : decode cX1_reckon 59 = .ok (.ireturn, 1) := by decide +kernel
theorem dX1_reckon_60 : decode cX1_reckon 60 = .ok (.iload_n 1, 1) := by decide +kernel
theorem dX1_reckon_61 : decode cX1_reckon 61 = .ok (.iload_n 2, 1) := by decide +kernel
theorem dX1_reckon_62 : decode cX1_reckon 62 = .ok (.irem, 1) := by decide +kernel
theorem dX1_reckon_63 : decode cX1_reckon 63 = .ok (.ireturn, 1) := by decide +kernel
theorem dX1_reckon_64 : decode cX1_reckon 64 = .ok (.iload_n 1, 1) := by decide +kernel
theorem dX1_reckon_65 : decode cX1_reckon 65 = .ok (.iload_n 2, 1) := by decide +kernel
theorem dX1_reckon_66 : decode cX1_reckon 66 = .ok (.if_icmp .ge 7, 3) := by decide +kernel
theorem dX1_reckon_69 : decode cX1_reckon 69 = .ok (.iconst 1, 1) := by decide +kernel
theorem dX1_reckon_70 : decode cX1_reckon 70 = .ok (.goto 4, 3) := by decide +kernel
theorem dX1_reckon_73 : decode cX1_reckon 73 = .ok (.iconst 0, 1) := by decide +kernel
theorem dX1_reckon_74 : decode cX1_reckon 74 = .ok (.ireturn, 1) := by decide +kernel
theorem dX1_reckon_75 : decode cX1_reckon 75 = .ok (.iload_n 1, 1) := by decide +kernel
theorem dX1_reckon_76 : decode cX1_reckon 76 = .ok (.iload_n 2, 1) := by decide +kernel
theorem dX1_reckon_77 : decode cX1_reckon 77 = .ok (.if_icmp .le 7, 3) := by decide +kernel
theorem dX1_reckon_80 : decode cX1_reckon 80 = .ok (.iconst 1, 1) := by decide +kernel
theorem dX1_reckon_81 : decode cX1_reckon 81 = .ok (.goto 4, 3) := by decide +kernel
theorem dX1_reckon_84 : decode cX1_reckon 84 = .ok (.iconst 0, 1) := by decide +kernel
theorem dX1_reckon_85 : decode cX1_reckon 85 = .ok (.ireturn, 1) := by decide +kernel
theorem dX1_reckon_86 : decode cX1_reckon 86 = .ok (.iload_n 1, 1) := by decide +kernel
theorem dX1_reckon_87 : decode cX1_reckon 87 = .ok (.iload_n 2, 1) := by decide +kernel
theorem dX1_reckon_88 : decode cX1_reckon 88 = .ok (.if_icmp .ne 7, 3) := by decide +kernel
theorem dX1_reckon_91 : decode cX1_reckon 91 = .ok (.iconst 1, 1) := by decide +kernel
theorem dX1_reckon_92 : decode cX1_reckon 92 = .ok (.goto 4, 3) := by decide +kernel
theorem dX1_reckon_95 : decode cX1_reckon 95 = .ok (.iconst 0, 1) := by decide +kernel
theorem dX1_reckon_96 : decode cX1_reckon 96 = .ok (.ireturn, 1) := by decide +kernel
section
variable {res : Int32}
noncomputable def m_reckon (F : Nat) (x0 x1 x2 : Int32) : Option Int32 :=
  if x0 = 2 then (some (x1 + x2)) else (if x0 = 3 then (some (x1 - x2)) else (if x0 = 4 then (some (x1 * x2)) else (if x0 = 5 then (if ¬ x2 = 0 then some (x1 / x2) else none) else (if x0 = 6 then (if ¬ x2 = 0 then some (jrem x1 x2) else none) else (if x0 = 7 then (if x2 ≤ x1 then (some 0) else (some 1)) else (if x0 = 8 then (if x1 ≤ x2 then (some 0) else (some 1)) else (if x1 = x2 then (some 1) else (some 0))))))))
theorem met_reckon {l : Launch} {F : Nat} {x0 x1 x2 : Int32} {res : Int32} (hf : m_reckon F x0 x1 x2 = some res) : MetSi l yX1_reckon cX1_reckon 3 (some .int) 1 [.int x0, .int x1, .int x2] res := by
  refine metSi_of (own := RX1) (by decide) rfl rfl (fun γ hγ M => ?_)
  subst hγ
  show J γ (sP γ) 0 0 0 [(0, .int x0), (1, .int x1), (2, .int x2)] []
  unfold m_reckon at hf
  refine j_iload_n (pc := 0) M.1 dX1_reckon_0 0 rfl ?_
  by_cases c1 : x0 = 2
  · replace hf := o_pos c1 hf
    refine j_tableIn (pc := 1) M.1 44 dX1_reckon_1 (by rw [c1]; decide) (by rw [c1]; decide) (by rw [c1]; rfl) rfl ?_
    refine j_iload_n (pc := 44) M.1 dX1_reckon_44 1 rfl ?_
    refine j_iload_n (pc := 45) M.1 dX1_reckon_45 2 rfl ?_
    refine j_iadd (pc := 46) M.1 dX1_reckon_46 ?_
    exact js_iret (pc := 47) M dX1_reckon_47 hf
  replace hf := o_neg c1 hf
  by_cases c2 : x0 = 3
  · replace hf := o_pos c2 hf
    refine j_tableIn (pc := 1) M.1 48 dX1_reckon_1 (by rw [c2]; decide) (by rw [c2]; decide) (by rw [c2]; rfl) rfl ?_
    refine j_iload_n (pc := 48) M.1 dX1_reckon_48 1 rfl ?_
    refine j_iload_n (pc := 49) M.1 dX1_reckon_49 2 rfl ?_
    refine j_isub (pc := 50) M.1 dX1_reckon_50 ?_
    exact js_iret (pc := 51) M dX1_reckon_51 hf
  replace hf := o_neg c2 hf
  by_cases c3 : x0 = 4
  · replace hf := o_pos c3 hf
    refine j_tableIn (pc := 1) M.1 52 dX1_reckon_1 (by rw [c3]; decide) (by rw [c3]; decide) (by rw [c3]; rfl) rfl ?_
    refine j_iload_n (pc := 52) M.1 dX1_reckon_52 1 rfl ?_
    refine j_iload_n (pc := 53) M.1 dX1_reckon_53 2 rfl ?_
    refine j_imul (pc := 54) M.1 dX1_reckon_54 ?_
    exact js_iret (pc := 55) M dX1_reckon_55 hf
  replace hf := o_neg c3 hf
  by_cases c4 : x0 = 5
  · replace hf := o_pos c4 hf
    refine j_tableIn (pc := 1) M.1 56 dX1_reckon_1 (by rw [c4]; decide) (by rw [c4]; decide) (by rw [c4]; rfl) rfl ?_
    refine j_iload_n (pc := 56) M.1 dX1_reckon_56 1 rfl ?_
    refine j_iload_n (pc := 57) M.1 dX1_reckon_57 2 rfl ?_
    obtain ⟨b1, hf⟩ := o_need hf
    refine j_idiv (pc := 58) M.1 dX1_reckon_58 b1 ?_
    exact js_iret (pc := 59) M dX1_reckon_59 hf
  replace hf := o_neg c4 hf
  by_cases c5 : x0 = 6
  · replace hf := o_pos c5 hf
    refine j_tableIn (pc := 1) M.1 60 dX1_reckon_1 (by rw [c5]; decide) (by rw [c5]; decide) (by rw [c5]; rfl) rfl ?_
    refine j_iload_n (pc := 60) M.1 dX1_reckon_60 1 rfl ?_
    refine j_iload_n (pc := 61) M.1 dX1_reckon_61 2 rfl ?_
    obtain ⟨b2, hf⟩ := o_need hf
    refine j_irem (pc := 62) M.1 dX1_reckon_62 b2 ?_
    exact js_iret (pc := 63) M dX1_reckon_63 hf
  replace hf := o_neg c5 hf
  by_cases c6 : x0 = 7
  · replace hf := o_pos c6 hf
    refine j_tableIn (pc := 1) M.1 64 dX1_reckon_1 (by rw [c6]; decide) (by rw [c6]; decide) (by rw [c6]; rfl) rfl ?_
    refine j_iload_n (pc := 64) M.1 dX1_reckon_64 1 rfl ?_
    refine j_iload_n (pc := 65) M.1 dX1_reckon_65 2 rfl ?_
    refine j_icmp_ge (pc := 66) M.1 73 dX1_reckon_66 rfl (fun c7 => ?_) (fun c7 => ?_)
    · replace hf := o_pos c7 hf
      refine j_iconst (pc := 73) M.1 dX1_reckon_73 kc_iconst_0 ?_
      exact js_iret (pc := 74) M dX1_reckon_74 hf
    · replace hf := o_neg c7 hf
      refine j_iconst (pc := 69) M.1 dX1_reckon_69 kc_iconst_1 ?_
      refine j_goto (pc := 70) M.1 74 dX1_reckon_70 rfl ?_
      exact js_iret (pc := 74) M dX1_reckon_74 hf
  replace hf := o_neg c6 hf
  by_cases c8 : x0 = 8
  · replace hf := o_pos c8 hf
    refine j_tableIn (pc := 1) M.1 75 dX1_reckon_1 (by rw [c8]; decide) (by rw [c8]; decide) (by rw [c8]; rfl) rfl ?_
    refine j_iload_n (pc := 75) M.1 dX1_reckon_75 1 rfl ?_
    refine j_iload_n (pc := 76) M.1 dX1_reckon_76 2 rfl ?_
    refine j_icmp_le (pc := 77) M.1 84 dX1_reckon_77 rfl (fun c9 => ?_) (fun c9 => ?_)
    · replace hf := o_pos c9 hf
      refine j_iconst (pc := 84) M.1 dX1_reckon_84 kc_iconst_0 ?_
      exact js_iret (pc := 85) M dX1_reckon_85 hf
    · replace hf := o_neg c9 hf
      refine j_iconst (pc := 80) M.1 dX1_reckon_80 kc_iconst_1 ?_
      refine j_goto (pc := 81) M.1 85 dX1_reckon_81 rfl ?_
      exact js_iret (pc := 85) M dX1_reckon_85 hf
  replace hf := o_neg c8 hf
  have nc1 : ¬ x0.toInt = 2 := fun z => c1 (Int32.toInt_inj.mp (by rw [z]; rfl))
  have nc2 : ¬ x0.toInt = 3 := fun z => c2 (Int32.toInt_inj.mp (by rw [z]; rfl))
  have nc3 : ¬ x0.toInt = 4 := fun z => c3 (Int32.toInt_inj.mp (by rw [z]; rfl))
  have nc4 : ¬ x0.toInt = 5 := fun z => c4 (Int32.toInt_inj.mp (by rw [z]; rfl))
  have nc5 : ¬ x0.toInt = 6 := fun z => c5 (Int32.toInt_inj.mp (by rw [z]; rfl))
  have nc6 : ¬ x0.toInt = 7 := fun z => c6 (Int32.toInt_inj.mp (by rw [z]; rfl))
  have nc8 : ¬ x0.toInt = 8 := fun z => c8 (Int32.toInt_inj.mp (by rw [z]; rfl))
  refine j_tableOut (pc := 1) M.1 86 dX1_reckon_1 (by omega) rfl ?_
  refine j_iload_n (pc := 86) M.1 dX1_reckon_86 1 rfl ?_
  refine j_iload_n (pc := 87) M.1 dX1_reckon_87 2 rfl ?_
  refine j_icmp_ne (pc := 88) M.1 95 dX1_reckon_88 rfl (fun c10 => ?_) (fun c10 => ?_)
  · replace hf := o_neg c10 hf
    refine j_iconst (pc := 95) M.1 dX1_reckon_95 kc_iconst_0 ?_
    exact js_iret (pc := 96) M dX1_reckon_96 hf
  · replace hf := o_pos c10 hf
    refine j_iconst (pc := 91) M.1 dX1_reckon_91 kc_iconst_1 ?_
    refine j_goto (pc := 92) M.1 96 dX1_reckon_92 rfl ?_
    exact js_iret (pc := 96) M dX1_reckon_96 hf
end
theorem dX1_saved_0 : decode cX1_saved 0 = .ok (.iconst 0, 1) := by decide +kernel
theorem dX1_saved_1 : decode cX1_saved 1 = .ok (.istore_n 2, 1) := by decide +kernel
theorem dX1_saved_2 : decode cX1_saved 2 = .ok (.iconst 0, 1) := by decide +kernel
theorem dX1_saved_3 : decode cX1_saved 3 = .ok (.istore_n 3, 1) := by decide +kernel
theorem dX1_saved_4 : decode cX1_saved 4 = .ok (.iload_n 3, 1) := by decide +kernel
theorem dX1_saved_5 : decode cX1_saved 5 = .ok (.aload_n 0, 1) := by decide +kernel
theorem dX1_saved_6 : decode cX1_saved 6 = .ok (.getfield 521, 3) := by decide +kernel
theorem dX1_saved_9 : decode cX1_saved 9 = .ok (.if_icmp .ge 102, 3) := by decide +kernel
theorem dX1_saved_12 : decode cX1_saved 12 = .ok (.iconst 0, 1) := by decide +kernel
theorem dX1_saved_13 : decode cX1_saved 13 = .ok (.istore 4, 2) := by decide +kernel
theorem dX1_saved_15 : decode cX1_saved 15 = .ok (.iconst 0, 1) := by decide +kernel
theorem dX1_saved_16 : decode cX1_saved 16 = .ok (.istore 5, 2) := by decide +kernel
theorem dX1_saved_18 : decode cX1_saved 18 = .ok (.iload 5, 2) := by decide +kernel
theorem dX1_saved_20 : decode cX1_saved 20 = .ok (.aload_n 0, 1) := by decide +kernel
theorem dX1_saved_21 : decode cX1_saved 21 = .ok (.getfield 555, 3) := by decide +kernel
theorem dX1_saved_24 : decode cX1_saved 24 = .ok (.if_icmp .ge 56, 3) := by decide +kernel
theorem dX1_saved_27 : decode cX1_saved 27 = .ok (.iload 4, 2) := by decide +kernel
theorem dX1_saved_29 : decode cX1_saved 29 = .ok (.iload_n 1, 1) := by decide +kernel
theorem dX1_saved_30 : decode cX1_saved 30 = .ok (.iload 5, 2) := by decide +kernel
theorem dX1_saved_32 : decode cX1_saved 32 = .ok (.ishr, 1) := by decide +kernel
theorem dX1_saved_33 : decode cX1_saved 33 = .ok (.iconst 1, 1) := by decide +kernel
theorem dX1_saved_34 : decode cX1_saved 34 = .ok (.iand, 1) := by decide +kernel
theorem dX1_saved_35 : decode cX1_saved 35 = .ok (.iconst 1, 1) := by decide +kernel
theorem dX1_saved_36 : decode cX1_saved 36 = .ok (.if_icmp .ne 34, 3) := by decide +kernel
theorem dX1_saved_39 : decode cX1_saved 39 = .ok (.aload_n 0, 1) := by decide +kernel
theorem dX1_saved_40 : decode cX1_saved 40 = .ok (.getfield 253, 3) := by decide +kernel
theorem dX1_saved_43 : decode cX1_saved 43 = .ok (.iload 5, 2) := by decide +kernel
theorem dX1_saved_45 : decode cX1_saved 45 = .ok (.iaload, 1) := by decide +kernel
theorem dX1_saved_46 : decode cX1_saved 46 = .ok (.iload_n 3, 1) := by decide +kernel
theorem dX1_saved_47 : decode cX1_saved 47 = .ok (.if_icmp .ne 23, 3) := by decide +kernel
theorem dX1_saved_50 : decode cX1_saved 50 = .ok (.aload_n 0, 1) := by decide +kernel
theorem dX1_saved_51 : decode cX1_saved 51 = .ok (.getfield 193, 3) := by decide +kernel
theorem dX1_saved_54 : decode cX1_saved 54 = .ok (.iload_n 3, 1) := by decide +kernel
theorem dX1_saved_55 : decode cX1_saved 55 = .ok (.iaload, 1) := by decide +kernel
theorem dX1_saved_56 : decode cX1_saved 56 = .ok (.aload_n 0, 1) := by decide +kernel
theorem dX1_saved_57 : decode cX1_saved 57 = .ok (.getfield 259, 3) := by decide +kernel
theorem dX1_saved_60 : decode cX1_saved 60 = .ok (.iload 5, 2) := by decide +kernel
theorem dX1_saved_62 : decode cX1_saved 62 = .ok (.iaload, 1) := by decide +kernel
theorem dX1_saved_63 : decode cX1_saved 63 = .ok (.imul, 1) := by decide +kernel
theorem dX1_saved_64 : decode cX1_saved 64 = .ok (.bipush 100, 2) := by decide +kernel
theorem dX1_saved_66 : decode cX1_saved 66 = .ok (.idiv, 1) := by decide +kernel
theorem dX1_saved_67 : decode cX1_saved 67 = .ok (.goto 4, 3) := by decide +kernel
theorem dX1_saved_70 : decode cX1_saved 70 = .ok (.iconst 0, 1) := by decide +kernel
theorem dX1_saved_71 : decode cX1_saved 71 = .ok (.iadd, 1) := by decide +kernel
theorem dX1_saved_72 : decode cX1_saved 72 = .ok (.istore 4, 2) := by decide +kernel
theorem dX1_saved_74 : decode cX1_saved 74 = .ok (.iinc 5 1, 3) := by decide +kernel
theorem dX1_saved_77 : decode cX1_saved 77 = .ok (.goto (-59), 3) := by decide +kernel
theorem dX1_saved_80 : decode cX1_saved 80 = .ok (.iload_n 2, 1) := by decide +kernel
theorem dX1_saved_81 : decode cX1_saved 81 = .ok (.iload 4, 2) := by decide +kernel
theorem dX1_saved_83 : decode cX1_saved 83 = .ok (.aload_n 0, 1) := by decide +kernel
theorem dX1_saved_84 : decode cX1_saved 84 = .ok (.getfield 193, 3) := by decide +kernel
theorem dX1_saved_87 : decode cX1_saved 87 = .ok (.iload_n 3, 1) := by decide +kernel
theorem dX1_saved_88 : decode cX1_saved 88 = .ok (.iaload, 1) := by decide +kernel
theorem dX1_saved_89 : decode cX1_saved 89 = .ok (.if_icmp .ge 8, 3) := by decide +kernel
theorem dX1_saved_92 : decode cX1_saved 92 = .ok (.iload 4, 2) := by decide +kernel
theorem dX1_saved_94 : decode cX1_saved 94 = .ok (.goto 9, 3) := by decide +kernel
theorem dX1_saved_97 : decode cX1_saved 97 = .ok (.aload_n 0, 1) := by decide +kernel
theorem dX1_saved_98 : decode cX1_saved 98 = .ok (.getfield 193, 3) := by decide +kernel
theorem dX1_saved_101 : decode cX1_saved 101 = .ok (.iload_n 3, 1) := by decide +kernel
theorem dX1_saved_102 : decode cX1_saved 102 = .ok (.iaload, 1) := by decide +kernel
theorem dX1_saved_103 : decode cX1_saved 103 = .ok (.iadd, 1) := by decide +kernel
theorem dX1_saved_104 : decode cX1_saved 104 = .ok (.istore_n 2, 1) := by decide +kernel
theorem dX1_saved_105 : decode cX1_saved 105 = .ok (.iinc 3 1, 3) := by decide +kernel
theorem dX1_saved_108 : decode cX1_saved 108 = .ok (.goto (-104), 3) := by decide +kernel
theorem dX1_saved_111 : decode cX1_saved 111 = .ok (.iload_n 2, 1) := by decide +kernel
theorem dX1_saved_112 : decode cX1_saved 112 = .ok (.ireturn, 1) := by decide +kernel
section
variable {res : Int32 × MS}
noncomputable def m_saved_B18 (F : Nat) (K80 : Int32 × Int32 × MS → Option (Int32 × MS)) (x1 x2 x3 : Int32) (R : Int32 × Int32 × MS → Option (Int32 × MS)) (a : Int32 × Int32 × MS) : Option (Int32 × MS) :=
  if (a.2.2.1 101) ≤ a.2.1 then (K80 (a.1, a.2.1, a.2.2)) else (if ((x1 >>> (a.2.1 &&& 31)) &&& 1) = 1 then (if okI a.2.1 9 = true then if (a.2.2.2 79 a.2.1.toNatClampNeg) = x3 then (if okI x3 30 = true then if okI a.2.1 9 = true then nx (a.1 + (((a.2.2.2 59 x3.toNatClampNeg) * (a.2.2.2 81 a.2.1.toNatClampNeg)) / 100) : Int32) (fun y1 => R (y1, a.2.1 + 1, a.2.2)) else none else none) else (R (a.1 + 0, a.2.1 + 1, a.2.2)) else none) else (R (a.1 + 0, a.2.1 + 1, a.2.2)))
theorem km_saved_B18 (M : MC γ cX1_saved 6 G o 1 (some .int) (mQi G o res)) (x1 x2 x3 : Int32) (K80 : Int32 × Int32 × MS → Option (Int32 × MS)) (hK80 : ∀ a, K80 a = some res → J γ (MW G o a.2.2) 0 0 80 [(0, .ref o), (1, .int x1), (2, .int x2), (3, .int x3), (4, .int a.1)] []) : ∀ R : Int32 × Int32 × MS → Option (Int32 × MS), (∀ a, R a = some res → J γ (MW G o a.2.2) 0 0 18 [(0, .ref o), (1, .int x1), (2, .int x2), (3, .int x3), (4, .int a.1), (5, .int a.2.1)] []) → ∀ a, m_saved_B18 F K80 x1 x2 x3 R a = some res → J γ (MW G o a.2.2) 0 0 18 [(0, .ref o), (1, .int x1), (2, .int x2), (3, .int x3), (4, .int a.1), (5, .int a.2.1)] [] := by
  intro R hR a hf
  unfold m_saved_B18 at hf
  refine j_iload (pc := 18) M.1 dX1_saved_18 5 rfl ?_
  refine j_aload_n (pc := 20) M.1 dX1_saved_20 0 rfl ?_
  refine jm_getS (pc := 21) M fm_555 dX1_saved_21 ?_
  refine j_icmp_ge (pc := 24) M.1 80 dX1_saved_24 rfl (fun c1 => ?_) (fun c1 => ?_)
  · replace hf := o_pos c1 hf
    refine j_sub [0, 1, 2, 3, 4] (show lv_pick _ _ = [(0, .ref o), (1, .int x1), (2, .int x2), (3, .int x3), (4, .int a.1)] from rfl) ?_
    have hy := hK80 _ hf
    exact hy
  · replace hf := o_neg c1 hf
    refine j_iload (pc := 27) M.1 dX1_saved_27 4 rfl ?_
    refine j_iload_n (pc := 29) M.1 dX1_saved_29 1 rfl ?_
    refine j_iload (pc := 30) M.1 dX1_saved_30 5 rfl ?_
    refine j_ishr (pc := 32) M.1 dX1_saved_32 ?_
    refine j_iconst (pc := 33) M.1 dX1_saved_33 kc_iconst_1 ?_
    refine j_iand (pc := 34) M.1 dX1_saved_34 ?_
    refine j_iconst (pc := 35) M.1 dX1_saved_35 kc_iconst_1 ?_
    refine j_icmp_ne (pc := 36) M.1 70 dX1_saved_36 rfl (fun c2 => ?_) (fun c2 => ?_)
    · replace hf := o_neg c2 hf
      refine j_iconst (pc := 70) M.1 dX1_saved_70 kc_iconst_0 ?_
      refine j_iadd (pc := 71) M.1 dX1_saved_71 ?_
      refine j_istore (pc := 72) M.1 [(4, .int (a.1 + 0)), (0, .ref o), (1, .int x1), (2, .int x2), (3, .int x3), (5, .int a.2.1)] dX1_saved_72 rfl rfl ?_
      refine j_iinc (pc := 74) M.1 [(5, .int (a.2.1 + 1)), (4, .int (a.1 + 0)), (0, .ref o), (1, .int x1), (2, .int x2), (3, .int x3)] dX1_saved_74 5 rfl (congrArg _ kc_iconst_1) rfl rfl ?_
      refine j_goto (pc := 77) M.1 18 dX1_saved_77 rfl ?_
      refine j_sub [2, 3, 4, 5, 1, 0] (show lv_pick _ _ = [(0, .ref o), (1, .int x1), (2, .int x2), (3, .int x3), (4, .int (a.1 + 0)), (5, .int (a.2.1 + 1))] from rfl) ?_
      have hy := hR _ hf
      exact hy
    · replace hf := o_pos c2 hf
      refine j_aload_n (pc := 39) M.1 dX1_saved_39 0 rfl ?_
      refine jm_getA (pc := 40) M fa_253 dX1_saved_40 ?_
      refine j_iload (pc := 43) M.1 dX1_saved_43 5 rfl ?_
      obtain ⟨b1, hf⟩ := o_need hf
      refine jm_iald (pc := 45) M ax_79 b1 dX1_saved_45 ?_
      refine j_iload_n (pc := 46) M.1 dX1_saved_46 3 rfl ?_
      refine j_icmp_ne (pc := 47) M.1 70 dX1_saved_47 rfl (fun c3 => ?_) (fun c3 => ?_)
      · replace hf := o_neg c3 hf
        refine j_iconst (pc := 70) M.1 dX1_saved_70 kc_iconst_0 ?_
        refine j_iadd (pc := 71) M.1 dX1_saved_71 ?_
        refine j_istore (pc := 72) M.1 [(4, .int (a.1 + 0)), (0, .ref o), (1, .int x1), (2, .int x2), (3, .int x3), (5, .int a.2.1)] dX1_saved_72 rfl rfl ?_
        refine j_iinc (pc := 74) M.1 [(5, .int (a.2.1 + 1)), (4, .int (a.1 + 0)), (0, .ref o), (1, .int x1), (2, .int x2), (3, .int x3)] dX1_saved_74 5 rfl (congrArg _ kc_iconst_1) rfl rfl ?_
        refine j_goto (pc := 77) M.1 18 dX1_saved_77 rfl ?_
        refine j_sub [2, 3, 4, 5, 1, 0] (show lv_pick _ _ = [(0, .ref o), (1, .int x1), (2, .int x2), (3, .int x3), (4, .int (a.1 + 0)), (5, .int (a.2.1 + 1))] from rfl) ?_
        have hy := hR _ hf
        exact hy
      · replace hf := o_pos c3 hf
        refine j_aload_n (pc := 50) M.1 dX1_saved_50 0 rfl ?_
        refine jm_getA (pc := 51) M fa_193 dX1_saved_51 ?_
        refine j_iload_n (pc := 54) M.1 dX1_saved_54 3 rfl ?_
        obtain ⟨b2, hf⟩ := o_need hf
        refine jm_iald (pc := 55) M ax_59 b2 dX1_saved_55 ?_
        refine j_aload_n (pc := 56) M.1 dX1_saved_56 0 rfl ?_
        refine jm_getA (pc := 57) M fa_259 dX1_saved_57 ?_
        refine j_iload (pc := 60) M.1 dX1_saved_60 5 rfl ?_
        obtain ⟨b3, hf⟩ := o_need hf
        refine jm_iald (pc := 62) M ax_81 b3 dX1_saved_62 ?_
        refine j_imul (pc := 63) M.1 dX1_saved_63 ?_
        refine j_bipush (pc := 64) M.1 dX1_saved_64 kc_bipush_100 ?_
        refine j_idiv (pc := 66) M.1 dX1_saved_66 (by decide) ?_
        refine j_goto (pc := 67) M.1 71 dX1_saved_67 rfl ?_
        refine j_iadd (pc := 71) M.1 dX1_saved_71 ?_
        obtain ⟨y1, e1, hf⟩ := o_nx hf
        refine j_top e1 ?_
        refine j_istore (pc := 72) M.1 [(4, .int y1), (0, .ref o), (1, .int x1), (2, .int x2), (3, .int x3), (5, .int a.2.1)] dX1_saved_72 rfl rfl ?_
        refine j_iinc (pc := 74) M.1 [(5, .int (a.2.1 + 1)), (4, .int y1), (0, .ref o), (1, .int x1), (2, .int x2), (3, .int x3)] dX1_saved_74 5 rfl (congrArg _ kc_iconst_1) rfl rfl ?_
        refine j_goto (pc := 77) M.1 18 dX1_saved_77 rfl ?_
        refine j_sub [2, 3, 4, 5, 1, 0] (show lv_pick _ _ = [(0, .ref o), (1, .int x1), (2, .int x2), (3, .int x3), (4, .int y1), (5, .int (a.2.1 + 1))] from rfl) ?_
        have hy := hR _ hf
        exact hy
noncomputable def m_saved_B4 (F : Nat) (x1 : Int32) (R : Int32 × Int32 × MS → Option (Int32 × MS)) (a : Int32 × Int32 × MS) : Option (Int32 × MS) :=
  if (a.2.2.1 79) ≤ a.2.1 then (some (a.1, a.2.2)) else (lp (m_saved_B18 F (fun a1 => if okI a.2.1 30 = true then if (a1.2.2.2 59 a.2.1.toNatClampNeg) ≤ a1.1 then (if okI a.2.1 30 = true then nx (a.1 + (a1.2.2.2 59 a.2.1.toNatClampNeg) : Int32) (fun y1 => R (y1, a.2.1 + 1, a1.2.2)) else none) else (R (a.1 + a1.1, a.2.1 + 1, a1.2.2)) else none) x1 a.1 a.2.1) F (0, 0, a.2.2))
theorem km_saved_B4 (M : MC γ cX1_saved 6 G o 1 (some .int) (mQi G o res)) (x1 : Int32) : ∀ R : Int32 × Int32 × MS → Option (Int32 × MS), (∀ a, R a = some res → J γ (MW G o a.2.2) 0 0 4 [(0, .ref o), (1, .int x1), (2, .int a.1), (3, .int a.2.1)] []) → ∀ a, m_saved_B4 F x1 R a = some res → J γ (MW G o a.2.2) 0 0 4 [(0, .ref o), (1, .int x1), (2, .int a.1), (3, .int a.2.1)] [] := by
  intro R hR a hf
  unfold m_saved_B4 at hf
  refine j_iload_n (pc := 4) M.1 dX1_saved_4 3 rfl ?_
  refine j_aload_n (pc := 5) M.1 dX1_saved_5 0 rfl ?_
  refine jm_getS (pc := 6) M fm_521 dX1_saved_6 ?_
  refine j_icmp_ge (pc := 9) M.1 111 dX1_saved_9 rfl (fun c1 => ?_) (fun c1 => ?_)
  · replace hf := o_pos c1 hf
    refine j_iload_n (pc := 111) M.1 dX1_saved_111 2 rfl ?_
    exact jm_iret (pc := 112) M dX1_saved_112 hf
  · replace hf := o_neg c1 hf
    refine j_iconst (pc := 12) M.1 dX1_saved_12 kc_iconst_0 ?_
    refine j_istore (pc := 13) M.1 [(4, .int 0), (0, .ref o), (1, .int x1), (2, .int a.1), (3, .int a.2.1)] dX1_saved_13 rfl rfl ?_
    refine j_iconst (pc := 15) M.1 dX1_saved_15 kc_iconst_0 ?_
    refine j_istore (pc := 16) M.1 [(5, .int 0), (4, .int 0), (0, .ref o), (1, .int x1), (2, .int a.1), (3, .int a.2.1)] dX1_saved_16 rfl rfl ?_
    refine j_sub [2, 3, 4, 5, 1, 0] (show lv_pick _ _ = [(0, .ref o), (1, .int x1), (2, .int a.1), (3, .int a.2.1), (4, .int 0), (5, .int 0)] from rfl) ?_
    refine lp_W (km_saved_B18 M x1 a.1 a.2.1 _ ?_) F (0, 0, a.2.2) hf
    · intro a1 hf
      refine j_iload_n (pc := 80) M.1 dX1_saved_80 2 rfl ?_
      refine j_iload (pc := 81) M.1 dX1_saved_81 4 rfl ?_
      refine j_aload_n (pc := 83) M.1 dX1_saved_83 0 rfl ?_
      refine jm_getA (pc := 84) M fa_193 dX1_saved_84 ?_
      refine j_iload_n (pc := 87) M.1 dX1_saved_87 3 rfl ?_
      obtain ⟨b1, hf⟩ := o_need hf
      refine jm_iald (pc := 88) M ax_59 b1 dX1_saved_88 ?_
      refine j_icmp_ge (pc := 89) M.1 97 dX1_saved_89 rfl (fun c2 => ?_) (fun c2 => ?_)
      · replace hf := o_pos c2 hf
        refine j_aload_n (pc := 97) M.1 dX1_saved_97 0 rfl ?_
        refine jm_getA (pc := 98) M fa_193 dX1_saved_98 ?_
        refine j_iload_n (pc := 101) M.1 dX1_saved_101 3 rfl ?_
        obtain ⟨b2, hf⟩ := o_need hf
        refine jm_iald (pc := 102) M ax_59 b2 dX1_saved_102 ?_
        refine j_iadd (pc := 103) M.1 dX1_saved_103 ?_
        obtain ⟨y1, e1, hf⟩ := o_nx hf
        refine j_top e1 ?_
        refine j_istore_n (pc := 104) M.1 [(2, .int y1), (0, .ref o), (1, .int x1), (3, .int a.2.1), (4, .int a1.1)] dX1_saved_104 rfl rfl ?_
        refine j_iinc (pc := 105) M.1 [(3, .int (a.2.1 + 1)), (2, .int y1), (0, .ref o), (1, .int x1), (4, .int a1.1)] dX1_saved_105 3 rfl (congrArg _ kc_iconst_1) rfl rfl ?_
        refine j_goto (pc := 108) M.1 4 dX1_saved_108 rfl ?_
        refine j_sub [2, 3, 1, 0] (show lv_pick _ _ = [(0, .ref o), (1, .int x1), (2, .int y1), (3, .int (a.2.1 + 1))] from rfl) ?_
        have hy := hR _ hf
        exact hy
      · replace hf := o_neg c2 hf
        refine j_iload (pc := 92) M.1 dX1_saved_92 4 rfl ?_
        refine j_goto (pc := 94) M.1 103 dX1_saved_94 rfl ?_
        refine j_iadd (pc := 103) M.1 dX1_saved_103 ?_
        refine j_istore_n (pc := 104) M.1 [(2, .int (a.1 + a1.1)), (0, .ref o), (1, .int x1), (3, .int a.2.1), (4, .int a1.1)] dX1_saved_104 rfl rfl ?_
        refine j_iinc (pc := 105) M.1 [(3, .int (a.2.1 + 1)), (2, .int (a.1 + a1.1)), (0, .ref o), (1, .int x1), (4, .int a1.1)] dX1_saved_105 3 rfl (congrArg _ kc_iconst_1) rfl rfl ?_
        refine j_goto (pc := 108) M.1 4 dX1_saved_108 rfl ?_
        refine j_sub [2, 3, 1, 0] (show lv_pick _ _ = [(0, .ref o), (1, .int x1), (2, .int (a.1 + a1.1)), (3, .int (a.2.1 + 1))] from rfl) ?_
        have hy := hR _ hf
        exact hy
noncomputable def m_saved (F : Nat) (x1 : Int32) (σ : MS) : Option (Int32 × MS) :=
  lp (m_saved_B4 F x1) F (0, 0, σ)
theorem met_saved {l : Launch} {G : gG} {o F : Nat} {x1 : Int32} {σ : MS} {res : Int32 × MS} (hf : m_saved F x1 σ = some res) : MetMi l G yX1_saved cX1_saved 6 (some .int) 1 o [.int x1] σ res := by
  refine metMi_of (by decide) rfl rfl (fun γ hγ M => ?_)
  subst hγ
  show J γ (MW G o σ) 0 0 0 [(0, .ref o), (1, .int x1)] []
  unfold m_saved at hf
  refine j_iconst (pc := 0) M.1 dX1_saved_0 kc_iconst_0 ?_
  refine j_istore_n (pc := 1) M.1 [(2, .int 0), (0, .ref o), (1, .int x1)] dX1_saved_1 rfl rfl ?_
  refine j_iconst (pc := 2) M.1 dX1_saved_2 kc_iconst_0 ?_
  refine j_istore_n (pc := 3) M.1 [(3, .int 0), (2, .int 0), (0, .ref o), (1, .int x1)] dX1_saved_3 rfl rfl ?_
  refine j_sub [2, 3, 1, 0] (show lv_pick _ _ = [(0, .ref o), (1, .int x1), (2, .int 0), (3, .int 0)] from rfl) ?_
  refine lp_W (km_saved_B4 M x1) F (0, 0, σ) hf
end
theorem dX1_says_0 : decode cX1_says 0 = .ok (.aload_n 0, 1) := by decide +kernel
theorem dX1_says_1 : decode cX1_says 1 = .ok (.getfield 74, 3) := by decide +kernel
theorem dX1_says_4 : decode cX1_says 4 = .ok (.aload_n 0, 1) := by decide +kernel
theorem dX1_says_5 : decode cX1_says 5 = .ok (.getfield 371, 3) := by decide +kernel
theorem dX1_says_8 : decode cX1_says 8 = .ok (.ldc_w 374, 3) := by decide +kernel
theorem dX1_says_11 : decode cX1_says 11 = .ok (.iload_n 1, 1) := by decide +kernel
theorem dX1_says_12 : decode cX1_says 12 = .ok (.imul, 1) := by decide +kernel
theorem dX1_says_13 : decode cX1_says 13 = .ok (.iload_n 2, 1) := by decide +kernel
theorem dX1_says_14 : decode cX1_says 14 = .ok (.iadd, 1) := by decide +kernel
theorem dX1_says_15 : decode cX1_says 15 = .ok (.iastore, 1) := by decide +kernel
theorem dX1_says_16 : decode cX1_says 16 = .ok (.aload_n 0, 1) := by decide +kernel
theorem dX1_says_17 : decode cX1_says 17 = .ok (.aload_n 0, 1) := by decide +kernel
theorem dX1_says_18 : decode cX1_says 18 = .ok (.getfield 371, 3) := by decide +kernel
theorem dX1_says_21 : decode cX1_says 21 = .ok (.iconst 1, 1) := by decide +kernel
theorem dX1_says_22 : decode cX1_says 22 = .ok (.iadd, 1) := by decide +kernel
theorem dX1_says_23 : decode cX1_says 23 = .ok (.putfield 371, 3) := by decide +kernel
theorem dX1_says_26 : decode cX1_says 26 = .ok (.return_, 1) := by decide +kernel
section
variable {res : Int32 × MS}
noncomputable def m_says (F : Nat) (x1 x2 : Int32) (σ : MS) : Option (Int32 × MS) :=
  if okI (σ.1 34) 180 = true then nx (sA σ 21 (σ.1 34).toNatClampNeg ((1048576 * x1) + x2)) (fun σ1 => nx (sS σ1 34 ((σ1.1 34) + 1)) (fun σ2 => some (0, σ2))) else none
theorem met_says {l : Launch} {G : gG} {o F : Nat} {x1 x2 : Int32} {σ : MS} {res : Int32 × MS} (hf : m_says F x1 x2 σ = some res) : MetMv l G yX1_says cX1_says 3 1 o [.int x1, .int x2] σ res := by
  refine metMv_of (by decide) rfl rfl (fun γ hγ M => ?_)
  subst hγ
  show J γ (MW G o σ) 0 0 0 [(0, .ref o), (1, .int x1), (2, .int x2)] []
  unfold m_says at hf
  refine j_aload_n (pc := 0) M.1 dX1_says_0 0 rfl ?_
  refine jm_getA (pc := 1) M fa_74 dX1_says_1 ?_
  refine j_aload_n (pc := 4) M.1 dX1_says_4 0 rfl ?_
  refine jm_getS (pc := 5) M fm_371 dX1_says_5 ?_
  refine j_ldcw (pc := 8) M.1 q1824 dX1_says_8 ?_
  refine j_iload_n (pc := 11) M.1 dX1_says_11 1 rfl ?_
  refine j_imul (pc := 12) M.1 dX1_says_12 ?_
  refine j_iload_n (pc := 13) M.1 dX1_says_13 2 rfl ?_
  refine j_iadd (pc := 14) M.1 dX1_says_14 ?_
  obtain ⟨b1, hf⟩ := o_need hf
  obtain ⟨σ1, e1, hf⟩ := o_nx hf
  refine jm_iast (pc := 15) M ax_21 b1 dX1_says_15 e1 ?_
  refine j_aload_n (pc := 16) M.1 dX1_says_16 0 rfl ?_
  refine j_aload_n (pc := 17) M.1 dX1_says_17 0 rfl ?_
  refine jm_getS (pc := 18) M fm_371 dX1_says_18 ?_
  refine j_iconst (pc := 21) M.1 dX1_says_21 kc_iconst_1 ?_
  refine j_iadd (pc := 22) M.1 dX1_says_22 ?_
  obtain ⟨σ2, e2, hf⟩ := o_nx hf
  refine jm_put (pc := 23) M fm_371 dX1_says_23 e2 ?_
  exact jm_vret (pc := 26) M dX1_says_26 hf
end
theorem dX1_setsFacts_0 : decode cX1_setsFacts 0 = .ok (.aload_n 0, 1) := by decide +kernel
theorem dX1_setsFacts_1 : decode cX1_setsFacts 1 = .ok (.getfield 129, 3) := by decide +kernel
theorem dX1_setsFacts_4 : decode cX1_setsFacts 4 = .ok (.iconst 0, 1) := by decide +kernel
theorem dX1_setsFacts_5 : decode cX1_setsFacts 5 = .ok (.iload_n 1, 1) := by decide +kernel
theorem dX1_setsFacts_6 : decode cX1_setsFacts 6 = .ok (.iastore, 1) := by decide +kernel
theorem dX1_setsFacts_7 : decode cX1_setsFacts 7 = .ok (.aload_n 0, 1) := by decide +kernel
theorem dX1_setsFacts_8 : decode cX1_setsFacts 8 = .ok (.getfield 129, 3) := by decide +kernel
theorem dX1_setsFacts_11 : decode cX1_setsFacts 11 = .ok (.iconst 1, 1) := by decide +kernel
theorem dX1_setsFacts_12 : decode cX1_setsFacts 12 = .ok (.iload_n 2, 1) := by decide +kernel
theorem dX1_setsFacts_13 : decode cX1_setsFacts 13 = .ok (.iastore, 1) := by decide +kernel
theorem dX1_setsFacts_14 : decode cX1_setsFacts 14 = .ok (.aload_n 0, 1) := by decide +kernel
theorem dX1_setsFacts_15 : decode cX1_setsFacts 15 = .ok (.getfield 129, 3) := by decide +kernel
theorem dX1_setsFacts_18 : decode cX1_setsFacts 18 = .ok (.iconst 2, 1) := by decide +kernel
theorem dX1_setsFacts_19 : decode cX1_setsFacts 19 = .ok (.iload_n 3, 1) := by decide +kernel
theorem dX1_setsFacts_20 : decode cX1_setsFacts 20 = .ok (.iastore, 1) := by decide +kernel
theorem dX1_setsFacts_21 : decode cX1_setsFacts 21 = .ok (.aload_n 0, 1) := by decide +kernel
theorem dX1_setsFacts_22 : decode cX1_setsFacts 22 = .ok (.getfield 129, 3) := by decide +kernel
theorem dX1_setsFacts_25 : decode cX1_setsFacts 25 = .ok (.iconst 3, 1) := by decide +kernel
theorem dX1_setsFacts_26 : decode cX1_setsFacts 26 = .ok (.iload 4, 2) := by decide +kernel
theorem dX1_setsFacts_28 : decode cX1_setsFacts 28 = .ok (.iastore, 1) := by decide +kernel
theorem dX1_setsFacts_29 : decode cX1_setsFacts 29 = .ok (.aload_n 0, 1) := by decide +kernel
theorem dX1_setsFacts_30 : decode cX1_setsFacts 30 = .ok (.getfield 129, 3) := by decide +kernel
theorem dX1_setsFacts_33 : decode cX1_setsFacts 33 = .ok (.iconst 4, 1) := by decide +kernel
theorem dX1_setsFacts_34 : decode cX1_setsFacts 34 = .ok (.iload 5, 2) := by decide +kernel
theorem dX1_setsFacts_36 : decode cX1_setsFacts 36 = .ok (.iconst (-1), 1) := by decide +kernel
theorem dX1_setsFacts_37 : decode cX1_setsFacts 37 = .ok (.if_icmp .ne 7, 3) := by decide +kernel
theorem dX1_setsFacts_40 : decode cX1_setsFacts 40 = .ok (.iconst (-1), 1) := by decide +kernel
theorem dX1_setsFacts_41 : decode cX1_setsFacts 41 = .ok (.goto 10, 3) := by decide +kernel
theorem dX1_setsFacts_44 : decode cX1_setsFacts 44 = .ok (.aload_n 0, 1) := by decide +kernel
theorem dX1_setsFacts_45 : decode cX1_setsFacts 45 = .ok (.getfield 16, 3) := by decide +kernel
theorem dX1_setsFacts_48 : decode cX1_setsFacts 48 = .ok (.iload 5, 2) := by decide +kernel
theorem dX1_setsFacts_50 : decode cX1_setsFacts 50 = .ok (.iaload, 1) := by decide +kernel
theorem dX1_setsFacts_51 : decode cX1_setsFacts 51 = .ok (.iastore, 1) := by decide +kernel
theorem dX1_setsFacts_52 : decode cX1_setsFacts 52 = .ok (.return_, 1) := by decide +kernel
section
variable {res : Int32 × MS}
noncomputable def m_setsFacts (F : Nat) (x1 x2 x3 x4 x5 : Int32) (σ : MS) : Option (Int32 × MS) :=
  if okI 0 5 = true then nx (sA σ 39 (0 : Int32).toNatClampNeg x1) (fun σ1 => if okI 1 5 = true then nx (sA σ1 39 (1 : Int32).toNatClampNeg x2) (fun σ2 => if okI 2 5 = true then nx (sA σ2 39 (2 : Int32).toNatClampNeg x3) (fun σ3 => if okI 3 5 = true then nx (sA σ3 39 (3 : Int32).toNatClampNeg x4) (fun σ4 => if x5 = ((-1)) then (if okI 4 5 = true then nx (sA σ4 39 (4 : Int32).toNatClampNeg ((-1))) (fun σ6 => some (0, σ6)) else none) else (if okI x5 30 = true then if okI 4 5 = true then nx (sA σ4 39 (4 : Int32).toNatClampNeg (σ4.2 2 x5.toNatClampNeg)) (fun σ5 => some (0, σ5)) else none else none)) else none) else none) else none) else none
theorem met_setsFacts {l : Launch} {G : gG} {o F : Nat} {x1 x2 x3 x4 x5 : Int32} {σ : MS} {res : Int32 × MS} (hf : m_setsFacts F x1 x2 x3 x4 x5 σ = some res) : MetMv l G yX1_setsFacts cX1_setsFacts 6 1 o [.int x1, .int x2, .int x3, .int x4, .int x5] σ res := by
  refine metMv_of (by decide) rfl rfl (fun γ hγ M => ?_)
  subst hγ
  show J γ (MW G o σ) 0 0 0 [(0, .ref o), (1, .int x1), (2, .int x2), (3, .int x3), (4, .int x4), (5, .int x5)] []
  unfold m_setsFacts at hf
  refine j_aload_n (pc := 0) M.1 dX1_setsFacts_0 0 rfl ?_
  refine jm_getA (pc := 1) M fa_129 dX1_setsFacts_1 ?_
  refine j_iconst (pc := 4) M.1 dX1_setsFacts_4 kc_iconst_0 ?_
  refine j_iload_n (pc := 5) M.1 dX1_setsFacts_5 1 rfl ?_
  obtain ⟨b1, hf⟩ := o_need hf
  obtain ⟨σ1, e1, hf⟩ := o_nx hf
  refine jm_iast (pc := 6) M ax_39 b1 dX1_setsFacts_6 e1 ?_
  refine j_aload_n (pc := 7) M.1 dX1_setsFacts_7 0 rfl ?_
  refine jm_getA (pc := 8) M fa_129 dX1_setsFacts_8 ?_
  refine j_iconst (pc := 11) M.1 dX1_setsFacts_11 kc_iconst_1 ?_
  refine j_iload_n (pc := 12) M.1 dX1_setsFacts_12 2 rfl ?_
  obtain ⟨b2, hf⟩ := o_need hf
  obtain ⟨σ2, e2, hf⟩ := o_nx hf
  refine jm_iast (pc := 13) M ax_39 b2 dX1_setsFacts_13 e2 ?_
  refine j_aload_n (pc := 14) M.1 dX1_setsFacts_14 0 rfl ?_
  refine jm_getA (pc := 15) M fa_129 dX1_setsFacts_15 ?_
  refine j_iconst (pc := 18) M.1 dX1_setsFacts_18 kc_iconst_2 ?_
  refine j_iload_n (pc := 19) M.1 dX1_setsFacts_19 3 rfl ?_
  obtain ⟨b3, hf⟩ := o_need hf
  obtain ⟨σ3, e3, hf⟩ := o_nx hf
  refine jm_iast (pc := 20) M ax_39 b3 dX1_setsFacts_20 e3 ?_
  refine j_aload_n (pc := 21) M.1 dX1_setsFacts_21 0 rfl ?_
  refine jm_getA (pc := 22) M fa_129 dX1_setsFacts_22 ?_
  refine j_iconst (pc := 25) M.1 dX1_setsFacts_25 kc_iconst_3 ?_
  refine j_iload (pc := 26) M.1 dX1_setsFacts_26 4 rfl ?_
  obtain ⟨b4, hf⟩ := o_need hf
  obtain ⟨σ4, e4, hf⟩ := o_nx hf
  refine jm_iast (pc := 28) M ax_39 b4 dX1_setsFacts_28 e4 ?_
  refine j_aload_n (pc := 29) M.1 dX1_setsFacts_29 0 rfl ?_
  refine jm_getA (pc := 30) M fa_129 dX1_setsFacts_30 ?_
  refine j_iconst (pc := 33) M.1 dX1_setsFacts_33 kc_iconst_4 ?_
  refine j_iload (pc := 34) M.1 dX1_setsFacts_34 5 rfl ?_
  refine j_iconst (pc := 36) M.1 dX1_setsFacts_36 kc_iconst_m1 ?_
  refine j_icmp_ne (pc := 37) M.1 44 dX1_setsFacts_37 rfl (fun c1 => ?_) (fun c1 => ?_)
  · replace hf := o_neg c1 hf
    refine j_aload_n (pc := 44) M.1 dX1_setsFacts_44 0 rfl ?_
    refine jm_getA (pc := 45) M fa_16 dX1_setsFacts_45 ?_
    refine j_iload (pc := 48) M.1 dX1_setsFacts_48 5 rfl ?_
    obtain ⟨b5, hf⟩ := o_need hf
    refine jm_iald (pc := 50) M ax_2 b5 dX1_setsFacts_50 ?_
    obtain ⟨b6, hf⟩ := o_need hf
    obtain ⟨σ5, e5, hf⟩ := o_nx hf
    refine jm_iast (pc := 51) M ax_39 b6 dX1_setsFacts_51 e5 ?_
    exact jm_vret (pc := 52) M dX1_setsFacts_52 hf
  · replace hf := o_pos c1 hf
    refine j_iconst (pc := 40) M.1 dX1_setsFacts_40 kc_iconst_m1 ?_
    refine j_goto (pc := 41) M.1 51 dX1_setsFacts_41 rfl ?_
    obtain ⟨b7, hf⟩ := o_need hf
    obtain ⟨σ6, e6, hf⟩ := o_nx hf
    refine jm_iast (pc := 51) M ax_39 b7 dX1_setsFacts_51 e6 ?_
    exact jm_vret (pc := 52) M dX1_setsFacts_52 hf
end
theorem dX1_shows_0 : decode cX1_shows 0 = .ok (.aload_n 0, 1) := by decide +kernel
theorem dX1_shows_1 : decode cX1_shows 1 = .ok (.getfield 202, 3) := by decide +kernel
theorem dX1_shows_4 : decode cX1_shows 4 = .ok (.aload_n 0, 1) := by decide +kernel
theorem dX1_shows_5 : decode cX1_shows 5 = .ok (.getfield 208, 3) := by decide +kernel
theorem dX1_shows_8 : decode cX1_shows 8 = .ok (.iload_n 1, 1) := by decide +kernel
theorem dX1_shows_9 : decode cX1_shows 9 = .ok (.iaload, 1) := by decide +kernel
theorem dX1_shows_10 : decode cX1_shows 10 = .ok (.iaload, 1) := by decide +kernel
theorem dX1_shows_11 : decode cX1_shows 11 = .ok (.iload_n 2, 1) := by decide +kernel
theorem dX1_shows_12 : decode cX1_shows 12 = .ok (.ishr, 1) := by decide +kernel
theorem dX1_shows_13 : decode cX1_shows 13 = .ok (.iconst 1, 1) := by decide +kernel
theorem dX1_shows_14 : decode cX1_shows 14 = .ok (.iand, 1) := by decide +kernel
theorem dX1_shows_15 : decode cX1_shows 15 = .ok (.iconst 1, 1) := by decide +kernel
theorem dX1_shows_16 : decode cX1_shows 16 = .ok (.if_icmp .ne 7, 3) := by decide +kernel
theorem dX1_shows_19 : decode cX1_shows 19 = .ok (.iconst 1, 1) := by decide +kernel
theorem dX1_shows_20 : decode cX1_shows 20 = .ok (.goto 4, 3) := by decide +kernel
theorem dX1_shows_23 : decode cX1_shows 23 = .ok (.iconst 0, 1) := by decide +kernel
theorem dX1_shows_24 : decode cX1_shows 24 = .ok (.ireturn, 1) := by decide +kernel
section
variable {res : Int32 × MS}
noncomputable def m_shows (F : Nat) (x1 x2 : Int32) (σ : MS) : Option (Int32 × MS) :=
  if okI x1 100 = true then if okI (σ.2 64 x1.toNatClampNeg) 100 = true then if (((σ.2 62 (σ.2 64 x1.toNatClampNeg).toNatClampNeg) >>> (x2 &&& 31)) &&& 1) = 1 then (some (1, σ)) else (some (0, σ)) else none else none
theorem met_shows {l : Launch} {G : gG} {o F : Nat} {x1 x2 : Int32} {σ : MS} {res : Int32 × MS} (hf : m_shows F x1 x2 σ = some res) : MetMi l G yX1_shows cX1_shows 3 (some .boolean) 1 o [.int x1, .int x2] σ res := by
  refine metMi_of (by decide) rfl rfl (fun γ hγ M => ?_)
  subst hγ
  show J γ (MW G o σ) 0 0 0 [(0, .ref o), (1, .int x1), (2, .int x2)] []
  unfold m_shows at hf
  refine j_aload_n (pc := 0) M.1 dX1_shows_0 0 rfl ?_
  refine jm_getA (pc := 1) M fa_202 dX1_shows_1 ?_
  refine j_aload_n (pc := 4) M.1 dX1_shows_4 0 rfl ?_
  refine jm_getA (pc := 5) M fa_208 dX1_shows_5 ?_
  refine j_iload_n (pc := 8) M.1 dX1_shows_8 1 rfl ?_
  obtain ⟨b1, hf⟩ := o_need hf
  refine jm_iald (pc := 9) M ax_64 b1 dX1_shows_9 ?_
  obtain ⟨b2, hf⟩ := o_need hf
  refine jm_iald (pc := 10) M ax_62 b2 dX1_shows_10 ?_
  refine j_iload_n (pc := 11) M.1 dX1_shows_11 2 rfl ?_
  refine j_ishr (pc := 12) M.1 dX1_shows_12 ?_
  refine j_iconst (pc := 13) M.1 dX1_shows_13 kc_iconst_1 ?_
  refine j_iand (pc := 14) M.1 dX1_shows_14 ?_
  refine j_iconst (pc := 15) M.1 dX1_shows_15 kc_iconst_1 ?_
  refine j_icmp_ne (pc := 16) M.1 23 dX1_shows_16 rfl (fun c1 => ?_) (fun c1 => ?_)
  · replace hf := o_neg c1 hf
    refine j_iconst (pc := 23) M.1 dX1_shows_23 kc_iconst_0 ?_
    exact jm_zret (pc := 24) M dX1_shows_24 rfl hf
  · replace hf := o_pos c1 hf
    refine j_iconst (pc := 19) M.1 dX1_shows_19 kc_iconst_1 ?_
    refine j_goto (pc := 20) M.1 24 dX1_shows_20 rfl ?_
    exact jm_zret (pc := 24) M dX1_shows_24 rfl hf
end
theorem dX1_sumSign_0 : decode cX1_sumSign 0 = .ok (.iload_n 0, 1) := by decide +kernel
theorem dX1_sumSign_1 : decode cX1_sumSign 1 = .ok (.bipush 43, 2) := by decide +kernel
theorem dX1_sumSign_3 : decode cX1_sumSign 3 = .ok (.if_icmp .ne 7, 3) := by decide +kernel
theorem dX1_sumSign_6 : decode cX1_sumSign 6 = .ok (.iconst 2, 1) := by decide +kernel
theorem dX1_sumSign_7 : decode cX1_sumSign 7 = .ok (.goto 45, 3) := by decide +kernel
theorem dX1_sumSign_10 : decode cX1_sumSign 10 = .ok (.iload_n 0, 1) := by decide +kernel
theorem dX1_sumSign_11 : decode cX1_sumSign 11 = .ok (.bipush 45, 2) := by decide +kernel
theorem dX1_sumSign_13 : decode cX1_sumSign 13 = .ok (.if_icmp .ne 7, 3) := by decide +kernel
theorem dX1_sumSign_16 : decode cX1_sumSign 16 = .ok (.iconst 3, 1) := by decide +kernel
theorem dX1_sumSign_17 : decode cX1_sumSign 17 = .ok (.goto 35, 3) := by decide +kernel
theorem dX1_sumSign_20 : decode cX1_sumSign 20 = .ok (.iload_n 0, 1) := by decide +kernel
theorem dX1_sumSign_21 : decode cX1_sumSign 21 = .ok (.bipush 42, 2) := by decide +kernel
theorem dX1_sumSign_23 : decode cX1_sumSign 23 = .ok (.if_icmp .ne 7, 3) := by decide +kernel
theorem dX1_sumSign_26 : decode cX1_sumSign 26 = .ok (.iconst 4, 1) := by decide +kernel
theorem dX1_sumSign_27 : decode cX1_sumSign 27 = .ok (.goto 25, 3) := by decide +kernel
theorem dX1_sumSign_30 : decode cX1_sumSign 30 = .ok (.iload_n 0, 1) := by decide +kernel
theorem dX1_sumSign_31 : decode cX1_sumSign 31 = .ok (.bipush 47, 2) := by decide +kernel
theorem dX1_sumSign_33 : decode cX1_sumSign 33 = .ok (.if_icmp .ne 7, 3) := by decide +kernel
theorem dX1_sumSign_36 : decode cX1_sumSign 36 = .ok (.iconst 5, 1) := by decide +kernel
theorem dX1_sumSign_37 : decode cX1_sumSign 37 = .ok (.goto 15, 3) := by decide +kernel
theorem dX1_sumSign_40 : decode cX1_sumSign 40 = .ok (.iload_n 0, 1) := by decide +kernel
theorem dX1_sumSign_41 : decode cX1_sumSign 41 = .ok (.bipush 37, 2) := by decide +kernel
theorem dX1_sumSign_43 : decode cX1_sumSign 43 = .ok (.if_icmp .ne 8, 3) := by decide +kernel
theorem dX1_sumSign_46 : decode cX1_sumSign 46 = .ok (.bipush 6, 2) := by decide +kernel
theorem dX1_sumSign_48 : decode cX1_sumSign 48 = .ok (.goto 4, 3) := by decide +kernel
theorem dX1_sumSign_51 : decode cX1_sumSign 51 = .ok (.iconst (-1), 1) := by decide +kernel
theorem dX1_sumSign_52 : decode cX1_sumSign 52 = .ok (.ireturn, 1) := by decide +kernel
section
variable {res : Int32}
noncomputable def m_sumSign (F : Nat) (x0 : Int32) : Option Int32 :=
  if x0 = 43 then (some 2) else (if x0 = 45 then (some 3) else (if x0 = 42 then (some 4) else (if x0 = 47 then (some 5) else (if x0 = 37 then (some 6) else (some ((-1)))))))
theorem met_sumSign {l : Launch} {F : Nat} {x0 : Int32} {res : Int32} (hf : m_sumSign F x0 = some res) : MetSi l yX1_sumSign cX1_sumSign 1 (some .int) 1 [.int x0] res := by
  refine metSi_of (own := RX1) (by decide) rfl rfl (fun γ hγ M => ?_)
  subst hγ
  show J γ (sP γ) 0 0 0 [(0, .int x0)] []
  unfold m_sumSign at hf
  refine j_iload_n (pc := 0) M.1 dX1_sumSign_0 0 rfl ?_
  refine j_bipush (pc := 1) M.1 dX1_sumSign_1 kc_bipush_43 ?_
  refine j_icmp_ne (pc := 3) M.1 10 dX1_sumSign_3 rfl (fun c1 => ?_) (fun c1 => ?_)
  · replace hf := o_neg c1 hf
    refine j_iload_n (pc := 10) M.1 dX1_sumSign_10 0 rfl ?_
    refine j_bipush (pc := 11) M.1 dX1_sumSign_11 kc_bipush_45 ?_
    refine j_icmp_ne (pc := 13) M.1 20 dX1_sumSign_13 rfl (fun c2 => ?_) (fun c2 => ?_)
    · replace hf := o_neg c2 hf
      refine j_iload_n (pc := 20) M.1 dX1_sumSign_20 0 rfl ?_
      refine j_bipush (pc := 21) M.1 dX1_sumSign_21 kc_bipush_42 ?_
      refine j_icmp_ne (pc := 23) M.1 30 dX1_sumSign_23 rfl (fun c3 => ?_) (fun c3 => ?_)
      · replace hf := o_neg c3 hf
        refine j_iload_n (pc := 30) M.1 dX1_sumSign_30 0 rfl ?_
        refine j_bipush (pc := 31) M.1 dX1_sumSign_31 kc_bipush_47 ?_
        refine j_icmp_ne (pc := 33) M.1 40 dX1_sumSign_33 rfl (fun c4 => ?_) (fun c4 => ?_)
        · replace hf := o_neg c4 hf
          refine j_iload_n (pc := 40) M.1 dX1_sumSign_40 0 rfl ?_
          refine j_bipush (pc := 41) M.1 dX1_sumSign_41 kc_bipush_37 ?_
          refine j_icmp_ne (pc := 43) M.1 51 dX1_sumSign_43 rfl (fun c5 => ?_) (fun c5 => ?_)
          · replace hf := o_neg c5 hf
            refine j_iconst (pc := 51) M.1 dX1_sumSign_51 kc_iconst_m1 ?_
            exact js_iret (pc := 52) M dX1_sumSign_52 hf
          · replace hf := o_pos c5 hf
            refine j_bipush (pc := 46) M.1 dX1_sumSign_46 kc_bipush_6 ?_
            refine j_goto (pc := 48) M.1 52 dX1_sumSign_48 rfl ?_
            exact js_iret (pc := 52) M dX1_sumSign_52 hf
        · replace hf := o_pos c4 hf
          refine j_iconst (pc := 36) M.1 dX1_sumSign_36 kc_iconst_5 ?_
          refine j_goto (pc := 37) M.1 52 dX1_sumSign_37 rfl ?_
          exact js_iret (pc := 52) M dX1_sumSign_52 hf
      · replace hf := o_pos c3 hf
        refine j_iconst (pc := 26) M.1 dX1_sumSign_26 kc_iconst_4 ?_
        refine j_goto (pc := 27) M.1 52 dX1_sumSign_27 rfl ?_
        exact js_iret (pc := 52) M dX1_sumSign_52 hf
    · replace hf := o_pos c2 hf
      refine j_iconst (pc := 16) M.1 dX1_sumSign_16 kc_iconst_3 ?_
      refine j_goto (pc := 17) M.1 52 dX1_sumSign_17 rfl ?_
      exact js_iret (pc := 52) M dX1_sumSign_52 hf
  · replace hf := o_pos c1 hf
    refine j_iconst (pc := 6) M.1 dX1_sumSign_6 kc_iconst_2 ?_
    refine j_goto (pc := 7) M.1 52 dX1_sumSign_7 rfl ?_
    exact js_iret (pc := 52) M dX1_sumSign_52 hf
end
theorem dX1_tapeNumber_0 : decode cX1_tapeNumber 0 = .ok (.iconst 0, 1) := by decide +kernel
theorem dX1_tapeNumber_1 : decode cX1_tapeNumber 1 = .ok (.istore_n 2, 1) := by decide +kernel
theorem dX1_tapeNumber_2 : decode cX1_tapeNumber 2 = .ok (.iconst 4, 1) := by decide +kernel
theorem dX1_tapeNumber_3 : decode cX1_tapeNumber 3 = .ok (.iload_n 1, 1) := by decide +kernel
theorem dX1_tapeNumber_4 : decode cX1_tapeNumber 4 = .ok (.imul, 1) := by decide +kernel
theorem dX1_tapeNumber_5 : decode cX1_tapeNumber 5 = .ok (.istore_n 3, 1) := by decide +kernel
theorem dX1_tapeNumber_6 : decode cX1_tapeNumber 6 = .ok (.iload_n 3, 1) := by decide +kernel
theorem dX1_tapeNumber_7 : decode cX1_tapeNumber 7 = .ok (.iconst 4, 1) := by decide +kernel
theorem dX1_tapeNumber_8 : decode cX1_tapeNumber 8 = .ok (.iload_n 1, 1) := by decide +kernel
theorem dX1_tapeNumber_9 : decode cX1_tapeNumber 9 = .ok (.imul, 1) := by decide +kernel
theorem dX1_tapeNumber_10 : decode cX1_tapeNumber 10 = .ok (.iconst 4, 1) := by decide +kernel
theorem dX1_tapeNumber_11 : decode cX1_tapeNumber 11 = .ok (.iadd, 1) := by decide +kernel
theorem dX1_tapeNumber_12 : decode cX1_tapeNumber 12 = .ok (.if_icmp .ge 25, 3) := by decide +kernel
theorem dX1_tapeNumber_15 : decode cX1_tapeNumber 15 = .ok (.iload_n 2, 1) := by decide +kernel
theorem dX1_tapeNumber_16 : decode cX1_tapeNumber 16 = .ok (.bipush 8, 2) := by decide +kernel
theorem dX1_tapeNumber_18 : decode cX1_tapeNumber 18 = .ok (.ishl, 1) := by decide +kernel
theorem dX1_tapeNumber_19 : decode cX1_tapeNumber 19 = .ok (.aload_n 0, 1) := by decide +kernel
theorem dX1_tapeNumber_20 : decode cX1_tapeNumber 20 = .ok (.getfield 70, 3) := by decide +kernel
theorem dX1_tapeNumber_23 : decode cX1_tapeNumber 23 = .ok (.iload_n 3, 1) := by decide +kernel
theorem dX1_tapeNumber_24 : decode cX1_tapeNumber 24 = .ok (.baload, 1) := by decide +kernel
theorem dX1_tapeNumber_25 : decode cX1_tapeNumber 25 = .ok (.sipush 255, 3) := by decide +kernel
theorem dX1_tapeNumber_28 : decode cX1_tapeNumber 28 = .ok (.iand, 1) := by decide +kernel
theorem dX1_tapeNumber_29 : decode cX1_tapeNumber 29 = .ok (.ior, 1) := by decide +kernel
theorem dX1_tapeNumber_30 : decode cX1_tapeNumber 30 = .ok (.istore_n 2, 1) := by decide +kernel
theorem dX1_tapeNumber_31 : decode cX1_tapeNumber 31 = .ok (.iinc 3 1, 3) := by decide +kernel
theorem dX1_tapeNumber_34 : decode cX1_tapeNumber 34 = .ok (.goto (-28), 3) := by decide +kernel
theorem dX1_tapeNumber_37 : decode cX1_tapeNumber 37 = .ok (.iload_n 2, 1) := by decide +kernel
theorem dX1_tapeNumber_38 : decode cX1_tapeNumber 38 = .ok (.ireturn, 1) := by decide +kernel
section
variable {res : Int32 × MS}
noncomputable def m_tapeNumber_B6 (F : Nat) (x1 : Int32) (R : Int32 × Int32 × MS → Option (Int32 × MS)) (a : Int32 × Int32 × MS) : Option (Int32 × MS) :=
  if ((4 * x1) + 4) ≤ a.2.1 then (some (a.1, a.2.2)) else (if okI a.2.1 400 = true then nx ((a.1 <<< (8 &&& 31)) ||| ((a.2.2.2 20 a.2.1.toNatClampNeg) &&& 255) : Int32) (fun y1 => R (y1, a.2.1 + 1, a.2.2)) else none)
theorem km_tapeNumber_B6 (M : MC γ cX1_tapeNumber 4 G o 1 (some .int) (mQi G o res)) (x1 : Int32) : ∀ R : Int32 × Int32 × MS → Option (Int32 × MS), (∀ a, R a = some res → J γ (MW G o a.2.2) 0 0 6 [(0, .ref o), (1, .int x1), (2, .int a.1), (3, .int a.2.1)] []) → ∀ a, m_tapeNumber_B6 F x1 R a = some res → J γ (MW G o a.2.2) 0 0 6 [(0, .ref o), (1, .int x1), (2, .int a.1), (3, .int a.2.1)] [] := by
  intro R hR a hf
  unfold m_tapeNumber_B6 at hf
  refine j_iload_n (pc := 6) M.1 dX1_tapeNumber_6 3 rfl ?_
  refine j_iconst (pc := 7) M.1 dX1_tapeNumber_7 kc_iconst_4 ?_
  refine j_iload_n (pc := 8) M.1 dX1_tapeNumber_8 1 rfl ?_
  refine j_imul (pc := 9) M.1 dX1_tapeNumber_9 ?_
  refine j_iconst (pc := 10) M.1 dX1_tapeNumber_10 kc_iconst_4 ?_
  refine j_iadd (pc := 11) M.1 dX1_tapeNumber_11 ?_
  refine j_icmp_ge (pc := 12) M.1 37 dX1_tapeNumber_12 rfl (fun c1 => ?_) (fun c1 => ?_)
  · replace hf := o_pos c1 hf
    refine j_iload_n (pc := 37) M.1 dX1_tapeNumber_37 2 rfl ?_
    exact jm_iret (pc := 38) M dX1_tapeNumber_38 hf
  · replace hf := o_neg c1 hf
    refine j_iload_n (pc := 15) M.1 dX1_tapeNumber_15 2 rfl ?_
    refine j_bipush (pc := 16) M.1 dX1_tapeNumber_16 kc_bipush_8 ?_
    refine j_ishl (pc := 18) M.1 dX1_tapeNumber_18 ?_
    refine j_aload_n (pc := 19) M.1 dX1_tapeNumber_19 0 rfl ?_
    refine jm_getA (pc := 20) M fa_70 dX1_tapeNumber_20 ?_
    refine j_iload_n (pc := 23) M.1 dX1_tapeNumber_23 3 rfl ?_
    obtain ⟨b1, hf⟩ := o_need hf
    refine jm_bald (pc := 24) M ax_20 b1 dX1_tapeNumber_24 ?_
    refine j_sipush (pc := 25) M.1 dX1_tapeNumber_25 kc_sipush_255 ?_
    refine j_iand (pc := 28) M.1 dX1_tapeNumber_28 ?_
    refine j_ior (pc := 29) M.1 dX1_tapeNumber_29 ?_
    obtain ⟨y1, e1, hf⟩ := o_nx hf
    refine j_top e1 ?_
    refine j_istore_n (pc := 30) M.1 [(2, .int y1), (0, .ref o), (1, .int x1), (3, .int a.2.1)] dX1_tapeNumber_30 rfl rfl ?_
    refine j_iinc (pc := 31) M.1 [(3, .int (a.2.1 + 1)), (2, .int y1), (0, .ref o), (1, .int x1)] dX1_tapeNumber_31 3 rfl (congrArg _ kc_iconst_1) rfl rfl ?_
    refine j_goto (pc := 34) M.1 6 dX1_tapeNumber_34 rfl ?_
    refine j_sub [2, 3, 1, 0] (show lv_pick _ _ = [(0, .ref o), (1, .int x1), (2, .int y1), (3, .int (a.2.1 + 1))] from rfl) ?_
    have hy := hR _ hf
    exact hy
noncomputable def m_tapeNumber (F : Nat) (x1 : Int32) (σ : MS) : Option (Int32 × MS) :=
  lp (m_tapeNumber_B6 F x1) F (0, 4 * x1, σ)
theorem met_tapeNumber {l : Launch} {G : gG} {o F : Nat} {x1 : Int32} {σ : MS} {res : Int32 × MS} (hf : m_tapeNumber F x1 σ = some res) : MetMi l G yX1_tapeNumber cX1_tapeNumber 4 (some .int) 1 o [.int x1] σ res := by
  refine metMi_of (by decide) rfl rfl (fun γ hγ M => ?_)
  subst hγ
  show J γ (MW G o σ) 0 0 0 [(0, .ref o), (1, .int x1)] []
  unfold m_tapeNumber at hf
  refine j_iconst (pc := 0) M.1 dX1_tapeNumber_0 kc_iconst_0 ?_
  refine j_istore_n (pc := 1) M.1 [(2, .int 0), (0, .ref o), (1, .int x1)] dX1_tapeNumber_1 rfl rfl ?_
  refine j_iconst (pc := 2) M.1 dX1_tapeNumber_2 kc_iconst_4 ?_
  refine j_iload_n (pc := 3) M.1 dX1_tapeNumber_3 2 rfl ?_
  refine j_imul (pc := 4) M.1 dX1_tapeNumber_4 ?_
  refine j_istore_n (pc := 5) M.1 [(3, .int (4 * x1)), (2, .int 0), (0, .ref o), (1, .int x1)] dX1_tapeNumber_5 rfl rfl ?_
  refine j_sub [2, 3, 1, 0] (show lv_pick _ _ = [(0, .ref o), (1, .int x1), (2, .int 0), (3, .int (4 * x1))] from rfl) ?_
  refine lp_W (km_tapeNumber_B6 M x1) F (0, 4 * x1, σ) hf
end
theorem dX1_top_0 : decode cX1_top 0 = .ok (.aload_n 0, 1) := by decide +kernel
theorem dX1_top_1 : decode cX1_top 1 = .ok (.getfield 378, 3) := by decide +kernel
theorem dX1_top_4 : decode cX1_top 4 = .ok (.ifCond .ne 7, 3) := by decide +kernel
theorem dX1_top_7 : decode cX1_top 7 = .ok (.iconst (-1), 1) := by decide +kernel
theorem dX1_top_8 : decode cX1_top 8 = .ok (.goto 18, 3) := by decide +kernel
theorem dX1_top_11 : decode cX1_top 11 = .ok (.aload_n 0, 1) := by decide +kernel
theorem dX1_top_12 : decode cX1_top 12 = .ok (.getfield 77, 3) := by decide +kernel
theorem dX1_top_15 : decode cX1_top 15 = .ok (.aload_n 0, 1) := by decide +kernel
theorem dX1_top_16 : decode cX1_top 16 = .ok (.getfield 378, 3) := by decide +kernel
theorem dX1_top_19 : decode cX1_top 19 = .ok (.iconst 1, 1) := by decide +kernel
theorem dX1_top_20 : decode cX1_top 20 = .ok (.isub, 1) := by decide +kernel
theorem dX1_top_21 : decode cX1_top 21 = .ok (.iaload, 1) := by decide +kernel
theorem dX1_top_22 : decode cX1_top 22 = .ok (.ldc_w 374, 3) := by decide +kernel
theorem dX1_top_25 : decode cX1_top 25 = .ok (.idiv, 1) := by decide +kernel
theorem dX1_top_26 : decode cX1_top 26 = .ok (.ireturn, 1) := by decide +kernel
section
variable {res : Int32 × MS}
noncomputable def m_top (F : Nat) (σ : MS) : Option (Int32 × MS) :=
  if (σ.1 35) = 0 then (some ((-1), σ)) else (if okI ((σ.1 35) - 1) 180 = true then some ((σ.2 22 ((σ.1 35) - 1).toNatClampNeg) / 1048576, σ) else none)
theorem met_top {l : Launch} {G : gG} {o F : Nat} {σ : MS} {res : Int32 × MS} (hf : m_top F σ = some res) : MetMi l G yX1_top cX1_top 1 (some .int) 1 o [] σ res := by
  refine metMi_of (by decide) rfl rfl (fun γ hγ M => ?_)
  subst hγ
  show J γ (MW G o σ) 0 0 0 [(0, .ref o)] []
  unfold m_top at hf
  refine j_aload_n (pc := 0) M.1 dX1_top_0 0 rfl ?_
  refine jm_getS (pc := 1) M fm_378 dX1_top_1 ?_
  refine j_if_ne (pc := 4) M.1 11 dX1_top_4 rfl (fun c1 => ?_) (fun c1 => ?_)
  · replace hf := o_neg c1 hf
    refine j_aload_n (pc := 11) M.1 dX1_top_11 0 rfl ?_
    refine jm_getA (pc := 12) M fa_77 dX1_top_12 ?_
    refine j_aload_n (pc := 15) M.1 dX1_top_15 0 rfl ?_
    refine jm_getS (pc := 16) M fm_378 dX1_top_16 ?_
    refine j_iconst (pc := 19) M.1 dX1_top_19 kc_iconst_1 ?_
    refine j_isub (pc := 20) M.1 dX1_top_20 ?_
    obtain ⟨b1, hf⟩ := o_need hf
    refine jm_iald (pc := 21) M ax_22 b1 dX1_top_21 ?_
    refine j_ldcw (pc := 22) M.1 q1824 dX1_top_22 ?_
    refine j_idiv (pc := 25) M.1 dX1_top_25 (by decide) ?_
    exact jm_iret (pc := 26) M dX1_top_26 hf
  · replace hf := o_pos c1 hf
    refine j_iconst (pc := 7) M.1 dX1_top_7 kc_iconst_m1 ?_
    refine j_goto (pc := 8) M.1 26 dX1_top_8 rfl ?_
    exact jm_iret (pc := 26) M dX1_top_26 hf
end
theorem dX1_types_0 : decode cX1_types 0 = .ok (.iconst 3, 1) := by decide +kernel
theorem dX1_types_1 : decode cX1_types 1 = .ok (.istore_n 2, 1) := by decide +kernel
theorem dX1_types_2 : decode cX1_types 2 = .ok (.iload_n 2, 1) := by decide +kernel
theorem dX1_types_3 : decode cX1_types 3 = .ok (.ifCond .lt 35, 3) := by decide +kernel
theorem dX1_types_6 : decode cX1_types 6 = .ok (.aload_n 0, 1) := by decide +kernel
theorem dX1_types_7 : decode cX1_types 7 = .ok (.getfield 70, 3) := by decide +kernel
theorem dX1_types_10 : decode cX1_types 10 = .ok (.aload_n 0, 1) := by decide +kernel
theorem dX1_types_11 : decode cX1_types 11 = .ok (.getfield 341, 3) := by decide +kernel
theorem dX1_types_14 : decode cX1_types 14 = .ok (.iload_n 1, 1) := by decide +kernel
theorem dX1_types_15 : decode cX1_types 15 = .ok (.bipush 8, 2) := by decide +kernel
theorem dX1_types_17 : decode cX1_types 17 = .ok (.iload_n 2, 1) := by decide +kernel
theorem dX1_types_18 : decode cX1_types 18 = .ok (.imul, 1) := by decide +kernel
theorem dX1_types_19 : decode cX1_types 19 = .ok (.ishr, 1) := by decide +kernel
theorem dX1_types_20 : decode cX1_types 20 = .ok (.i2b, 1) := by decide +kernel
theorem dX1_types_21 : decode cX1_types 21 = .ok (.bastore, 1) := by decide +kernel
theorem dX1_types_22 : decode cX1_types 22 = .ok (.aload_n 0, 1) := by decide +kernel
theorem dX1_types_23 : decode cX1_types 23 = .ok (.aload_n 0, 1) := by decide +kernel
theorem dX1_types_24 : decode cX1_types 24 = .ok (.getfield 341, 3) := by decide +kernel
theorem dX1_types_27 : decode cX1_types 27 = .ok (.iconst 1, 1) := by decide +kernel
theorem dX1_types_28 : decode cX1_types 28 = .ok (.iadd, 1) := by decide +kernel
theorem dX1_types_29 : decode cX1_types 29 = .ok (.putfield 341, 3) := by decide +kernel
theorem dX1_types_32 : decode cX1_types 32 = .ok (.iinc 2 (-1), 3) := by decide +kernel
theorem dX1_types_35 : decode cX1_types 35 = .ok (.goto (-33), 3) := by decide +kernel
theorem dX1_types_38 : decode cX1_types 38 = .ok (.return_, 1) := by decide +kernel
section
variable {res : Int32 × MS}
noncomputable def m_types_B2 (F : Nat) (x1 : Int32) (R : Int32 × MS → Option (Int32 × MS)) (a : Int32 × MS) : Option (Int32 × MS) :=
  if a.1 < 0 then (some (0, a.2)) else (if okI (a.2.1 28) 400 = true then nx (sA a.2 20 (a.2.1 28).toNatClampNeg (vp_nar .byte ((x1 >>> ((8 * a.1) &&& 31)).toInt8.toInt32))) (fun σ1 => nx (sS σ1 28 ((σ1.1 28) + 1)) (fun σ2 => R (a.1 + (-1), σ2))) else none)
theorem km_types_B2 (M : MC γ cX1_types 3 G o 1 none (mQv G o res)) (x1 : Int32) : ∀ R : Int32 × MS → Option (Int32 × MS), (∀ a, R a = some res → J γ (MW G o a.2) 0 0 2 [(0, .ref o), (1, .int x1), (2, .int a.1)] []) → ∀ a, m_types_B2 F x1 R a = some res → J γ (MW G o a.2) 0 0 2 [(0, .ref o), (1, .int x1), (2, .int a.1)] [] := by
  intro R hR a hf
  unfold m_types_B2 at hf
  refine j_iload_n (pc := 2) M.1 dX1_types_2 2 rfl ?_
  refine j_if_lt (pc := 3) M.1 38 dX1_types_3 rfl (fun c1 => ?_) (fun c1 => ?_)
  · replace hf := o_pos c1 hf
    exact jm_vret (pc := 38) M dX1_types_38 hf
  · replace hf := o_neg c1 hf
    refine j_aload_n (pc := 6) M.1 dX1_types_6 0 rfl ?_
    refine jm_getA (pc := 7) M fa_70 dX1_types_7 ?_
    refine j_aload_n (pc := 10) M.1 dX1_types_10 0 rfl ?_
    refine jm_getS (pc := 11) M fm_341 dX1_types_11 ?_
    refine j_iload_n (pc := 14) M.1 dX1_types_14 1 rfl ?_
    refine j_bipush (pc := 15) M.1 dX1_types_15 kc_bipush_8 ?_
    refine j_iload_n (pc := 17) M.1 dX1_types_17 2 rfl ?_
    refine j_imul (pc := 18) M.1 dX1_types_18 ?_
    refine j_ishr (pc := 19) M.1 dX1_types_19 ?_
    refine j_i2b (pc := 20) M.1 dX1_types_20 ?_
    obtain ⟨b1, hf⟩ := o_need hf
    obtain ⟨σ1, e1, hf⟩ := o_nx hf
    refine jm_bast (pc := 21) M ax_20 b1 dX1_types_21 e1 ?_
    refine j_aload_n (pc := 22) M.1 dX1_types_22 0 rfl ?_
    refine j_aload_n (pc := 23) M.1 dX1_types_23 0 rfl ?_
    refine jm_getS (pc := 24) M fm_341 dX1_types_24 ?_
    refine j_iconst (pc := 27) M.1 dX1_types_27 kc_iconst_1 ?_
    refine j_iadd (pc := 28) M.1 dX1_types_28 ?_
    obtain ⟨σ2, e2, hf⟩ := o_nx hf
    refine jm_put (pc := 29) M fm_341 dX1_types_29 e2 ?_
    refine j_iinc (pc := 32) M.1 [(2, .int (a.1 + (-1))), (0, .ref o), (1, .int x1)] dX1_types_32 2 rfl (congrArg _ kc_iconst_m1) rfl rfl ?_
    refine j_goto (pc := 35) M.1 2 dX1_types_35 rfl ?_
    refine j_sub [1, 2, 0] (show lv_pick _ _ = [(0, .ref o), (1, .int x1), (2, .int (a.1 + (-1)))] from rfl) ?_
    have hy := hR _ hf
    exact hy
noncomputable def m_types (F : Nat) (x1 : Int32) (σ : MS) : Option (Int32 × MS) :=
  lp (m_types_B2 F x1) F (3, σ)
theorem met_types {l : Launch} {G : gG} {o F : Nat} {x1 : Int32} {σ : MS} {res : Int32 × MS} (hf : m_types F x1 σ = some res) : MetMv l G yX1_types cX1_types 3 1 o [.int x1] σ res := by
  refine metMv_of (by decide) rfl rfl (fun γ hγ M => ?_)
  subst hγ
  show J γ (MW G o σ) 0 0 0 [(0, .ref o), (1, .int x1)] []
  unfold m_types at hf
  refine j_iconst (pc := 0) M.1 dX1_types_0 kc_iconst_3 ?_
  refine j_istore_n (pc := 1) M.1 [(2, .int 3), (0, .ref o), (1, .int x1)] dX1_types_1 rfl rfl ?_
  refine j_sub [1, 2, 0] (show lv_pick _ _ = [(0, .ref o), (1, .int x1), (2, .int 3)] from rfl) ?_
  refine lp_W (km_types_B2 M x1) F (3, σ) hf
end
theorem dX1_wrong_0 : decode cX1_wrong 0 = .ok (.aload_n 0, 1) := by decide +kernel
theorem dX1_wrong_1 : decode cX1_wrong 1 = .ok (.sipush (-1000), 3) := by decide +kernel
theorem dX1_wrong_4 : decode cX1_wrong 4 = .ok (.iload_n 1, 1) := by decide +kernel
theorem dX1_wrong_5 : decode cX1_wrong 5 = .ok (.imul, 1) := by decide +kernel
theorem dX1_wrong_6 : decode cX1_wrong 6 = .ok (.iload_n 2, 1) := by decide +kernel
theorem dX1_wrong_7 : decode cX1_wrong 7 = .ok (.isub, 1) := by decide +kernel
theorem dX1_wrong_8 : decode cX1_wrong 8 = .ok (.putfield 358, 3) := by decide +kernel
theorem dX1_wrong_11 : decode cX1_wrong 11 = .ok (.iconst 0, 1) := by decide +kernel
theorem dX1_wrong_12 : decode cX1_wrong 12 = .ok (.ireturn, 1) := by decide +kernel
section
variable {res : Int32 × MS}
noncomputable def m_wrong (F : Nat) (x1 x2 : Int32) (σ : MS) : Option (Int32 × MS) :=
  nx (sS σ 31 ((((-1000)) * x1) - x2)) (fun σ1 => some (0, σ1))
theorem met_wrong {l : Launch} {G : gG} {o F : Nat} {x1 x2 : Int32} {σ : MS} {res : Int32 × MS} (hf : m_wrong F x1 x2 σ = some res) : MetMi l G yX1_wrong cX1_wrong 3 (some .boolean) 1 o [.int x1, .int x2] σ res := by
  refine metMi_of (by decide) rfl rfl (fun γ hγ M => ?_)
  subst hγ
  show J γ (MW G o σ) 0 0 0 [(0, .ref o), (1, .int x1), (2, .int x2)] []
  unfold m_wrong at hf
  refine j_aload_n (pc := 0) M.1 dX1_wrong_0 0 rfl ?_
  refine j_sipush (pc := 1) M.1 dX1_wrong_1 kc_sipush_m1000 ?_
  refine j_iload_n (pc := 4) M.1 dX1_wrong_4 1 rfl ?_
  refine j_imul (pc := 5) M.1 dX1_wrong_5 ?_
  refine j_iload_n (pc := 6) M.1 dX1_wrong_6 2 rfl ?_
  refine j_isub (pc := 7) M.1 dX1_wrong_7 ?_
  obtain ⟨σ1, e1, hf⟩ := o_nx hf
  refine jm_put (pc := 8) M fm_358 dX1_wrong_8 e1 ?_
  refine j_iconst (pc := 11) M.1 dX1_wrong_11 kc_iconst_0 ?_
  exact jm_zret (pc := 12) M dX1_wrong_12 rfl hf
end
theorem dX1_above_0 : decode cX1_above 0 = .ok (.iload_n 1, 1) := by decide +kernel
theorem dX1_above_1 : decode cX1_above 1 = .ok (.invokestatic 305, 3) := by decide +kernel
theorem dX1_above_4 : decode cX1_above 4 = .ok (.ifCond .eq 24, 3) := by decide +kernel
theorem dX1_above_7 : decode cX1_above 7 = .ok (.iload_n 2, 1) := by decide +kernel
theorem dX1_above_8 : decode cX1_above 8 = .ok (.invokestatic 305, 3) := by decide +kernel
theorem dX1_above_11 : decode cX1_above 11 = .ok (.ifCond .eq 17, 3) := by decide +kernel
theorem dX1_above_14 : decode cX1_above 14 = .ok (.iload_n 1, 1) := by decide +kernel
theorem dX1_above_15 : decode cX1_above 15 = .ok (.iload_n 2, 1) := by decide +kernel
theorem dX1_above_16 : decode cX1_above 16 = .ok (.if_icmp .eq 12, 3) := by decide +kernel
theorem dX1_above_19 : decode cX1_above 19 = .ok (.aload_n 0, 1) := by decide +kernel
theorem dX1_above_20 : decode cX1_above 20 = .ok (.getfield 540, 3) := by decide +kernel
theorem dX1_above_23 : decode cX1_above 23 = .ok (.bipush 40, 2) := by decide +kernel
theorem dX1_above_25 : decode cX1_above 25 = .ok (.if_icmp .ne 5, 3) := by decide +kernel
theorem dX1_above_28 : decode cX1_above 28 = .ok (.iconst 0, 1) := by decide +kernel
theorem dX1_above_29 : decode cX1_above 29 = .ok (.ireturn, 1) := by decide +kernel
theorem dX1_above_30 : decode cX1_above 30 = .ok (.aload_n 0, 1) := by decide +kernel
theorem dX1_above_31 : decode cX1_above 31 = .ok (.getfield 220, 3) := by decide +kernel
theorem dX1_above_34 : decode cX1_above 34 = .ok (.aload_n 0, 1) := by decide +kernel
theorem dX1_above_35 : decode cX1_above 35 = .ok (.getfield 540, 3) := by decide +kernel
theorem dX1_above_38 : decode cX1_above 38 = .ok (.iload_n 1, 1) := by decide +kernel
theorem dX1_above_39 : decode cX1_above 39 = .ok (.iastore, 1) := by decide +kernel
theorem dX1_above_40 : decode cX1_above 40 = .ok (.aload_n 0, 1) := by decide +kernel
theorem dX1_above_41 : decode cX1_above 41 = .ok (.getfield 223, 3) := by decide +kernel
theorem dX1_above_44 : decode cX1_above 44 = .ok (.aload_n 0, 1) := by decide +kernel
theorem dX1_above_45 : decode cX1_above 45 = .ok (.getfield 540, 3) := by decide +kernel
theorem dX1_above_48 : decode cX1_above 48 = .ok (.iload_n 2, 1) := by decide +kernel
theorem dX1_above_49 : decode cX1_above 49 = .ok (.iastore, 1) := by decide +kernel
theorem dX1_above_50 : decode cX1_above 50 = .ok (.aload_n 0, 1) := by decide +kernel
theorem dX1_above_51 : decode cX1_above 51 = .ok (.aload_n 0, 1) := by decide +kernel
theorem dX1_above_52 : decode cX1_above 52 = .ok (.getfield 540, 3) := by decide +kernel
theorem dX1_above_55 : decode cX1_above 55 = .ok (.iconst 1, 1) := by decide +kernel
theorem dX1_above_56 : decode cX1_above 56 = .ok (.iadd, 1) := by decide +kernel
theorem dX1_above_57 : decode cX1_above 57 = .ok (.putfield 540, 3) := by decide +kernel
theorem dX1_above_60 : decode cX1_above 60 = .ok (.iconst 1, 1) := by decide +kernel
theorem dX1_above_61 : decode cX1_above 61 = .ok (.ireturn, 1) := by decide +kernel
section
variable {res : Int32 × MS}
noncomputable def m_above (F : Nat) (x1 x2 : Int32) (σ : MS) : Option (Int32 × MS) :=
  (m_isLayer F x1).bind (fun r1 => if r1 = 0 then (some (0, σ)) else ((m_isLayer F x2).bind (fun r2 => if r2 = 0 then (some (0, σ)) else (if x1 = x2 then (some (0, σ)) else (if (σ.1 89) = 40 then (some (0, σ)) else (if okI (σ.1 89) 40 = true then nx (sA σ 68 (σ.1 89).toNatClampNeg x1) (fun σ1 => if okI (σ1.1 89) 40 = true then nx (sA σ1 69 (σ1.1 89).toNatClampNeg x2) (fun σ2 => nx (sS σ2 89 ((σ2.1 89) + 1)) (fun σ3 => some (1, σ3))) else none) else none))))))
theorem met_above {l : Launch} {G : gG} {o F : Nat} {x1 x2 : Int32} {σ : MS} {res : Int32 × MS} (hf : m_above F x1 x2 σ = some res) : MetMi l G yX1_above cX1_above 3 (some .boolean) 2 o [.int x1, .int x2] σ res := by
  refine metMi_of (by decide) rfl rfl (fun γ hγ M => ?_)
  subst hγ
  show J γ (MW G o σ) 0 0 0 [(0, .ref o), (1, .int x1), (2, .int x2)] []
  unfold m_above at hf
  refine j_iload_n (pc := 0) M.1 dX1_above_0 1 rfl ?_
  obtain ⟨r1, g1, hf⟩ := o_bind hf
  refine jm_calls (pc := 1) (As := [.int x1]) (rest := []) M cs_X1_305 (met_isLayer g1) rfl rfl rfl rfl dX1_above_1 ?_
  refine j_if_eq (pc := 4) M.1 28 dX1_above_4 rfl (fun c1 => ?_) (fun c1 => ?_)
  · replace hf := o_pos c1 hf
    refine j_iconst (pc := 28) M.1 dX1_above_28 kc_iconst_0 ?_
    exact jm_zret (pc := 29) M dX1_above_29 rfl hf
  · replace hf := o_neg c1 hf
    refine j_iload_n (pc := 7) M.1 dX1_above_7 2 rfl ?_
    obtain ⟨r2, g2, hf⟩ := o_bind hf
    refine jm_calls (pc := 8) (As := [.int x2]) (rest := []) M cs_X1_305 (met_isLayer g2) rfl rfl rfl rfl dX1_above_8 ?_
    refine j_if_eq (pc := 11) M.1 28 dX1_above_11 rfl (fun c2 => ?_) (fun c2 => ?_)
    · replace hf := o_pos c2 hf
      refine j_iconst (pc := 28) M.1 dX1_above_28 kc_iconst_0 ?_
      exact jm_zret (pc := 29) M dX1_above_29 rfl hf
    · replace hf := o_neg c2 hf
      refine j_iload_n (pc := 14) M.1 dX1_above_14 1 rfl ?_
      refine j_iload_n (pc := 15) M.1 dX1_above_15 2 rfl ?_
      refine j_icmp_eq (pc := 16) M.1 28 dX1_above_16 rfl (fun c3 => ?_) (fun c3 => ?_)
      · replace hf := o_pos c3 hf
        refine j_iconst (pc := 28) M.1 dX1_above_28 kc_iconst_0 ?_
        exact jm_zret (pc := 29) M dX1_above_29 rfl hf
      · replace hf := o_neg c3 hf
        refine j_aload_n (pc := 19) M.1 dX1_above_19 0 rfl ?_
        refine jm_getS (pc := 20) M fm_540 dX1_above_20 ?_
        refine j_bipush (pc := 23) M.1 dX1_above_23 kc_bipush_40 ?_
        refine j_icmp_ne (pc := 25) M.1 30 dX1_above_25 rfl (fun c4 => ?_) (fun c4 => ?_)
        · replace hf := o_neg c4 hf
          refine j_aload_n (pc := 30) M.1 dX1_above_30 0 rfl ?_
          refine jm_getA (pc := 31) M fa_220 dX1_above_31 ?_
          refine j_aload_n (pc := 34) M.1 dX1_above_34 0 rfl ?_
          refine jm_getS (pc := 35) M fm_540 dX1_above_35 ?_
          refine j_iload_n (pc := 38) M.1 dX1_above_38 1 rfl ?_
          obtain ⟨b1, hf⟩ := o_need hf
          obtain ⟨σ1, e1, hf⟩ := o_nx hf
          refine jm_iast (pc := 39) M ax_68 b1 dX1_above_39 e1 ?_
          refine j_aload_n (pc := 40) M.1 dX1_above_40 0 rfl ?_
          refine jm_getA (pc := 41) M fa_223 dX1_above_41 ?_
          refine j_aload_n (pc := 44) M.1 dX1_above_44 0 rfl ?_
          refine jm_getS (pc := 45) M fm_540 dX1_above_45 ?_
          refine j_iload_n (pc := 48) M.1 dX1_above_48 2 rfl ?_
          obtain ⟨b2, hf⟩ := o_need hf
          obtain ⟨σ2, e2, hf⟩ := o_nx hf
          refine jm_iast (pc := 49) M ax_69 b2 dX1_above_49 e2 ?_
          refine j_aload_n (pc := 50) M.1 dX1_above_50 0 rfl ?_
          refine j_aload_n (pc := 51) M.1 dX1_above_51 0 rfl ?_
          refine jm_getS (pc := 52) M fm_540 dX1_above_52 ?_
          refine j_iconst (pc := 55) M.1 dX1_above_55 kc_iconst_1 ?_
          refine j_iadd (pc := 56) M.1 dX1_above_56 ?_
          obtain ⟨σ3, e3, hf⟩ := o_nx hf
          refine jm_put (pc := 57) M fm_540 dX1_above_57 e3 ?_
          refine j_iconst (pc := 60) M.1 dX1_above_60 kc_iconst_1 ?_
          exact jm_zret (pc := 61) M dX1_above_61 rfl hf
        · replace hf := o_pos c4 hf
          refine j_iconst (pc := 28) M.1 dX1_above_28 kc_iconst_0 ?_
          exact jm_zret (pc := 29) M dX1_above_29 rfl hf
end
theorem dX1_areBeside_0 : decode cX1_areBeside 0 = .ok (.iload_n 1, 1) := by decide +kernel
theorem dX1_areBeside_1 : decode cX1_areBeside 1 = .ok (.aload_n 0, 1) := by decide +kernel
theorem dX1_areBeside_2 : decode cX1_areBeside 2 = .ok (.getfield 272, 3) := by decide +kernel
theorem dX1_areBeside_5 : decode cX1_areBeside 5 = .ok (.irem, 1) := by decide +kernel
theorem dX1_areBeside_6 : decode cX1_areBeside 6 = .ok (.iload_n 2, 1) := by decide +kernel
theorem dX1_areBeside_7 : decode cX1_areBeside 7 = .ok (.aload_n 0, 1) := by decide +kernel
theorem dX1_areBeside_8 : decode cX1_areBeside 8 = .ok (.getfield 272, 3) := by decide +kernel
theorem dX1_areBeside_11 : decode cX1_areBeside 11 = .ok (.irem, 1) := by decide +kernel
theorem dX1_areBeside_12 : decode cX1_areBeside 12 = .ok (.isub, 1) := by decide +kernel
theorem dX1_areBeside_13 : decode cX1_areBeside 13 = .ok (.iconst (-1), 1) := by decide +kernel
theorem dX1_areBeside_14 : decode cX1_areBeside 14 = .ok (.iconst 1, 1) := by decide +kernel
theorem dX1_areBeside_15 : decode cX1_areBeside 15 = .ok (.invokestatic 278, 3) := by decide +kernel
theorem dX1_areBeside_18 : decode cX1_areBeside 18 = .ok (.ifCond .eq 28, 3) := by decide +kernel
theorem dX1_areBeside_21 : decode cX1_areBeside 21 = .ok (.iload_n 1, 1) := by decide +kernel
theorem dX1_areBeside_22 : decode cX1_areBeside 22 = .ok (.aload_n 0, 1) := by decide +kernel
theorem dX1_areBeside_23 : decode cX1_areBeside 23 = .ok (.getfield 272, 3) := by decide +kernel
theorem dX1_areBeside_26 : decode cX1_areBeside 26 = .ok (.idiv, 1) := by decide +kernel
theorem dX1_areBeside_27 : decode cX1_areBeside 27 = .ok (.iload_n 2, 1) := by decide +kernel
theorem dX1_areBeside_28 : decode cX1_areBeside 28 = .ok (.aload_n 0, 1) := by decide +kernel
theorem dX1_areBeside_29 : decode cX1_areBeside 29 = .ok (.getfield 272, 3) := by decide +kernel
theorem dX1_areBeside_32 : decode cX1_areBeside 32 = .ok (.idiv, 1) := by decide +kernel
theorem dX1_areBeside_33 : decode cX1_areBeside 33 = .ok (.isub, 1) := by decide +kernel
theorem dX1_areBeside_34 : decode cX1_areBeside 34 = .ok (.iconst (-1), 1) := by decide +kernel
theorem dX1_areBeside_35 : decode cX1_areBeside 35 = .ok (.iconst 1, 1) := by decide +kernel
theorem dX1_areBeside_36 : decode cX1_areBeside 36 = .ok (.invokestatic 278, 3) := by decide +kernel
theorem dX1_areBeside_39 : decode cX1_areBeside 39 = .ok (.ifCond .eq 7, 3) := by decide +kernel
theorem dX1_areBeside_42 : decode cX1_areBeside 42 = .ok (.iconst 1, 1) := by decide +kernel
theorem dX1_areBeside_43 : decode cX1_areBeside 43 = .ok (.goto 4, 3) := by decide +kernel
theorem dX1_areBeside_46 : decode cX1_areBeside 46 = .ok (.iconst 0, 1) := by decide +kernel
theorem dX1_areBeside_47 : decode cX1_areBeside 47 = .ok (.ireturn, 1) := by decide +kernel
section
variable {res : Int32 × MS}
noncomputable def m_areBeside (F : Nat) (x1 x2 : Int32) (σ : MS) : Option (Int32 × MS) :=
  if ¬ (σ.1 0) = 0 then if ¬ (σ.1 0) = 0 then (m_in F ((jrem x1 (σ.1 0)) - (jrem x2 (σ.1 0))) ((-1)) 1).bind (fun r1 => if r1 = 0 then (some (0, σ)) else (if ¬ (σ.1 0) = 0 then if ¬ (σ.1 0) = 0 then (m_in F ((x1 / (σ.1 0)) - (x2 / (σ.1 0))) ((-1)) 1).bind (fun r2 => if r2 = 0 then (some (0, σ)) else (some (1, σ))) else none else none)) else none else none
theorem met_areBeside {l : Launch} {G : gG} {o F : Nat} {x1 x2 : Int32} {σ : MS} {res : Int32 × MS} (hf : m_areBeside F x1 x2 σ = some res) : MetMi l G yX1_areBeside cX1_areBeside 3 (some .boolean) 2 o [.int x1, .int x2] σ res := by
  refine metMi_of (by decide) rfl rfl (fun γ hγ M => ?_)
  subst hγ
  show J γ (MW G o σ) 0 0 0 [(0, .ref o), (1, .int x1), (2, .int x2)] []
  unfold m_areBeside at hf
  refine j_iload_n (pc := 0) M.1 dX1_areBeside_0 1 rfl ?_
  refine j_aload_n (pc := 1) M.1 dX1_areBeside_1 0 rfl ?_
  refine jm_getS (pc := 2) M fm_272 dX1_areBeside_2 ?_
  obtain ⟨b1, hf⟩ := o_need hf
  refine j_irem (pc := 5) M.1 dX1_areBeside_5 b1 ?_
  refine j_iload_n (pc := 6) M.1 dX1_areBeside_6 2 rfl ?_
  refine j_aload_n (pc := 7) M.1 dX1_areBeside_7 0 rfl ?_
  refine jm_getS (pc := 8) M fm_272 dX1_areBeside_8 ?_
  obtain ⟨b2, hf⟩ := o_need hf
  refine j_irem (pc := 11) M.1 dX1_areBeside_11 b2 ?_
  refine j_isub (pc := 12) M.1 dX1_areBeside_12 ?_
  refine j_iconst (pc := 13) M.1 dX1_areBeside_13 kc_iconst_m1 ?_
  refine j_iconst (pc := 14) M.1 dX1_areBeside_14 kc_iconst_1 ?_
  obtain ⟨r1, g1, hf⟩ := o_bind hf
  refine jm_calls (pc := 15) (As := [.int ((jrem x1 (σ.1 0)) - (jrem x2 (σ.1 0))), .int ((-1)), .int 1]) (rest := []) M cs_X1_278 (met_in g1) rfl rfl rfl rfl dX1_areBeside_15 ?_
  refine j_if_eq (pc := 18) M.1 46 dX1_areBeside_18 rfl (fun c1 => ?_) (fun c1 => ?_)
  · replace hf := o_pos c1 hf
    refine j_iconst (pc := 46) M.1 dX1_areBeside_46 kc_iconst_0 ?_
    exact jm_zret (pc := 47) M dX1_areBeside_47 rfl hf
  · replace hf := o_neg c1 hf
    refine j_iload_n (pc := 21) M.1 dX1_areBeside_21 1 rfl ?_
    refine j_aload_n (pc := 22) M.1 dX1_areBeside_22 0 rfl ?_
    refine jm_getS (pc := 23) M fm_272 dX1_areBeside_23 ?_
    obtain ⟨b3, hf⟩ := o_need hf
    refine j_idiv (pc := 26) M.1 dX1_areBeside_26 b3 ?_
    refine j_iload_n (pc := 27) M.1 dX1_areBeside_27 2 rfl ?_
    refine j_aload_n (pc := 28) M.1 dX1_areBeside_28 0 rfl ?_
    refine jm_getS (pc := 29) M fm_272 dX1_areBeside_29 ?_
    obtain ⟨b4, hf⟩ := o_need hf
    refine j_idiv (pc := 32) M.1 dX1_areBeside_32 b4 ?_
    refine j_isub (pc := 33) M.1 dX1_areBeside_33 ?_
    refine j_iconst (pc := 34) M.1 dX1_areBeside_34 kc_iconst_m1 ?_
    refine j_iconst (pc := 35) M.1 dX1_areBeside_35 kc_iconst_1 ?_
    obtain ⟨r2, g2, hf⟩ := o_bind hf
    refine jm_calls (pc := 36) (As := [.int ((x1 / (σ.1 0)) - (x2 / (σ.1 0))), .int ((-1)), .int 1]) (rest := []) M cs_X1_278 (met_in g2) rfl rfl rfl rfl dX1_areBeside_36 ?_
    refine j_if_eq (pc := 39) M.1 46 dX1_areBeside_39 rfl (fun c2 => ?_) (fun c2 => ?_)
    · replace hf := o_pos c2 hf
      refine j_iconst (pc := 46) M.1 dX1_areBeside_46 kc_iconst_0 ?_
      exact jm_zret (pc := 47) M dX1_areBeside_47 rfl hf
    · replace hf := o_neg c2 hf
      refine j_iconst (pc := 42) M.1 dX1_areBeside_42 kc_iconst_1 ?_
      refine j_goto (pc := 43) M.1 47 dX1_areBeside_43 rfl ?_
      exact jm_zret (pc := 47) M dX1_areBeside_47 rfl hf
end
theorem dX1_ash_0 : decode cX1_ash 0 = .ok (.iload_n 1, 1) := by decide +kernel
theorem dX1_ash_1 : decode cX1_ash 1 = .ok (.invokestatic 305, 3) := by decide +kernel
theorem dX1_ash_4 : decode cX1_ash 4 = .ok (.ifCond .eq 23, 3) := by decide +kernel
theorem dX1_ash_7 : decode cX1_ash 7 = .ok (.iload_n 2, 1) := by decide +kernel
theorem dX1_ash_8 : decode cX1_ash 8 = .ok (.iconst 0, 1) := by decide +kernel
theorem dX1_ash_9 : decode cX1_ash 9 = .ok (.bipush 99, 2) := by decide +kernel
theorem dX1_ash_11 : decode cX1_ash 11 = .ok (.invokestatic 278, 3) := by decide +kernel
theorem dX1_ash_14 : decode cX1_ash 14 = .ok (.ifCond .eq 13, 3) := by decide +kernel
theorem dX1_ash_17 : decode cX1_ash 17 = .ok (.iload_n 3, 1) := by decide +kernel
theorem dX1_ash_18 : decode cX1_ash 18 = .ok (.iload_n 2, 1) := by decide +kernel
theorem dX1_ash_19 : decode cX1_ash 19 = .ok (.bipush 99, 2) := by decide +kernel
theorem dX1_ash_21 : decode cX1_ash 21 = .ok (.invokestatic 278, 3) := by decide +kernel
theorem dX1_ash_24 : decode cX1_ash 24 = .ok (.ifCond .ne 5, 3) := by decide +kernel
theorem dX1_ash_27 : decode cX1_ash 27 = .ok (.iconst 0, 1) := by decide +kernel
theorem dX1_ash_28 : decode cX1_ash 28 = .ok (.ireturn, 1) := by decide +kernel
theorem dX1_ash_29 : decode cX1_ash 29 = .ok (.aload_n 0, 1) := by decide +kernel
theorem dX1_ash_30 : decode cX1_ash 30 = .ok (.getfield 214, 3) := by decide +kernel
theorem dX1_ash_33 : decode cX1_ash 33 = .ok (.iload_n 1, 1) := by decide +kernel
theorem dX1_ash_34 : decode cX1_ash 34 = .ok (.iload_n 2, 1) := by decide +kernel
theorem dX1_ash_35 : decode cX1_ash 35 = .ok (.iastore, 1) := by decide +kernel
theorem dX1_ash_36 : decode cX1_ash 36 = .ok (.aload_n 0, 1) := by decide +kernel
theorem dX1_ash_37 : decode cX1_ash 37 = .ok (.getfield 217, 3) := by decide +kernel
theorem dX1_ash_40 : decode cX1_ash 40 = .ok (.iload_n 1, 1) := by decide +kernel
theorem dX1_ash_41 : decode cX1_ash 41 = .ok (.iload_n 3, 1) := by decide +kernel
theorem dX1_ash_42 : decode cX1_ash 42 = .ok (.iastore, 1) := by decide +kernel
theorem dX1_ash_43 : decode cX1_ash 43 = .ok (.iconst 1, 1) := by decide +kernel
theorem dX1_ash_44 : decode cX1_ash 44 = .ok (.ireturn, 1) := by decide +kernel
section
variable {res : Int32 × MS}
noncomputable def m_ash (F : Nat) (x1 x2 x3 : Int32) (σ : MS) : Option (Int32 × MS) :=
  (m_isLayer F x1).bind (fun r1 => if r1 = 0 then (some (0, σ)) else ((m_in F x2 0 99).bind (fun r2 => if r2 = 0 then (some (0, σ)) else ((m_in F x3 x2 99).bind (fun r3 => if r3 = 0 then (some (0, σ)) else (if okI x1 8 = true then nx (sA σ 66 x1.toNatClampNeg x2) (fun σ1 => if okI x1 8 = true then nx (sA σ1 67 x1.toNatClampNeg x3) (fun σ2 => some (1, σ2)) else none) else none))))))
theorem met_ash {l : Launch} {G : gG} {o F : Nat} {x1 x2 x3 : Int32} {σ : MS} {res : Int32 × MS} (hf : m_ash F x1 x2 x3 σ = some res) : MetMi l G yX1_ash cX1_ash 4 (some .boolean) 2 o [.int x1, .int x2, .int x3] σ res := by
  refine metMi_of (by decide) rfl rfl (fun γ hγ M => ?_)
  subst hγ
  show J γ (MW G o σ) 0 0 0 [(0, .ref o), (1, .int x1), (2, .int x2), (3, .int x3)] []
  unfold m_ash at hf
  refine j_iload_n (pc := 0) M.1 dX1_ash_0 1 rfl ?_
  obtain ⟨r1, g1, hf⟩ := o_bind hf
  refine jm_calls (pc := 1) (As := [.int x1]) (rest := []) M cs_X1_305 (met_isLayer g1) rfl rfl rfl rfl dX1_ash_1 ?_
  refine j_if_eq (pc := 4) M.1 27 dX1_ash_4 rfl (fun c1 => ?_) (fun c1 => ?_)
  · replace hf := o_pos c1 hf
    refine j_iconst (pc := 27) M.1 dX1_ash_27 kc_iconst_0 ?_
    exact jm_zret (pc := 28) M dX1_ash_28 rfl hf
  · replace hf := o_neg c1 hf
    refine j_iload_n (pc := 7) M.1 dX1_ash_7 2 rfl ?_
    refine j_iconst (pc := 8) M.1 dX1_ash_8 kc_iconst_0 ?_
    refine j_bipush (pc := 9) M.1 dX1_ash_9 kc_bipush_99 ?_
    obtain ⟨r2, g2, hf⟩ := o_bind hf
    refine jm_calls (pc := 11) (As := [.int x2, .int 0, .int 99]) (rest := []) M cs_X1_278 (met_in g2) rfl rfl rfl rfl dX1_ash_11 ?_
    refine j_if_eq (pc := 14) M.1 27 dX1_ash_14 rfl (fun c2 => ?_) (fun c2 => ?_)
    · replace hf := o_pos c2 hf
      refine j_iconst (pc := 27) M.1 dX1_ash_27 kc_iconst_0 ?_
      exact jm_zret (pc := 28) M dX1_ash_28 rfl hf
    · replace hf := o_neg c2 hf
      refine j_iload_n (pc := 17) M.1 dX1_ash_17 3 rfl ?_
      refine j_iload_n (pc := 18) M.1 dX1_ash_18 2 rfl ?_
      refine j_bipush (pc := 19) M.1 dX1_ash_19 kc_bipush_99 ?_
      obtain ⟨r3, g3, hf⟩ := o_bind hf
      refine jm_calls (pc := 21) (As := [.int x3, .int x2, .int 99]) (rest := []) M cs_X1_278 (met_in g3) rfl rfl rfl rfl dX1_ash_21 ?_
      refine j_if_ne (pc := 24) M.1 29 dX1_ash_24 rfl (fun c3 => ?_) (fun c3 => ?_)
      · replace hf := o_neg c3 hf
        refine j_aload_n (pc := 29) M.1 dX1_ash_29 0 rfl ?_
        refine jm_getA (pc := 30) M fa_214 dX1_ash_30 ?_
        refine j_iload_n (pc := 33) M.1 dX1_ash_33 1 rfl ?_
        refine j_iload_n (pc := 34) M.1 dX1_ash_34 2 rfl ?_
        obtain ⟨b1, hf⟩ := o_need hf
        obtain ⟨σ1, e1, hf⟩ := o_nx hf
        refine jm_iast (pc := 35) M ax_66 b1 dX1_ash_35 e1 ?_
        refine j_aload_n (pc := 36) M.1 dX1_ash_36 0 rfl ?_
        refine jm_getA (pc := 37) M fa_217 dX1_ash_37 ?_
        refine j_iload_n (pc := 40) M.1 dX1_ash_40 1 rfl ?_
        refine j_iload_n (pc := 41) M.1 dX1_ash_41 3 rfl ?_
        obtain ⟨b2, hf⟩ := o_need hf
        obtain ⟨σ2, e2, hf⟩ := o_nx hf
        refine jm_iast (pc := 42) M ax_67 b2 dX1_ash_42 e2 ?_
        refine j_iconst (pc := 43) M.1 dX1_ash_43 kc_iconst_1 ?_
        exact jm_zret (pc := 44) M dX1_ash_44 rfl hf
      · replace hf := o_pos c3 hf
        refine j_iconst (pc := 27) M.1 dX1_ash_27 kc_iconst_0 ?_
        exact jm_zret (pc := 28) M dX1_ash_28 rfl hf
end
theorem dX1_best_0 : decode cX1_best 0 = .ok (.iload_n 1, 1) := by decide +kernel
theorem dX1_best_1 : decode cX1_best 1 = .ok (.iconst 0, 1) := by decide +kernel
theorem dX1_best_2 : decode cX1_best 2 = .ok (.ldc_w 558, 3) := by decide +kernel
theorem dX1_best_5 : decode cX1_best 5 = .ok (.invokestatic 278, 3) := by decide +kernel
theorem dX1_best_8 : decode cX1_best 8 = .ok (.ifCond .ne 5, 3) := by decide +kernel
theorem dX1_best_11 : decode cX1_best 11 = .ok (.iconst (-1), 1) := by decide +kernel
theorem dX1_best_12 : decode cX1_best 12 = .ok (.ireturn, 1) := by decide +kernel
theorem dX1_best_13 : decode cX1_best 13 = .ok (.iconst 0, 1) := by decide +kernel
theorem dX1_best_14 : decode cX1_best 14 = .ok (.istore_n 2, 1) := by decide +kernel
theorem dX1_best_15 : decode cX1_best 15 = .ok (.iconst 1, 1) := by decide +kernel
theorem dX1_best_16 : decode cX1_best 16 = .ok (.istore_n 3, 1) := by decide +kernel
theorem dX1_best_17 : decode cX1_best 17 = .ok (.iload_n 3, 1) := by decide +kernel
theorem dX1_best_18 : decode cX1_best 18 = .ok (.iconst 1, 1) := by decide +kernel
theorem dX1_best_19 : decode cX1_best 19 = .ok (.aload_n 0, 1) := by decide +kernel
theorem dX1_best_20 : decode cX1_best 20 = .ok (.getfield 555, 3) := by decide +kernel
theorem dX1_best_23 : decode cX1_best 23 = .ok (.ishl, 1) := by decide +kernel
theorem dX1_best_24 : decode cX1_best 24 = .ok (.if_icmp .ge 59, 3) := by decide +kernel
theorem dX1_best_27 : decode cX1_best 27 = .ok (.aload_n 0, 1) := by decide +kernel
theorem dX1_best_28 : decode cX1_best 28 = .ok (.iload_n 3, 1) := by decide +kernel
theorem dX1_best_29 : decode cX1_best 29 = .ok (.invokevirtual 559, 3) := by decide +kernel
theorem dX1_best_32 : decode cX1_best 32 = .ok (.iload_n 1, 1) := by decide +kernel
theorem dX1_best_33 : decode cX1_best 33 = .ok (.if_icmp .le 6, 3) := by decide +kernel
theorem dX1_best_36 : decode cX1_best 36 = .ok (.goto 41, 3) := by decide +kernel
theorem dX1_best_39 : decode cX1_best 39 = .ok (.aload_n 0, 1) := by decide +kernel
theorem dX1_best_40 : decode cX1_best 40 = .ok (.iload_n 3, 1) := by decide +kernel
theorem dX1_best_41 : decode cX1_best 41 = .ok (.invokevirtual 562, 3) := by decide +kernel
theorem dX1_best_44 : decode cX1_best 44 = .ok (.aload_n 0, 1) := by decide +kernel
theorem dX1_best_45 : decode cX1_best 45 = .ok (.iload_n 2, 1) := by decide +kernel
theorem dX1_best_46 : decode cX1_best 46 = .ok (.invokevirtual 562, 3) := by decide +kernel
theorem dX1_best_49 : decode cX1_best 49 = .ok (.isub, 1) := by decide +kernel
theorem dX1_best_50 : decode cX1_best 50 = .ok (.istore 4, 2) := by decide +kernel
theorem dX1_best_52 : decode cX1_best 52 = .ok (.iload 4, 2) := by decide +kernel
theorem dX1_best_54 : decode cX1_best 54 = .ok (.ifCond .gt 21, 3) := by decide +kernel
theorem dX1_best_57 : decode cX1_best 57 = .ok (.iload 4, 2) := by decide +kernel
theorem dX1_best_59 : decode cX1_best 59 = .ok (.ifCond .ne 18, 3) := by decide +kernel
theorem dX1_best_62 : decode cX1_best 62 = .ok (.aload_n 0, 1) := by decide +kernel
theorem dX1_best_63 : decode cX1_best 63 = .ok (.iload_n 3, 1) := by decide +kernel
theorem dX1_best_64 : decode cX1_best 64 = .ok (.invokevirtual 559, 3) := by decide +kernel
theorem dX1_best_67 : decode cX1_best 67 = .ok (.aload_n 0, 1) := by decide +kernel
theorem dX1_best_68 : decode cX1_best 68 = .ok (.iload_n 2, 1) := by decide +kernel
theorem dX1_best_69 : decode cX1_best 69 = .ok (.invokevirtual 559, 3) := by decide +kernel
theorem dX1_best_72 : decode cX1_best 72 = .ok (.if_icmp .ge 5, 3) := by decide +kernel
theorem dX1_best_75 : decode cX1_best 75 = .ok (.iload_n 3, 1) := by decide +kernel
theorem dX1_best_76 : decode cX1_best 76 = .ok (.istore_n 2, 1) := by decide +kernel
theorem dX1_best_77 : decode cX1_best 77 = .ok (.iinc 3 1, 3) := by decide +kernel
theorem dX1_best_80 : decode cX1_best 80 = .ok (.goto (-63), 3) := by decide +kernel
theorem dX1_best_83 : decode cX1_best 83 = .ok (.iload_n 2, 1) := by decide +kernel
theorem dX1_best_84 : decode cX1_best 84 = .ok (.ireturn, 1) := by decide +kernel
section
variable {res : Int32 × MS}
noncomputable def m_best_B17 (F : Nat) (x1 : Int32) (R : Int32 × Int32 × MS → Option (Int32 × MS)) (a : Int32 × Int32 × MS) : Option (Int32 × MS) :=
  if (1 <<< ((a.2.2.1 101) &&& 31)) ≤ a.2.1 then (some (a.1, a.2.2)) else ((m_costs F a.2.1 a.2.2).bind (fun r1 => if r1.1 ≤ x1 then ((m_saved F a.2.1 r1.2).bind (fun r2 => (m_saved F a.1 r2.2).bind (fun r3 => if 0 < (r2.1 - r3.1) then (R (a.2.1, a.2.1 + 1, r3.2)) else (if (r2.1 - r3.1) = 0 then ((m_costs F a.2.1 r3.2).bind (fun r4 => (m_costs F a.1 r4.2).bind (fun r5 => if r5.1 ≤ r4.1 then (R (a.1, a.2.1 + 1, r5.2)) else (R (a.2.1, a.2.1 + 1, r5.2))))) else (R (a.1, a.2.1 + 1, r3.2)))))) else (R (a.1, a.2.1 + 1, r1.2))))
theorem km_best_B17 (M : MC γ cX1_best 5 G o 2 (some .int) (mQi G o res)) (x1 : Int32) : ∀ R : Int32 × Int32 × MS → Option (Int32 × MS), (∀ a, R a = some res → J γ (MW G o a.2.2) 0 0 17 [(0, .ref o), (1, .int x1), (2, .int a.1), (3, .int a.2.1)] []) → ∀ a, m_best_B17 F x1 R a = some res → J γ (MW G o a.2.2) 0 0 17 [(0, .ref o), (1, .int x1), (2, .int a.1), (3, .int a.2.1)] [] := by
  intro R hR a hf
  unfold m_best_B17 at hf
  refine j_iload_n (pc := 17) M.1 dX1_best_17 3 rfl ?_
  refine j_iconst (pc := 18) M.1 dX1_best_18 kc_iconst_1 ?_
  refine j_aload_n (pc := 19) M.1 dX1_best_19 0 rfl ?_
  refine jm_getS (pc := 20) M fm_555 dX1_best_20 ?_
  refine j_ishl (pc := 23) M.1 dX1_best_23 ?_
  refine j_icmp_ge (pc := 24) M.1 83 dX1_best_24 rfl (fun c1 => ?_) (fun c1 => ?_)
  · replace hf := o_pos c1 hf
    refine j_iload_n (pc := 83) M.1 dX1_best_83 2 rfl ?_
    exact jm_iret (pc := 84) M dX1_best_84 hf
  · replace hf := o_neg c1 hf
    refine j_aload_n (pc := 27) M.1 dX1_best_27 0 rfl ?_
    refine j_iload_n (pc := 28) M.1 dX1_best_28 3 rfl ?_
    obtain ⟨r1, g1, hf⟩ := o_bind hf
    refine jm_calli (pc := 29) (As := [.int a.2.1]) (rest := []) M cm_559 (met_costs g1) rfl rfl rfl rfl dX1_best_29 ?_
    refine j_iload_n (pc := 32) M.1 dX1_best_32 1 rfl ?_
    refine j_icmp_le (pc := 33) M.1 39 dX1_best_33 rfl (fun c2 => ?_) (fun c2 => ?_)
    · replace hf := o_pos c2 hf
      refine j_aload_n (pc := 39) M.1 dX1_best_39 0 rfl ?_
      refine j_iload_n (pc := 40) M.1 dX1_best_40 3 rfl ?_
      obtain ⟨r2, g2, hf⟩ := o_bind hf
      refine jm_calli (pc := 41) (As := [.int a.2.1]) (rest := []) M cm_562 (met_saved g2) rfl rfl rfl rfl dX1_best_41 ?_
      refine j_aload_n (pc := 44) M.1 dX1_best_44 0 rfl ?_
      refine j_iload_n (pc := 45) M.1 dX1_best_45 2 rfl ?_
      obtain ⟨r3, g3, hf⟩ := o_bind hf
      refine jm_calli (pc := 46) (As := [.int a.1]) (rest := [.int r2.1]) M cm_562 (met_saved g3) rfl rfl rfl rfl dX1_best_46 ?_
      refine j_isub (pc := 49) M.1 dX1_best_49 ?_
      refine j_istore (pc := 50) M.1 [(4, .int (r2.1 - r3.1)), (0, .ref o), (1, .int x1), (2, .int a.1), (3, .int a.2.1)] dX1_best_50 rfl rfl ?_
      refine j_iload (pc := 52) M.1 dX1_best_52 0 rfl ?_
      refine j_if_gt (pc := 54) M.1 75 dX1_best_54 rfl (fun c3 => ?_) (fun c3 => ?_)
      · replace hf := o_pos c3 hf
        refine j_iload_n (pc := 75) M.1 dX1_best_75 4 rfl ?_
        refine j_istore_n (pc := 76) M.1 [(2, .int a.2.1), (4, .int (r2.1 - r3.1)), (0, .ref o), (1, .int x1), (3, .int a.2.1)] dX1_best_76 rfl rfl ?_
        refine j_iinc (pc := 77) M.1 [(3, .int (a.2.1 + 1)), (2, .int a.2.1), (4, .int (r2.1 - r3.1)), (0, .ref o), (1, .int x1)] dX1_best_77 4 rfl (congrArg _ kc_iconst_1) rfl rfl ?_
        refine j_goto (pc := 80) M.1 17 dX1_best_80 rfl ?_
        refine j_sub [3, 4, 1, 0] (show lv_pick _ _ = [(0, .ref o), (1, .int x1), (2, .int a.2.1), (3, .int (a.2.1 + 1))] from rfl) ?_
        have hy := hR _ hf
        exact hy
      · replace hf := o_neg c3 hf
        refine j_iload (pc := 57) M.1 dX1_best_57 0 rfl ?_
        refine j_if_ne (pc := 59) M.1 77 dX1_best_59 rfl (fun c4 => ?_) (fun c4 => ?_)
        · replace hf := o_neg c4 hf
          refine j_iinc (pc := 77) M.1 [(3, .int (a.2.1 + 1)), (4, .int (r2.1 - r3.1)), (0, .ref o), (1, .int x1), (2, .int a.1)] dX1_best_77 4 rfl (congrArg _ kc_iconst_1) rfl rfl ?_
          refine j_goto (pc := 80) M.1 17 dX1_best_80 rfl ?_
          refine j_sub [2, 3, 4, 0] (show lv_pick _ _ = [(0, .ref o), (1, .int x1), (2, .int a.1), (3, .int (a.2.1 + 1))] from rfl) ?_
          have hy := hR _ hf
          exact hy
        · replace hf := o_pos c4 hf
          refine j_aload_n (pc := 62) M.1 dX1_best_62 1 rfl ?_
          refine j_iload_n (pc := 63) M.1 dX1_best_63 4 rfl ?_
          obtain ⟨r4, g4, hf⟩ := o_bind hf
          refine jm_calli (pc := 64) (As := [.int a.2.1]) (rest := []) M cm_559 (met_costs g4) rfl rfl rfl rfl dX1_best_64 ?_
          refine j_aload_n (pc := 67) M.1 dX1_best_67 1 rfl ?_
          refine j_iload_n (pc := 68) M.1 dX1_best_68 3 rfl ?_
          obtain ⟨r5, g5, hf⟩ := o_bind hf
          refine jm_calli (pc := 69) (As := [.int a.1]) (rest := [.int r4.1]) M cm_559 (met_costs g5) rfl rfl rfl rfl dX1_best_69 ?_
          refine j_icmp_ge (pc := 72) M.1 77 dX1_best_72 rfl (fun c5 => ?_) (fun c5 => ?_)
          · replace hf := o_pos c5 hf
            refine j_iinc (pc := 77) M.1 [(3, .int (a.2.1 + 1)), (4, .int (r2.1 - r3.1)), (0, .ref o), (1, .int x1), (2, .int a.1)] dX1_best_77 4 rfl (congrArg _ kc_iconst_1) rfl rfl ?_
            refine j_goto (pc := 80) M.1 17 dX1_best_80 rfl ?_
            refine j_sub [2, 3, 4, 0] (show lv_pick _ _ = [(0, .ref o), (1, .int x1), (2, .int a.1), (3, .int (a.2.1 + 1))] from rfl) ?_
            have hy := hR _ hf
            exact hy
          · replace hf := o_neg c5 hf
            refine j_iload_n (pc := 75) M.1 dX1_best_75 4 rfl ?_
            refine j_istore_n (pc := 76) M.1 [(2, .int a.2.1), (4, .int (r2.1 - r3.1)), (0, .ref o), (1, .int x1), (3, .int a.2.1)] dX1_best_76 rfl rfl ?_
            refine j_iinc (pc := 77) M.1 [(3, .int (a.2.1 + 1)), (2, .int a.2.1), (4, .int (r2.1 - r3.1)), (0, .ref o), (1, .int x1)] dX1_best_77 4 rfl (congrArg _ kc_iconst_1) rfl rfl ?_
            refine j_goto (pc := 80) M.1 17 dX1_best_80 rfl ?_
            refine j_sub [3, 4, 1, 0] (show lv_pick _ _ = [(0, .ref o), (1, .int x1), (2, .int a.2.1), (3, .int (a.2.1 + 1))] from rfl) ?_
            have hy := hR _ hf
            exact hy
    · replace hf := o_neg c2 hf
      refine j_goto (pc := 36) M.1 77 dX1_best_36 rfl ?_
      refine j_iinc (pc := 77) M.1 [(3, .int (a.2.1 + 1)), (0, .ref o), (1, .int x1), (2, .int a.1)] dX1_best_77 3 rfl (congrArg _ kc_iconst_1) rfl rfl ?_
      refine j_goto (pc := 80) M.1 17 dX1_best_80 rfl ?_
      refine j_sub [1, 2, 3, 0] (show lv_pick _ _ = [(0, .ref o), (1, .int x1), (2, .int a.1), (3, .int (a.2.1 + 1))] from rfl) ?_
      have hy := hR _ hf
      exact hy
noncomputable def m_best (F : Nat) (x1 : Int32) (σ : MS) : Option (Int32 × MS) :=
  (m_in F x1 0 100000).bind (fun r1 => if r1 = 0 then (some ((-1), σ)) else (lp (m_best_B17 F x1) F (0, 1, σ)))
theorem met_best {l : Launch} {G : gG} {o F : Nat} {x1 : Int32} {σ : MS} {res : Int32 × MS} (hf : m_best F x1 σ = some res) : MetMi l G yX1_best cX1_best 5 (some .int) 2 o [.int x1] σ res := by
  refine metMi_of (by decide) rfl rfl (fun γ hγ M => ?_)
  subst hγ
  show J γ (MW G o σ) 0 0 0 [(0, .ref o), (1, .int x1)] []
  unfold m_best at hf
  refine j_iload_n (pc := 0) M.1 dX1_best_0 1 rfl ?_
  refine j_iconst (pc := 1) M.1 dX1_best_1 kc_iconst_0 ?_
  refine j_ldcw (pc := 2) M.1 q2091 dX1_best_2 ?_
  obtain ⟨r1, g1, hf⟩ := o_bind hf
  refine jm_calls (pc := 5) (As := [.int x1, .int 0, .int 100000]) (rest := []) M cs_X1_278 (met_in g1) rfl rfl rfl rfl dX1_best_5 ?_
  refine j_if_ne (pc := 8) M.1 13 dX1_best_8 rfl (fun c1 => ?_) (fun c1 => ?_)
  · replace hf := o_neg c1 hf
    refine j_iconst (pc := 13) M.1 dX1_best_13 kc_iconst_0 ?_
    refine j_istore_n (pc := 14) M.1 [(2, .int 0), (0, .ref o), (1, .int x1)] dX1_best_14 rfl rfl ?_
    refine j_iconst (pc := 15) M.1 dX1_best_15 kc_iconst_1 ?_
    refine j_istore_n (pc := 16) M.1 [(3, .int 1), (2, .int 0), (0, .ref o), (1, .int x1)] dX1_best_16 rfl rfl ?_
    refine j_sub [2, 3, 1, 0] (show lv_pick _ _ = [(0, .ref o), (1, .int x1), (2, .int 0), (3, .int 1)] from rfl) ?_
    refine lp_W (km_best_B17 M x1) F (0, 1, σ) hf
  · replace hf := o_pos c1 hf
    refine j_iconst (pc := 11) M.1 dX1_best_11 kc_iconst_m1 ?_
    exact jm_iret (pc := 12) M dX1_best_12 hf
end
