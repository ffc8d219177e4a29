set_option maxRecDepth 100000
variable {γ : jG} {G : gG} {o B F c0 s0 : Nat} {τr : XS}
theorem dX0_within_0 : decode cX0_within 0 = .ok (.iload_n 0, 1) := by decide +kernel
theorem dX0_within_1 : decode cX0_within 1 = .ok (.iload_n 1, 1) := by decide +kernel
theorem dX0_within_2 : decode cX0_within 2 = .ok (.if_icmp .lt 12, 3) := by decide +kernel
theorem dX0_within_5 : decode cX0_within 5 = .ok (.iload_n 0, 1) := by decide +kernel
theorem dX0_within_6 : decode cX0_within 6 = .ok (.iload_n 2, 1) := by decide +kernel
theorem dX0_within_7 : decode cX0_within 7 = .ok (.if_icmp .gt 7, 3) := by decide +kernel
theorem dX0_within_10 : decode cX0_within 10 = .ok (.iconst 1, 1) := by decide +kernel
theorem dX0_within_11 : decode cX0_within 11 = .ok (.goto 4, 3) := by decide +kernel
theorem dX0_within_14 : decode cX0_within 14 = .ok (.iconst 0, 1) := by decide +kernel
theorem dX0_within_15 : decode cX0_within 15 = .ok (.ireturn, 1) := by decide +kernel
section
variable {res : Int32}
noncomputable def x0_within (F : Nat) (x0 : Int32) (x1 : Int32) (x2 : Int32) : Option Int32 :=
  if x0 < x1 then (some 0) else (if x2 < x0 then (some 0) else (some 1))
theorem met_x0_within {l : Launch} {F : Nat} {x0 : Int32} {x1 : Int32} {x2 : Int32} {res : Int32} (hf : x0_within F x0 x1 x2 = some res) : MetSi l yX0_within cX0_within 3 (some .boolean) 1 [.int x0, .int x1, .int x2] res := by
  refine metSi_of (own := RX0) (by decide) rfl rfl (fun γ hγ M => ?_)
  subst hγ
  show J γ (sP γ) 0 0 0 [(0, .int x0), (1, .int x1), (2, .int x2)] []
  unfold x0_within at hf
  refine j_iload_n (pc := 0) M.1 dX0_within_0 0 rfl ?_
  refine j_iload_n (pc := 1) M.1 dX0_within_1 1 rfl ?_
  refine j_icmp_lt (pc := 2) M.1 14 dX0_within_2 rfl (fun b1 => ?_) (fun b1 => ?_)
  · replace hf := o_pos b1 hf
    refine j_iconst (pc := 14) M.1 dX0_within_14 kc_iconst_0 ?_
    exact js_zret (pc := 15) M dX0_within_15 rfl hf
  · replace hf := o_neg b1 hf
    refine j_iload_n (pc := 5) M.1 dX0_within_5 0 rfl ?_
    refine j_iload_n (pc := 6) M.1 dX0_within_6 2 rfl ?_
    refine j_icmp_gt (pc := 7) M.1 14 dX0_within_7 rfl (fun b2 => ?_) (fun b2 => ?_)
    · replace hf := o_pos b2 hf
      refine j_iconst (pc := 14) M.1 dX0_within_14 kc_iconst_0 ?_
      exact js_zret (pc := 15) M dX0_within_15 rfl hf
    · replace hf := o_neg b2 hf
      refine j_iconst (pc := 10) M.1 dX0_within_10 kc_iconst_1 ?_
      refine j_goto (pc := 11) M.1 15 dX0_within_11 rfl ?_
      exact js_zret (pc := 15) M dX0_within_15 rfl hf
end
theorem dX0_in_0 : decode cX0_in 0 = .ok (.iload_n 0, 1) := by decide +kernel
theorem dX0_in_1 : decode cX0_in 1 = .ok (.ifCond .lt 12, 3) := by decide +kernel
theorem dX0_in_4 : decode cX0_in 4 = .ok (.iload_n 0, 1) := by decide +kernel
theorem dX0_in_5 : decode cX0_in 5 = .ok (.iload_n 1, 1) := by decide +kernel
theorem dX0_in_6 : decode cX0_in 6 = .ok (.if_icmp .ge 7, 3) := by decide +kernel
theorem dX0_in_9 : decode cX0_in 9 = .ok (.iconst 1, 1) := by decide +kernel
theorem dX0_in_10 : decode cX0_in 10 = .ok (.goto 4, 3) := by decide +kernel
theorem dX0_in_13 : decode cX0_in 13 = .ok (.iconst 0, 1) := by decide +kernel
theorem dX0_in_14 : decode cX0_in 14 = .ok (.ireturn, 1) := by decide +kernel
section
variable {res : Int32}
noncomputable def x0_in (F : Nat) (x0 : Int32) (x1 : Int32) : Option Int32 :=
  if x0 < 0 then (some 0) else (if x1 ≤ x0 then (some 0) else (some 1))
theorem met_x0_in {l : Launch} {F : Nat} {x0 : Int32} {x1 : Int32} {res : Int32} (hf : x0_in F x0 x1 = some res) : MetSi l yX0_in cX0_in 2 (some .boolean) 1 [.int x0, .int x1] res := by
  refine metSi_of (own := RX0) (by decide) rfl rfl (fun γ hγ M => ?_)
  subst hγ
  show J γ (sP γ) 0 0 0 [(0, .int x0), (1, .int x1)] []
  unfold x0_in at hf
  refine j_iload_n (pc := 0) M.1 dX0_in_0 0 rfl ?_
  refine j_if_lt (pc := 1) M.1 13 dX0_in_1 rfl (fun b1 => ?_) (fun b1 => ?_)
  · replace hf := o_pos b1 hf
    refine j_iconst (pc := 13) M.1 dX0_in_13 kc_iconst_0 ?_
    exact js_zret (pc := 14) M dX0_in_14 rfl hf
  · replace hf := o_neg b1 hf
    refine j_iload_n (pc := 4) M.1 dX0_in_4 0 rfl ?_
    refine j_iload_n (pc := 5) M.1 dX0_in_5 1 rfl ?_
    refine j_icmp_ge (pc := 6) M.1 13 dX0_in_6 rfl (fun b2 => ?_) (fun b2 => ?_)
    · replace hf := o_pos b2 hf
      refine j_iconst (pc := 13) M.1 dX0_in_13 kc_iconst_0 ?_
      exact js_zret (pc := 14) M dX0_in_14 rfl hf
    · replace hf := o_neg b2 hf
      refine j_iconst (pc := 9) M.1 dX0_in_9 kc_iconst_1 ?_
      refine j_goto (pc := 10) M.1 14 dX0_in_10 rfl ?_
      exact js_zret (pc := 14) M dX0_in_14 rfl hf
end
theorem dX0_isWeek_0 : decode cX0_isWeek 0 = .ok (.iload_n 0, 1) := by decide +kernel
theorem dX0_isWeek_1 : decode cX0_isWeek 1 = .ok (.sipush 10000, 3) := by decide +kernel
theorem dX0_isWeek_4 : decode cX0_isWeek 4 = .ok (.invokestatic 137, 3) := by decide +kernel
theorem dX0_isWeek_7 : decode cX0_isWeek 7 = .ok (.ireturn, 1) := by decide +kernel
section
variable {res : Int32}
noncomputable def x0_isWeek (F : Nat) (x0 : Int32) : Option Int32 :=
  (x0_in F x0 10000).bind (fun r1 => if okB r1 = true then some r1 else none)
theorem met_x0_isWeek {l : Launch} {F : Nat} {x0 : Int32} {res : Int32} (hf : x0_isWeek F x0 = some res) : MetSi l yX0_isWeek cX0_isWeek 1 (some .boolean) 2 [.int x0] res := by
  refine metSi_of (own := RX0) (by decide) rfl rfl (fun γ hγ M => ?_)
  subst hγ
  show J γ (sP γ) 0 0 0 [(0, .int x0)] []
  unfold x0_isWeek at hf
  refine j_iload_n (pc := 0) M.1 dX0_isWeek_0 0 rfl ?_
  refine j_sipush (pc := 1) M.1 dX0_isWeek_1 kc_sipush_10000 ?_
  obtain ⟨r1, g1, hf⟩ := o_bind hf
  refine js_calls (pc := 4) (As := [.int x0, .int 10000]) (rest := []) M xcs_X0_137 (met_x0_in g1) rfl rfl rfl rfl dX0_isWeek_4 ?_
  obtain ⟨b1, hf⟩ := o_need hf
  exact js_zret (pc := 7) M dX0_isWeek_7 b1 hf
end
theorem dX0_isLayer_0 : decode cX0_isLayer 0 = .ok (.iload_n 0, 1) := by decide +kernel
theorem dX0_isLayer_1 : decode cX0_isLayer 1 = .ok (.bipush 8, 2) := by decide +kernel
theorem dX0_isLayer_3 : decode cX0_isLayer 3 = .ok (.invokestatic 137, 3) := by decide +kernel
theorem dX0_isLayer_6 : decode cX0_isLayer 6 = .ok (.ireturn, 1) := by decide +kernel
section
variable {res : Int32}
noncomputable def x0_isLayer (F : Nat) (x0 : Int32) : Option Int32 :=
  (x0_in F x0 8).bind (fun r1 => if okB r1 = true then some r1 else none)
theorem met_x0_isLayer {l : Launch} {F : Nat} {x0 : Int32} {res : Int32} (hf : x0_isLayer F x0 = some res) : MetSi l yX0_isLayer cX0_isLayer 1 (some .boolean) 2 [.int x0] res := by
  refine metSi_of (own := RX0) (by decide) rfl rfl (fun γ hγ M => ?_)
  subst hγ
  show J γ (sP γ) 0 0 0 [(0, .int x0)] []
  unfold x0_isLayer at hf
  refine j_iload_n (pc := 0) M.1 dX0_isLayer_0 0 rfl ?_
  refine j_bipush (pc := 1) M.1 dX0_isLayer_1 kc_bipush_8 ?_
  obtain ⟨r1, g1, hf⟩ := o_bind hf
  refine js_calls (pc := 3) (As := [.int x0, .int 8]) (rest := []) M xcs_X0_137 (met_x0_in g1) rfl rfl rfl rfl dX0_isLayer_3 ?_
  obtain ⟨b1, hf⟩ := o_need hf
  exact js_zret (pc := 6) M dX0_isLayer_6 b1 hf
end
theorem dX9_most_0 : decode cX9_most 0 = .ok (.iload_n 0, 1) := by decide +kernel
theorem dX9_most_1 : decode cX9_most 1 = .ok (.bipush 110, 2) := by decide +kernel
theorem dX9_most_3 : decode cX9_most 3 = .ok (.if_icmp .ne 7, 3) := by decide +kernel
theorem dX9_most_6 : decode cX9_most 6 = .ok (.iconst 3, 1) := by decide +kernel
theorem dX9_most_7 : decode cX9_most 7 = .ok (.goto 38, 3) := by decide +kernel
theorem dX9_most_10 : decode cX9_most 10 = .ok (.iload_n 0, 1) := by decide +kernel
theorem dX9_most_11 : decode cX9_most 11 = .ok (.bipush 97, 2) := by decide +kernel
theorem dX9_most_13 : decode cX9_most 13 = .ok (.if_icmp .ne 8, 3) := by decide +kernel
theorem dX9_most_16 : decode cX9_most 16 = .ok (.bipush 8, 2) := by decide +kernel
theorem dX9_most_18 : decode cX9_most 18 = .ok (.goto 27, 3) := by decide +kernel
theorem dX9_most_21 : decode cX9_most 21 = .ok (.iload_n 0, 1) := by decide +kernel
theorem dX9_most_22 : decode cX9_most 22 = .ok (.bipush 118, 2) := by decide +kernel
theorem dX9_most_24 : decode cX9_most 24 = .ok (.if_icmp .ne 8, 3) := by decide +kernel
theorem dX9_most_27 : decode cX9_most 27 = .ok (.bipush 99, 2) := by decide +kernel
theorem dX9_most_29 : decode cX9_most 29 = .ok (.goto 16, 3) := by decide +kernel
theorem dX9_most_32 : decode cX9_most 32 = .ok (.iload_n 0, 1) := by decide +kernel
theorem dX9_most_33 : decode cX9_most 33 = .ok (.bipush 102, 2) := by decide +kernel
theorem dX9_most_35 : decode cX9_most 35 = .ok (.if_icmp .ne 8, 3) := by decide +kernel
theorem dX9_most_38 : decode cX9_most 38 = .ok (.bipush 7, 2) := by decide +kernel
theorem dX9_most_40 : decode cX9_most 40 = .ok (.goto 5, 3) := by decide +kernel
theorem dX9_most_43 : decode cX9_most 43 = .ok (.bipush 19, 2) := by decide +kernel
theorem dX9_most_45 : decode cX9_most 45 = .ok (.ireturn, 1) := by decide +kernel
section
variable {res : Int32}
noncomputable def x9_most (F : Nat) (x0 : Int32) : Option Int32 :=
  if x0 = 110 then (some 3) else (if x0 = 97 then (some 8) else (if x0 = 118 then (some 99) else (if x0 = 102 then (some 7) else (some 19))))
theorem met_x9_most {l : Launch} {F : Nat} {x0 : Int32} {res : Int32} (hf : x9_most F x0 = some res) : MetSi l yX9_most cX9_most 1 (some .int) 1 [.int x0] res := by
  refine metSi_of (own := RX9) (by decide) rfl rfl (fun γ hγ M => ?_)
  subst hγ
  show J γ (sP γ) 0 0 0 [(0, .int x0)] []
  unfold x9_most at hf
  refine j_iload_n (pc := 0) M.1 dX9_most_0 0 rfl ?_
  refine j_bipush (pc := 1) M.1 dX9_most_1 kc_bipush_110 ?_
  refine j_icmp_ne (pc := 3) M.1 10 dX9_most_3 rfl (fun b1 => ?_) (fun b1 => ?_)
  · replace hf := o_neg b1 hf
    refine j_iload_n (pc := 10) M.1 dX9_most_10 0 rfl ?_
    refine j_bipush (pc := 11) M.1 dX9_most_11 kc_bipush_97 ?_
    refine j_icmp_ne (pc := 13) M.1 21 dX9_most_13 rfl (fun b2 => ?_) (fun b2 => ?_)
    · replace hf := o_neg b2 hf
      refine j_iload_n (pc := 21) M.1 dX9_most_21 0 rfl ?_
      refine j_bipush (pc := 22) M.1 dX9_most_22 kc_bipush_118 ?_
      refine j_icmp_ne (pc := 24) M.1 32 dX9_most_24 rfl (fun b3 => ?_) (fun b3 => ?_)
      · replace hf := o_neg b3 hf
        refine j_iload_n (pc := 32) M.1 dX9_most_32 0 rfl ?_
        refine j_bipush (pc := 33) M.1 dX9_most_33 kc_bipush_102 ?_
        refine j_icmp_ne (pc := 35) M.1 43 dX9_most_35 rfl (fun b4 => ?_) (fun b4 => ?_)
        · replace hf := o_neg b4 hf
          refine j_bipush (pc := 43) M.1 dX9_most_43 kc_bipush_19 ?_
          exact js_iret (pc := 45) M dX9_most_45 hf
        · replace hf := o_pos b4 hf
          refine j_bipush (pc := 38) M.1 dX9_most_38 kc_bipush_7 ?_
          refine j_goto (pc := 40) M.1 45 dX9_most_40 rfl ?_
          exact js_iret (pc := 45) M dX9_most_45 hf
      · replace hf := o_pos b3 hf
        refine j_bipush (pc := 27) M.1 dX9_most_27 kc_bipush_99 ?_
        refine j_goto (pc := 29) M.1 45 dX9_most_29 rfl ?_
        exact js_iret (pc := 45) M dX9_most_45 hf
    · replace hf := o_pos b2 hf
      refine j_bipush (pc := 16) M.1 dX9_most_16 kc_bipush_8 ?_
      refine j_goto (pc := 18) M.1 45 dX9_most_18 rfl ?_
      exact js_iret (pc := 45) M dX9_most_45 hf
  · replace hf := o_pos b1 hf
    refine j_iconst (pc := 6) M.1 dX9_most_6 kc_iconst_3 ?_
    refine j_goto (pc := 7) M.1 45 dX9_most_7 rfl ?_
    exact js_iret (pc := 45) M dX9_most_45 hf
end
theorem dJ6_bitCount_0 : decode cJ6_bitCount 0 = .ok (.iload_n 0, 1) := by decide +kernel
theorem dJ6_bitCount_1 : decode cJ6_bitCount 1 = .ok (.iload_n 0, 1) := by decide +kernel
theorem dJ6_bitCount_2 : decode cJ6_bitCount 2 = .ok (.iconst 1, 1) := by decide +kernel
theorem dJ6_bitCount_3 : decode cJ6_bitCount 3 = .ok (.iushr, 1) := by decide +kernel
theorem dJ6_bitCount_4 : decode cJ6_bitCount 4 = .ok (.ldc_w 265, 3) := by decide +kernel
theorem dJ6_bitCount_7 : decode cJ6_bitCount 7 = .ok (.iand, 1) := by decide +kernel
theorem dJ6_bitCount_8 : decode cJ6_bitCount 8 = .ok (.isub, 1) := by decide +kernel
theorem dJ6_bitCount_9 : decode cJ6_bitCount 9 = .ok (.istore_n 0, 1) := by decide +kernel
theorem dJ6_bitCount_10 : decode cJ6_bitCount 10 = .ok (.iload_n 0, 1) := by decide +kernel
theorem dJ6_bitCount_11 : decode cJ6_bitCount 11 = .ok (.ldc_w 266, 3) := by decide +kernel
theorem dJ6_bitCount_14 : decode cJ6_bitCount 14 = .ok (.iand, 1) := by decide +kernel
theorem dJ6_bitCount_15 : decode cJ6_bitCount 15 = .ok (.iload_n 0, 1) := by decide +kernel
theorem dJ6_bitCount_16 : decode cJ6_bitCount 16 = .ok (.iconst 2, 1) := by decide +kernel
theorem dJ6_bitCount_17 : decode cJ6_bitCount 17 = .ok (.iushr, 1) := by decide +kernel
theorem dJ6_bitCount_18 : decode cJ6_bitCount 18 = .ok (.ldc_w 266, 3) := by decide +kernel
theorem dJ6_bitCount_21 : decode cJ6_bitCount 21 = .ok (.iand, 1) := by decide +kernel
theorem dJ6_bitCount_22 : decode cJ6_bitCount 22 = .ok (.iadd, 1) := by decide +kernel
theorem dJ6_bitCount_23 : decode cJ6_bitCount 23 = .ok (.istore_n 0, 1) := by decide +kernel
theorem dJ6_bitCount_24 : decode cJ6_bitCount 24 = .ok (.iload_n 0, 1) := by decide +kernel
theorem dJ6_bitCount_25 : decode cJ6_bitCount 25 = .ok (.iload_n 0, 1) := by decide +kernel
theorem dJ6_bitCount_26 : decode cJ6_bitCount 26 = .ok (.iconst 4, 1) := by decide +kernel
theorem dJ6_bitCount_27 : decode cJ6_bitCount 27 = .ok (.iushr, 1) := by decide +kernel
theorem dJ6_bitCount_28 : decode cJ6_bitCount 28 = .ok (.iadd, 1) := by decide +kernel
theorem dJ6_bitCount_29 : decode cJ6_bitCount 29 = .ok (.ldc_w 267, 3) := by decide +kernel
theorem dJ6_bitCount_32 : decode cJ6_bitCount 32 = .ok (.iand, 1) := by decide +kernel
theorem dJ6_bitCount_33 : decode cJ6_bitCount 33 = .ok (.istore_n 0, 1) := by decide +kernel
theorem dJ6_bitCount_34 : decode cJ6_bitCount 34 = .ok (.iload_n 0, 1) := by decide +kernel
theorem dJ6_bitCount_35 : decode cJ6_bitCount 35 = .ok (.iload_n 0, 1) := by decide +kernel
theorem dJ6_bitCount_36 : decode cJ6_bitCount 36 = .ok (.bipush 8, 2) := by decide +kernel
theorem dJ6_bitCount_38 : decode cJ6_bitCount 38 = .ok (.iushr, 1) := by decide +kernel
theorem dJ6_bitCount_39 : decode cJ6_bitCount 39 = .ok (.iadd, 1) := by decide +kernel
theorem dJ6_bitCount_40 : decode cJ6_bitCount 40 = .ok (.istore_n 0, 1) := by decide +kernel
theorem dJ6_bitCount_41 : decode cJ6_bitCount 41 = .ok (.iload_n 0, 1) := by decide +kernel
theorem dJ6_bitCount_42 : decode cJ6_bitCount 42 = .ok (.iload_n 0, 1) := by decide +kernel
theorem dJ6_bitCount_43 : decode cJ6_bitCount 43 = .ok (.bipush 16, 2) := by decide +kernel
theorem dJ6_bitCount_45 : decode cJ6_bitCount 45 = .ok (.iushr, 1) := by decide +kernel
theorem dJ6_bitCount_46 : decode cJ6_bitCount 46 = .ok (.iadd, 1) := by decide +kernel
theorem dJ6_bitCount_47 : decode cJ6_bitCount 47 = .ok (.istore_n 0, 1) := by decide +kernel
theorem dJ6_bitCount_48 : decode cJ6_bitCount 48 = .ok (.iload_n 0, 1) := by decide +kernel
theorem dJ6_bitCount_49 : decode cJ6_bitCount 49 = .ok (.bipush 63, 2) := by decide +kernel
theorem dJ6_bitCount_51 : decode cJ6_bitCount 51 = .ok (.iand, 1) := by decide +kernel
theorem dJ6_bitCount_52 : decode cJ6_bitCount 52 = .ok (.ireturn, 1) := by decide +kernel
section
variable {res : Int32}
noncomputable def j6_bitCount (F : Nat) (x0 : Int32) : Option Int32 :=
  nx (x0 - (((x0.toUInt32 >>> ((1 : Int32).toUInt32 &&& Int32.toUInt32 31)).toInt32) &&& 1431655765) : Int32) (fun y1 => nx ((y1 &&& 858993459) + (((y1.toUInt32 >>> ((2 : Int32).toUInt32 &&& Int32.toUInt32 31)).toInt32) &&& 858993459) : Int32) (fun y2 => nx ((y2 + ((y2.toUInt32 >>> ((4 : Int32).toUInt32 &&& Int32.toUInt32 31)).toInt32)) &&& 252645135 : Int32) (fun y3 => nx (y3 + ((y3.toUInt32 >>> ((8 : Int32).toUInt32 &&& Int32.toUInt32 31)).toInt32) : Int32) (fun y4 => nx (y4 + ((y4.toUInt32 >>> ((16 : Int32).toUInt32 &&& Int32.toUInt32 31)).toInt32) : Int32) (fun y5 => some (y5 &&& 63))))))
theorem met_j6_bitCount {l : Launch} {F : Nat} {x0 : Int32} {res : Int32} (hf : j6_bitCount F x0 = some res) : MetSi l yJ6_bitCount cJ6_bitCount 1 (some .int) 1 [.int x0] res := by
  refine metSi_of (own := RJ6) (by decide) rfl rfl (fun γ hγ M => ?_)
  subst hγ
  show J γ (sP γ) 0 0 0 [(0, .int x0)] []
  unfold j6_bitCount at hf
  refine j_iload_n (pc := 0) M.1 dJ6_bitCount_0 0 rfl ?_
  refine j_iload_n (pc := 1) M.1 dJ6_bitCount_1 0 rfl ?_
  refine j_iconst (pc := 2) M.1 dJ6_bitCount_2 kc_iconst_1 ?_
  refine j_iushr (pc := 3) M.1 dJ6_bitCount_3 ?_
  refine j_ldcw (pc := 4) M.1 q1052 dJ6_bitCount_4 ?_
  refine j_iand (pc := 7) M.1 dJ6_bitCount_7 ?_
  refine j_isub (pc := 8) M.1 dJ6_bitCount_8 ?_
  obtain ⟨y1, e1, hf⟩ := o_nx hf
  refine j_top e1 ?_
  refine j_istore_n (pc := 9) M.1 [(0, .int y1)] dJ6_bitCount_9 rfl rfl ?_
  refine j_iload_n (pc := 10) M.1 dJ6_bitCount_10 0 rfl ?_
  refine j_ldcw (pc := 11) M.1 q1053 dJ6_bitCount_11 ?_
  refine j_iand (pc := 14) M.1 dJ6_bitCount_14 ?_
  refine j_iload_n (pc := 15) M.1 dJ6_bitCount_15 0 rfl ?_
  refine j_iconst (pc := 16) M.1 dJ6_bitCount_16 kc_iconst_2 ?_
  refine j_iushr (pc := 17) M.1 dJ6_bitCount_17 ?_
  refine j_ldcw (pc := 18) M.1 q1053 dJ6_bitCount_18 ?_
  refine j_iand (pc := 21) M.1 dJ6_bitCount_21 ?_
  refine j_iadd (pc := 22) M.1 dJ6_bitCount_22 ?_
  obtain ⟨y2, e2, hf⟩ := o_nx hf
  refine j_top e2 ?_
  refine j_istore_n (pc := 23) M.1 [(0, .int y2)] dJ6_bitCount_23 rfl rfl ?_
  refine j_iload_n (pc := 24) M.1 dJ6_bitCount_24 0 rfl ?_
  refine j_iload_n (pc := 25) M.1 dJ6_bitCount_25 0 rfl ?_
  refine j_iconst (pc := 26) M.1 dJ6_bitCount_26 kc_iconst_4 ?_
  refine j_iushr (pc := 27) M.1 dJ6_bitCount_27 ?_
  refine j_iadd (pc := 28) M.1 dJ6_bitCount_28 ?_
  refine j_ldcw (pc := 29) M.1 q1054 dJ6_bitCount_29 ?_
  refine j_iand (pc := 32) M.1 dJ6_bitCount_32 ?_
  obtain ⟨y3, e3, hf⟩ := o_nx hf
  refine j_top e3 ?_
  refine j_istore_n (pc := 33) M.1 [(0, .int y3)] dJ6_bitCount_33 rfl rfl ?_
  refine j_iload_n (pc := 34) M.1 dJ6_bitCount_34 0 rfl ?_
  refine j_iload_n (pc := 35) M.1 dJ6_bitCount_35 0 rfl ?_
  refine j_bipush (pc := 36) M.1 dJ6_bitCount_36 kc_bipush_8 ?_
  refine j_iushr (pc := 38) M.1 dJ6_bitCount_38 ?_
  refine j_iadd (pc := 39) M.1 dJ6_bitCount_39 ?_
  obtain ⟨y4, e4, hf⟩ := o_nx hf
  refine j_top e4 ?_
  refine j_istore_n (pc := 40) M.1 [(0, .int y4)] dJ6_bitCount_40 rfl rfl ?_
  refine j_iload_n (pc := 41) M.1 dJ6_bitCount_41 0 rfl ?_
  refine j_iload_n (pc := 42) M.1 dJ6_bitCount_42 0 rfl ?_
  refine j_bipush (pc := 43) M.1 dJ6_bitCount_43 kc_bipush_16 ?_
  refine j_iushr (pc := 45) M.1 dJ6_bitCount_45 ?_
  refine j_iadd (pc := 46) M.1 dJ6_bitCount_46 ?_
  obtain ⟨y5, e5, hf⟩ := o_nx hf
  refine j_top e5 ?_
  refine j_istore_n (pc := 47) M.1 [(0, .int y5)] dJ6_bitCount_47 rfl rfl ?_
  refine j_iload_n (pc := 48) M.1 dJ6_bitCount_48 0 rfl ?_
  refine j_bipush (pc := 49) M.1 dJ6_bitCount_49 kc_bipush_63 ?_
  refine j_iand (pc := 51) M.1 dJ6_bitCount_51 ?_
  exact js_iret (pc := 52) M dJ6_bitCount_52 hf
end
theorem dX0_sizeOf_0 : decode cX0_sizeOf 0 = .ok (.iload_n 0, 1) := by decide +kernel
theorem dX0_sizeOf_1 : decode cX0_sizeOf 1 = .ok (.invokestatic 1, 3) := by decide +kernel
theorem dX0_sizeOf_4 : decode cX0_sizeOf 4 = .ok (.ireturn, 1) := by decide +kernel
section
variable {res : Int32}
noncomputable def x0_sizeOf (F : Nat) (x0 : Int32) : Option Int32 :=
  (j6_bitCount F x0).bind (fun r1 => some r1)
theorem met_x0_sizeOf {l : Launch} {F : Nat} {x0 : Int32} {res : Int32} (hf : x0_sizeOf F x0 = some res) : MetSi l yX0_sizeOf cX0_sizeOf 1 (some .int) 2 [.int x0] res := by
  refine metSi_of (own := RX0) (by decide) rfl rfl (fun γ hγ M => ?_)
  subst hγ
  show J γ (sP γ) 0 0 0 [(0, .int x0)] []
  unfold x0_sizeOf at hf
  refine j_iload_n (pc := 0) M.1 dX0_sizeOf_0 0 rfl ?_
  obtain ⟨r1, g1, hf⟩ := o_bind hf
  refine js_calls (pc := 1) (As := [.int x0]) (rest := []) M xcs_X0_1 (met_j6_bitCount g1) rfl rfl rfl rfl dX0_sizeOf_1 ?_
  exact js_iret (pc := 4) M dX0_sizeOf_4 hf
end
theorem dJ1_canEncode_0 : decode cJ1_canEncode 0 = .ok (.iload_n 0, 1) := by decide +kernel
theorem dJ1_canEncode_1 : decode cJ1_canEncode 1 = .ok (.ifCond .lt 14, 3) := by decide +kernel
theorem dJ1_canEncode_4 : decode cJ1_canEncode 4 = .ok (.iload_n 0, 1) := by decide +kernel
theorem dJ1_canEncode_5 : decode cJ1_canEncode 5 = .ok (.sipush 255, 3) := by decide +kernel
theorem dJ1_canEncode_8 : decode cJ1_canEncode 8 = .ok (.if_icmp .gt 7, 3) := by decide +kernel
theorem dJ1_canEncode_11 : decode cJ1_canEncode 11 = .ok (.iconst 1, 1) := by decide +kernel
theorem dJ1_canEncode_12 : decode cJ1_canEncode 12 = .ok (.goto 4, 3) := by decide +kernel
theorem dJ1_canEncode_15 : decode cJ1_canEncode 15 = .ok (.iconst 0, 1) := by decide +kernel
theorem dJ1_canEncode_16 : decode cJ1_canEncode 16 = .ok (.ireturn, 1) := by decide +kernel
section
variable {res : Int32}
noncomputable def j1_canEncode (F : Nat) (x0 : Int32) : Option Int32 :=
  if x0 < 0 then (some 0) else (if 255 < x0 then (some 0) else (some 1))
theorem met_j1_canEncode {l : Launch} {F : Nat} {x0 : Int32} {res : Int32} (hf : j1_canEncode F x0 = some res) : MetSi l yJ1_canEncode cJ1_canEncode 1 (some .boolean) 1 [.int x0] res := by
  refine metSi_of (own := RJ1) (by decide) rfl rfl (fun γ hγ M => ?_)
  subst hγ
  show J γ (sP γ) 0 0 0 [(0, .int x0)] []
  unfold j1_canEncode at hf
  refine j_iload_n (pc := 0) M.1 dJ1_canEncode_0 0 rfl ?_
  refine j_if_lt (pc := 1) M.1 15 dJ1_canEncode_1 rfl (fun b1 => ?_) (fun b1 => ?_)
  · replace hf := o_pos b1 hf
    refine j_iconst (pc := 15) M.1 dJ1_canEncode_15 kc_iconst_0 ?_
    exact js_zret (pc := 16) M dJ1_canEncode_16 rfl hf
  · replace hf := o_neg b1 hf
    refine j_iload_n (pc := 4) M.1 dJ1_canEncode_4 0 rfl ?_
    refine j_sipush (pc := 5) M.1 dJ1_canEncode_5 kc_sipush_255 ?_
    refine j_icmp_gt (pc := 8) M.1 15 dJ1_canEncode_8 rfl (fun b2 => ?_) (fun b2 => ?_)
    · replace hf := o_pos b2 hf
      refine j_iconst (pc := 15) M.1 dJ1_canEncode_15 kc_iconst_0 ?_
      exact js_zret (pc := 16) M dJ1_canEncode_16 rfl hf
    · replace hf := o_neg b2 hf
      refine j_iconst (pc := 11) M.1 dJ1_canEncode_11 kc_iconst_1 ?_
      refine j_goto (pc := 12) M.1 16 dJ1_canEncode_12 rfl ?_
      exact js_zret (pc := 16) M dJ1_canEncode_16 rfl hf
end
