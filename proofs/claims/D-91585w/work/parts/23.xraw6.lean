set_option maxRecDepth 100000
variable {γ : jG} {G : gG} {o B F c0 s0 : Nat} {τr : XS}
theorem dX0_numberAt_0 : decode cX0_numberAt 0 = .ok (.iconst 0, 1) := by decide +kernel
theorem dX0_numberAt_1 : decode cX0_numberAt 1 = .ok (.istore_n 2, 1) := by decide +kernel
theorem dX0_numberAt_2 : decode cX0_numberAt 2 = .ok (.iconst 0, 1) := by decide +kernel
theorem dX0_numberAt_3 : decode cX0_numberAt 3 = .ok (.istore_n 3, 1) := by decide +kernel
theorem dX0_numberAt_4 : decode cX0_numberAt 4 = .ok (.iload_n 3, 1) := by decide +kernel
theorem dX0_numberAt_5 : decode cX0_numberAt 5 = .ok (.iconst 4, 1) := by decide +kernel
theorem dX0_numberAt_6 : decode cX0_numberAt 6 = .ok (.if_icmp .ge 29, 3) := by decide +kernel
theorem dX0_numberAt_9 : decode cX0_numberAt 9 = .ok (.iload_n 2, 1) := by decide +kernel
theorem dX0_numberAt_10 : decode cX0_numberAt 10 = .ok (.bipush 8, 2) := by decide +kernel
theorem dX0_numberAt_12 : decode cX0_numberAt 12 = .ok (.ishl, 1) := by decide +kernel
theorem dX0_numberAt_13 : decode cX0_numberAt 13 = .ok (.aload_n 0, 1) := by decide +kernel
theorem dX0_numberAt_14 : decode cX0_numberAt 14 = .ok (.getfield 41, 3) := by decide +kernel
theorem dX0_numberAt_17 : decode cX0_numberAt 17 = .ok (.iconst 4, 1) := by decide +kernel
theorem dX0_numberAt_18 : decode cX0_numberAt 18 = .ok (.iload_n 1, 1) := by decide +kernel
theorem dX0_numberAt_19 : decode cX0_numberAt 19 = .ok (.imul, 1) := by decide +kernel
theorem dX0_numberAt_20 : decode cX0_numberAt 20 = .ok (.iload_n 3, 1) := by decide +kernel
theorem dX0_numberAt_21 : decode cX0_numberAt 21 = .ok (.iadd, 1) := by decide +kernel
theorem dX0_numberAt_22 : decode cX0_numberAt 22 = .ok (.baload, 1) := by decide +kernel
theorem dX0_numberAt_23 : decode cX0_numberAt 23 = .ok (.sipush 255, 3) := by decide +kernel
theorem dX0_numberAt_26 : decode cX0_numberAt 26 = .ok (.iand, 1) := by decide +kernel
theorem dX0_numberAt_27 : decode cX0_numberAt 27 = .ok (.ior, 1) := by decide +kernel
theorem dX0_numberAt_28 : decode cX0_numberAt 28 = .ok (.istore_n 2, 1) := by decide +kernel
theorem dX0_numberAt_29 : decode cX0_numberAt 29 = .ok (.iinc 3 1, 3) := by decide +kernel
theorem dX0_numberAt_32 : decode cX0_numberAt 32 = .ok (.goto (-28), 3) := by decide +kernel
theorem dX0_numberAt_35 : decode cX0_numberAt 35 = .ok (.iload_n 2, 1) := by decide +kernel
theorem dX0_numberAt_36 : decode cX0_numberAt 36 = .ok (.ireturn, 1) := by decide +kernel
section
variable {v : Int32}
noncomputable def x0_numberAt_B4 (F : Nat) (x1 : Int32) (R : Int32 × Int32 × XS → XR Int32) (a : Int32 × Int32 × XS) : XR Int32 :=
  if 4 ≤ a.2.1 then (some (a.1, a.2.2, 0, 0)) else (if okI ((4 * x1) + a.2.1) 400 = true then nx ((a.1 <<< (8 &&& 31)) ||| ((a.2.2.1.2 4 ((4 * x1) + a.2.1).toNatClampNeg) &&& 255) : Int32) (fun y1 => R (y1, a.2.1 + 1, a.2.2)) else none)
theorem kx0_numberAt_B4 (M : XC γ cX0_numberAt 4 RX0 "numberAt" G o B 1 (some .int) (xQi G o B v τr) c0 s0) (x1 : Int32) : ∀ R : Int32 × Int32 × XS → XR Int32, (∀ a c s, R a = some (v, τr, c, s) → ∀ k n, k + c ≤ c0 ∧ n + s ≤ s0 → J γ (XW G o B a.2.2) k n 4 [(0, .ref o), (1, .int x1), (2, .int a.1), (3, .int a.2.1)] []) → ∀ a c s, x0_numberAt_B4 F x1 R a = some (v, τr, c, s) → ∀ k n, k + c ≤ c0 ∧ n + s ≤ s0 → J γ (XW G o B a.2.2) k n 4 [(0, .ref o), (1, .int x1), (2, .int a.1), (3, .int a.2.1)] [] := by
  intro R hR a c s hf k n hkn
  unfold x0_numberAt_B4 at hf
  refine j_iload_n (pc := 4) M.1 dX0_numberAt_4 3 rfl ?_
  refine j_iconst (pc := 5) M.1 dX0_numberAt_5 kc_iconst_4 ?_
  refine j_icmp_ge (pc := 6) M.1 35 dX0_numberAt_6 rfl (fun b1 => ?_) (fun b1 => ?_)
  · replace hf := o_pos b1 hf
    refine j_iload_n (pc := 35) M.1 dX0_numberAt_35 2 rfl ?_
    exact jx_iretF (pc := 36) M dX0_numberAt_36 hf hkn
  · replace hf := o_neg b1 hf
    refine j_iload_n (pc := 9) M.1 dX0_numberAt_9 2 rfl ?_
    refine j_bipush (pc := 10) M.1 dX0_numberAt_10 kc_bipush_8 ?_
    refine j_ishl (pc := 12) M.1 dX0_numberAt_12 ?_
    refine j_aload_n (pc := 13) M.1 dX0_numberAt_13 0 rfl ?_
    refine jx_getA (pc := 14) M xfa_41 dX0_numberAt_14 ?_
    refine j_iconst (pc := 17) M.1 dX0_numberAt_17 kc_iconst_4 ?_
    refine j_iload_n (pc := 18) M.1 dX0_numberAt_18 1 rfl ?_
    refine j_imul (pc := 19) M.1 dX0_numberAt_19 ?_
    refine j_iload_n (pc := 20) M.1 dX0_numberAt_20 3 rfl ?_
    refine j_iadd (pc := 21) M.1 dX0_numberAt_21 ?_
    obtain ⟨b2, hf⟩ := o_need hf
    refine jx_bald (pc := 22) M xax_4 b2 dX0_numberAt_22 ?_
    refine j_sipush (pc := 23) M.1 dX0_numberAt_23 kc_sipush_255 ?_
    refine j_iand (pc := 26) M.1 dX0_numberAt_26 ?_
    refine j_ior (pc := 27) M.1 dX0_numberAt_27 ?_
    obtain ⟨y1, e1, hf⟩ := o_nx hf
    refine j_top e1 ?_
    refine j_istore_n (pc := 28) M.1 [(2, .int y1), (0, .ref o), (1, .int x1), (3, .int a.2.1)] dX0_numberAt_28 rfl rfl ?_
    refine j_iinc (pc := 29) M.1 [(3, .int (a.2.1 + 1)), (2, .int y1), (0, .ref o), (1, .int x1)] dX0_numberAt_29 3 rfl (congrArg _ kc_iconst_1) rfl rfl ?_
    refine j_goto (pc := 32) M.1 4 dX0_numberAt_32 rfl ?_
    refine j_sub [2, 3, 1, 0] (show lv_pick _ _ = [(0, .ref o), (1, .int x1), (2, .int y1), (3, .int (a.2.1 + 1))] from rfl) ?_
    have hy := hR _ _ _ hf _ _ hkn
    exact hy
noncomputable def x0_numberAt (F : Nat) (x1 : Int32) (τ : XS) : XR Int32 :=
  lp (x0_numberAt_B4 F x1) F (0, 0, τ)
theorem met_x0_numberAt {l : Launch} {G : gG} {o B F : Nat} {x1 : Int32} {τ : XS} {r : Int32 × XS × Nat × Nat} (hf : x0_numberAt F x1 τ = some r) : MetX l G o B yX0_numberAt cX0_numberAt 4 (some .int) 1 [.ref o, .int x1] τ (xQi G o B r.1 r.2.1) r.2.2.1 r.2.2.2 := by
  obtain ⟨v, τr, c, s⟩ := r
  refine metX_of (own := RX0) (mn := "numberAt") (by decide) rfl rfl rfl (fun γ hγ M => ?_)
  subst hγ
  show J γ (XW G o B τ) 0 0 0 [(0, .ref o), (1, .int x1)] []
  have hkn : 0 + c ≤ c ∧ 0 + s ≤ s := ⟨by omega, by omega⟩
  unfold x0_numberAt at hf
  refine j_iconst (pc := 0) M.1 dX0_numberAt_0 kc_iconst_0 ?_
  refine j_istore_n (pc := 1) M.1 [(2, .int 0), (0, .ref o), (1, .int x1)] dX0_numberAt_1 rfl rfl ?_
  refine j_iconst (pc := 2) M.1 dX0_numberAt_2 kc_iconst_0 ?_
  refine j_istore_n (pc := 3) M.1 [(3, .int 0), (2, .int 0), (0, .ref o), (1, .int x1)] dX0_numberAt_3 rfl rfl ?_
  refine j_sub [2, 3, 1, 0] (show lv_pick _ _ = [(0, .ref o), (1, .int x1), (2, .int 0), (3, .int 0)] from rfl) ?_
  refine lp_Wc (kx0_numberAt_B4 M x1) F (0, 0, τ) _ _ hf _ _ hkn
end
theorem dX0_check_0 : decode cX0_check 0 = .ok (.iload_n 1, 1) := by decide +kernel
theorem dX0_check_1 : decode cX0_check 1 = .ok (.ifCond .lt 14, 3) := by decide +kernel
theorem dX0_check_4 : decode cX0_check 4 = .ok (.iload_n 1, 1) := by decide +kernel
theorem dX0_check_5 : decode cX0_check 5 = .ok (.aload_n 0, 1) := by decide +kernel
theorem dX0_check_6 : decode cX0_check 6 = .ok (.getfield 264, 3) := by decide +kernel
theorem dX0_check_9 : decode cX0_check 9 = .ok (.bipush 12, 2) := by decide +kernel
theorem dX0_check_11 : decode cX0_check 11 = .ok (.idiv, 1) := by decide +kernel
theorem dX0_check_12 : decode cX0_check 12 = .ok (.if_icmp .le 6, 3) := by decide +kernel
theorem dX0_check_15 : decode cX0_check 15 = .ok (.bipush (-2), 2) := by decide +kernel
theorem dX0_check_17 : decode cX0_check 17 = .ok (.ireturn, 1) := by decide +kernel
theorem dX0_check_18 : decode cX0_check 18 = .ok (.aload_n 0, 1) := by decide +kernel
theorem dX0_check_19 : decode cX0_check 19 = .ok (.iconst 0, 1) := by decide +kernel
theorem dX0_check_20 : decode cX0_check 20 = .ok (.putfield 264, 3) := by decide +kernel
theorem dX0_check_23 : decode cX0_check 23 = .ok (.iconst 0, 1) := by decide +kernel
theorem dX0_check_24 : decode cX0_check 24 = .ok (.istore_n 2, 1) := by decide +kernel
theorem dX0_check_25 : decode cX0_check 25 = .ok (.iconst 0, 1) := by decide +kernel
theorem dX0_check_26 : decode cX0_check 26 = .ok (.istore_n 3, 1) := by decide +kernel
theorem dX0_check_27 : decode cX0_check 27 = .ok (.iload_n 3, 1) := by decide +kernel
theorem dX0_check_28 : decode cX0_check 28 = .ok (.aload_n 0, 1) := by decide +kernel
theorem dX0_check_29 : decode cX0_check 29 = .ok (.getfield 13, 3) := by decide +kernel
theorem dX0_check_32 : decode cX0_check 32 = .ok (.aload_n 0, 1) := by decide +kernel
theorem dX0_check_33 : decode cX0_check 33 = .ok (.getfield 19, 3) := by decide +kernel
theorem dX0_check_36 : decode cX0_check 36 = .ok (.imul, 1) := by decide +kernel
theorem dX0_check_37 : decode cX0_check 37 = .ok (.if_icmp .ge 117, 3) := by decide +kernel
theorem dX0_check_40 : decode cX0_check 40 = .ok (.iconst 0, 1) := by decide +kernel
theorem dX0_check_41 : decode cX0_check 41 = .ok (.istore 4, 2) := by decide +kernel
theorem dX0_check_43 : decode cX0_check 43 = .ok (.iload 4, 2) := by decide +kernel
theorem dX0_check_45 : decode cX0_check 45 = .ok (.bipush 8, 2) := by decide +kernel
theorem dX0_check_47 : decode cX0_check 47 = .ok (.if_icmp .ge 101, 3) := by decide +kernel
theorem dX0_check_50 : decode cX0_check 50 = .ok (.aload_n 0, 1) := by decide +kernel
theorem dX0_check_51 : decode cX0_check 51 = .ok (.iload_n 3, 1) := by decide +kernel
theorem dX0_check_52 : decode cX0_check 52 = .ok (.iload 4, 2) := by decide +kernel
theorem dX0_check_54 : decode cX0_check 54 = .ok (.aload_n 0, 1) := by decide +kernel
theorem dX0_check_55 : decode cX0_check 55 = .ok (.getfield 158, 3) := by decide +kernel
theorem dX0_check_58 : decode cX0_check 58 = .ok (.aload_n 0, 1) := by decide +kernel
theorem dX0_check_59 : decode cX0_check 59 = .ok (.getfield 158, 3) := by decide +kernel
theorem dX0_check_62 : decode cX0_check 62 = .ok (.invokevirtual 233, 3) := by decide +kernel
theorem dX0_check_65 : decode cX0_check 65 = .ok (.istore 5, 2) := by decide +kernel
theorem dX0_check_67 : decode cX0_check 67 = .ok (.iload 5, 2) := by decide +kernel
theorem dX0_check_69 : decode cX0_check 69 = .ok (.ifCond .ne 6, 3) := by decide +kernel
theorem dX0_check_72 : decode cX0_check 72 = .ok (.goto 70, 3) := by decide +kernel
theorem dX0_check_75 : decode cX0_check 75 = .ok (.iload_n 2, 1) := by decide +kernel
theorem dX0_check_76 : decode cX0_check 76 = .ok (.iload_n 1, 1) := by decide +kernel
theorem dX0_check_77 : decode cX0_check 77 = .ok (.if_icmp .ne 7, 3) := by decide +kernel
theorem dX0_check_80 : decode cX0_check 80 = .ok (.iconst 3, 1) := by decide +kernel
theorem dX0_check_81 : decode cX0_check 81 = .ok (.iload_n 1, 1) := by decide +kernel
theorem dX0_check_82 : decode cX0_check 82 = .ok (.imul, 1) := by decide +kernel
theorem dX0_check_83 : decode cX0_check 83 = .ok (.ireturn, 1) := by decide +kernel
theorem dX0_check_84 : decode cX0_check 84 = .ok (.aload_n 0, 1) := by decide +kernel
theorem dX0_check_85 : decode cX0_check 85 = .ok (.iconst 3, 1) := by decide +kernel
theorem dX0_check_86 : decode cX0_check 86 = .ok (.iload_n 2, 1) := by decide +kernel
theorem dX0_check_87 : decode cX0_check 87 = .ok (.imul, 1) := by decide +kernel
theorem dX0_check_88 : decode cX0_check 88 = .ok (.invokevirtual 510, 3) := by decide +kernel
theorem dX0_check_91 : decode cX0_check 91 = .ok (.iload_n 3, 1) := by decide +kernel
theorem dX0_check_92 : decode cX0_check 92 = .ok (.if_icmp .eq 7, 3) := by decide +kernel
theorem dX0_check_95 : decode cX0_check 95 = .ok (.iconst 3, 1) := by decide +kernel
theorem dX0_check_96 : decode cX0_check 96 = .ok (.iload_n 2, 1) := by decide +kernel
theorem dX0_check_97 : decode cX0_check 97 = .ok (.imul, 1) := by decide +kernel
theorem dX0_check_98 : decode cX0_check 98 = .ok (.ireturn, 1) := by decide +kernel
theorem dX0_check_99 : decode cX0_check 99 = .ok (.aload_n 0, 1) := by decide +kernel
theorem dX0_check_100 : decode cX0_check 100 = .ok (.iconst 3, 1) := by decide +kernel
theorem dX0_check_101 : decode cX0_check 101 = .ok (.iload_n 2, 1) := by decide +kernel
theorem dX0_check_102 : decode cX0_check 102 = .ok (.imul, 1) := by decide +kernel
theorem dX0_check_103 : decode cX0_check 103 = .ok (.iconst 1, 1) := by decide +kernel
theorem dX0_check_104 : decode cX0_check 104 = .ok (.iadd, 1) := by decide +kernel
theorem dX0_check_105 : decode cX0_check 105 = .ok (.invokevirtual 510, 3) := by decide +kernel
theorem dX0_check_108 : decode cX0_check 108 = .ok (.iload 4, 2) := by decide +kernel
theorem dX0_check_110 : decode cX0_check 110 = .ok (.if_icmp .eq 9, 3) := by decide +kernel
theorem dX0_check_113 : decode cX0_check 113 = .ok (.iconst 3, 1) := by decide +kernel
theorem dX0_check_114 : decode cX0_check 114 = .ok (.iload_n 2, 1) := by decide +kernel
theorem dX0_check_115 : decode cX0_check 115 = .ok (.imul, 1) := by decide +kernel
theorem dX0_check_116 : decode cX0_check 116 = .ok (.iconst 1, 1) := by decide +kernel
theorem dX0_check_117 : decode cX0_check 117 = .ok (.iadd, 1) := by decide +kernel
theorem dX0_check_118 : decode cX0_check 118 = .ok (.ireturn, 1) := by decide +kernel
theorem dX0_check_119 : decode cX0_check 119 = .ok (.aload_n 0, 1) := by decide +kernel
theorem dX0_check_120 : decode cX0_check 120 = .ok (.iconst 3, 1) := by decide +kernel
theorem dX0_check_121 : decode cX0_check 121 = .ok (.iload_n 2, 1) := by decide +kernel
theorem dX0_check_122 : decode cX0_check 122 = .ok (.imul, 1) := by decide +kernel
theorem dX0_check_123 : decode cX0_check 123 = .ok (.iconst 2, 1) := by decide +kernel
theorem dX0_check_124 : decode cX0_check 124 = .ok (.iadd, 1) := by decide +kernel
theorem dX0_check_125 : decode cX0_check 125 = .ok (.invokevirtual 510, 3) := by decide +kernel
theorem dX0_check_128 : decode cX0_check 128 = .ok (.iload 5, 2) := by decide +kernel
theorem dX0_check_130 : decode cX0_check 130 = .ok (.if_icmp .eq 9, 3) := by decide +kernel
theorem dX0_check_133 : decode cX0_check 133 = .ok (.iconst 3, 1) := by decide +kernel
theorem dX0_check_134 : decode cX0_check 134 = .ok (.iload_n 2, 1) := by decide +kernel
theorem dX0_check_135 : decode cX0_check 135 = .ok (.imul, 1) := by decide +kernel
theorem dX0_check_136 : decode cX0_check 136 = .ok (.iconst 2, 1) := by decide +kernel
theorem dX0_check_137 : decode cX0_check 137 = .ok (.iadd, 1) := by decide +kernel
theorem dX0_check_138 : decode cX0_check 138 = .ok (.ireturn, 1) := by decide +kernel
theorem dX0_check_139 : decode cX0_check 139 = .ok (.iinc 2 1, 3) := by decide +kernel
theorem dX0_check_142 : decode cX0_check 142 = .ok (.iinc 4 1, 3) := by decide +kernel
theorem dX0_check_145 : decode cX0_check 145 = .ok (.goto (-102), 3) := by decide +kernel
theorem dX0_check_148 : decode cX0_check 148 = .ok (.iinc 3 1, 3) := by decide +kernel
theorem dX0_check_151 : decode cX0_check 151 = .ok (.goto (-124), 3) := by decide +kernel
theorem dX0_check_154 : decode cX0_check 154 = .ok (.iload_n 2, 1) := by decide +kernel
theorem dX0_check_155 : decode cX0_check 155 = .ok (.iload_n 1, 1) := by decide +kernel
theorem dX0_check_156 : decode cX0_check 156 = .ok (.if_icmp .ne 7, 3) := by decide +kernel
theorem dX0_check_159 : decode cX0_check 159 = .ok (.iconst (-1), 1) := by decide +kernel
theorem dX0_check_160 : decode cX0_check 160 = .ok (.goto 6, 3) := by decide +kernel
theorem dX0_check_163 : decode cX0_check 163 = .ok (.iconst 3, 1) := by decide +kernel
theorem dX0_check_164 : decode cX0_check 164 = .ok (.iload_n 2, 1) := by decide +kernel
theorem dX0_check_165 : decode cX0_check 165 = .ok (.imul, 1) := by decide +kernel
theorem dX0_check_166 : decode cX0_check 166 = .ok (.ireturn, 1) := by decide +kernel
section
variable {v : Int32}
noncomputable def x0_check_B43 (F : Nat) (K148 : Int32 × Int32 × XS → XR Int32) (x1 : Int32) (x3 : Int32) (R : Int32 × Int32 × XS → XR Int32) (a : Int32 × Int32 × XS) : XR Int32 :=
  if 8 ≤ a.2.1 then (K148 (a.1, a.2.1, a.2.2)) else ((x0_groundOf F x3 a.2.1 (a.2.2.1.1 2) (a.2.2.1.1 2) a.2.2).bind (fun r1 => tk r1.2.2.1 r1.2.2.2 (if r1.1 = 0 then (R (a.1, a.2.1 + 1, r1.2.1)) else (if a.1 = x1 then (some (3 * x1, r1.2.1, 0, 0)) else ((x0_numberAt F (3 * a.1) r1.2.1).bind (fun r2 => tk r2.2.2.1 r2.2.2.2 (if r2.1 = x3 then ((x0_numberAt F ((3 * a.1) + 1) r2.2.1).bind (fun r3 => tk r3.2.2.1 r3.2.2.2 (if r3.1 = a.2.1 then ((x0_numberAt F ((3 * a.1) + 2) r3.2.1).bind (fun r4 => tk r4.2.2.1 r4.2.2.2 (if r4.1 = r1.1 then (R (a.1 + 1, a.2.1 + 1, r4.2.1)) else (some ((3 * a.1) + 2, r4.2.1, 0, 0))))) else (some ((3 * a.1) + 1, r3.2.1, 0, 0))))) else (some (3 * a.1, r2.2.1, 0, 0)))))))))
theorem kx0_check_B43 (M : XC γ cX0_check 6 RX0 "check" G o B 5 (some .int) (xQi G o B v τr) c0 s0) (x1 : Int32) (x3 : Int32) (K148 : Int32 × Int32 × XS → XR Int32) (hK148 : ∀ a c s, K148 a = some (v, τr, c, s) → ∀ k n, k + c ≤ c0 ∧ n + s ≤ s0 → J γ (XW G o B a.2.2) k n 148 [(0, .ref o), (1, .int x1), (2, .int a.1), (3, .int x3)] []) : ∀ R : Int32 × Int32 × XS → XR Int32, (∀ a c s, R a = some (v, τr, c, s) → ∀ k n, k + c ≤ c0 ∧ n + s ≤ s0 → J γ (XW G o B a.2.2) k n 43 [(0, .ref o), (1, .int x1), (2, .int a.1), (3, .int x3), (4, .int a.2.1)] []) → ∀ a c s, x0_check_B43 F K148 x1 x3 R a = some (v, τr, c, s) → ∀ k n, k + c ≤ c0 ∧ n + s ≤ s0 → J γ (XW G o B a.2.2) k n 43 [(0, .ref o), (1, .int x1), (2, .int a.1), (3, .int x3), (4, .int a.2.1)] [] := by
  intro R hR a c s hf k n hkn
  unfold x0_check_B43 at hf
  refine j_iload (pc := 43) M.1 dX0_check_43 4 rfl ?_
  refine j_bipush (pc := 45) M.1 dX0_check_45 kc_bipush_8 ?_
  refine j_icmp_ge (pc := 47) M.1 148 dX0_check_47 rfl (fun b1 => ?_) (fun b1 => ?_)
  · replace hf := o_pos b1 hf
    refine j_sub [0, 1, 2, 3] (show lv_pick _ _ = [(0, .ref o), (1, .int x1), (2, .int a.1), (3, .int x3)] from rfl) ?_
    have hy := hK148 _ _ _ hf _ _ hkn
    exact hy
  · replace hf := o_neg b1 hf
    refine j_aload_n (pc := 50) M.1 dX0_check_50 0 rfl ?_
    refine j_iload_n (pc := 51) M.1 dX0_check_51 3 rfl ?_
    refine j_iload (pc := 52) M.1 dX0_check_52 4 rfl ?_
    refine j_aload_n (pc := 54) M.1 dX0_check_54 0 rfl ?_
    refine jx_getS (pc := 55) M xfs_158 dX0_check_55 ?_
    refine j_aload_n (pc := 58) M.1 dX0_check_58 0 rfl ?_
    refine jx_getS (pc := 59) M xfs_158 dX0_check_59 ?_
    obtain ⟨r1, g1, hf⟩ := o_bind hf
    obtain ⟨c1, s1, hf, hc1, hs1⟩ := o_tk hf
    replace hkn := kn_step hkn hc1 hs1
    refine jx_i M (x_runV (pc := 62) (As := [.int x3, .int a.2.1, .int (a.2.2.1.1 2), .int (a.2.2.1.1 2)]) (rest := []) (V := xV o a.2.2) M xcw_X0_233 (met_x0_groundOf g1) (fun H h => h.1 o _ xH_o) (by decide) rfl rfl rfl dX0_check_62 (kn_le hkn)) ?_
    refine j_istore (pc := 65) M.1 [(5, .int r1.1), (0, .ref o), (1, .int x1), (2, .int a.1), (3, .int x3), (4, .int a.2.1)] dX0_check_65 rfl rfl ?_
    refine j_iload (pc := 67) M.1 dX0_check_67 0 rfl ?_
    refine j_if_ne (pc := 69) M.1 75 dX0_check_69 rfl (fun b2 => ?_) (fun b2 => ?_)
    · replace hf := o_neg b2 hf
      refine j_iload_n (pc := 75) M.1 dX0_check_75 3 rfl ?_
      refine j_iload_n (pc := 76) M.1 dX0_check_76 2 rfl ?_
      refine j_icmp_ne (pc := 77) M.1 84 dX0_check_77 rfl (fun b3 => ?_) (fun b3 => ?_)
      · replace hf := o_neg b3 hf
        refine j_aload_n (pc := 84) M.1 dX0_check_84 1 rfl ?_
        refine j_iconst (pc := 85) M.1 dX0_check_85 kc_iconst_3 ?_
        refine j_iload_n (pc := 86) M.1 dX0_check_86 3 rfl ?_
        refine j_imul (pc := 87) M.1 dX0_check_87 ?_
        obtain ⟨r2, g2, hf⟩ := o_bind hf
        obtain ⟨c2, s2, hf, hc2, hs2⟩ := o_tk hf
        replace hkn := kn_step hkn hc2 hs2
        refine jx_i M (x_runV (pc := 88) (As := [.int (3 * a.1)]) (rest := []) (V := xV o r1.2.1) M xcw_X0_510 (met_x0_numberAt g2) (fun H h => h.1 o _ xH_o) (by decide) rfl rfl rfl dX0_check_88 (kn_le hkn)) ?_
        refine j_iload_n (pc := 91) M.1 dX0_check_91 4 rfl ?_
        refine j_icmp_eq (pc := 92) M.1 99 dX0_check_92 rfl (fun b4 => ?_) (fun b4 => ?_)
        · replace hf := o_pos b4 hf
          refine j_aload_n (pc := 99) M.1 dX0_check_99 1 rfl ?_
          refine j_iconst (pc := 100) M.1 dX0_check_100 kc_iconst_3 ?_
          refine j_iload_n (pc := 101) M.1 dX0_check_101 3 rfl ?_
          refine j_imul (pc := 102) M.1 dX0_check_102 ?_
          refine j_iconst (pc := 103) M.1 dX0_check_103 kc_iconst_1 ?_
          refine j_iadd (pc := 104) M.1 dX0_check_104 ?_
          obtain ⟨r3, g3, hf⟩ := o_bind hf
          obtain ⟨c3, s3, hf, hc3, hs3⟩ := o_tk hf
          replace hkn := kn_step hkn hc3 hs3
          refine jx_i M (x_runV (pc := 105) (As := [.int ((3 * a.1) + 1)]) (rest := []) (V := xV o r2.2.1) M xcw_X0_510 (met_x0_numberAt g3) (fun H h => h.1 o _ xH_o) (by decide) rfl rfl rfl dX0_check_105 (kn_le hkn)) ?_
          refine j_iload (pc := 108) M.1 dX0_check_108 5 rfl ?_
          refine j_icmp_eq (pc := 110) M.1 119 dX0_check_110 rfl (fun b5 => ?_) (fun b5 => ?_)
          · replace hf := o_pos b5 hf
            refine j_aload_n (pc := 119) M.1 dX0_check_119 1 rfl ?_
            refine j_iconst (pc := 120) M.1 dX0_check_120 kc_iconst_3 ?_
            refine j_iload_n (pc := 121) M.1 dX0_check_121 3 rfl ?_
            refine j_imul (pc := 122) M.1 dX0_check_122 ?_
            refine j_iconst (pc := 123) M.1 dX0_check_123 kc_iconst_2 ?_
            refine j_iadd (pc := 124) M.1 dX0_check_124 ?_
            obtain ⟨r4, g4, hf⟩ := o_bind hf
            obtain ⟨c4, s4, hf, hc4, hs4⟩ := o_tk hf
            replace hkn := kn_step hkn hc4 hs4
            refine jx_i M (x_runV (pc := 125) (As := [.int ((3 * a.1) + 2)]) (rest := []) (V := xV o r3.2.1) M xcw_X0_510 (met_x0_numberAt g4) (fun H h => h.1 o _ xH_o) (by decide) rfl rfl rfl dX0_check_125 (kn_le hkn)) ?_
            refine j_iload (pc := 128) M.1 dX0_check_128 0 rfl ?_
            refine j_icmp_eq (pc := 130) M.1 139 dX0_check_130 rfl (fun b6 => ?_) (fun b6 => ?_)
            · replace hf := o_pos b6 hf
              refine j_iinc (pc := 139) M.1 [(2, .int (a.1 + 1)), (5, .int r1.1), (0, .ref o), (1, .int x1), (3, .int x3), (4, .int a.2.1)] dX0_check_139 3 rfl (congrArg _ kc_iconst_1) rfl rfl ?_
              refine j_iinc (pc := 142) M.1 [(4, .int (a.2.1 + 1)), (2, .int (a.1 + 1)), (5, .int r1.1), (0, .ref o), (1, .int x1), (3, .int x3)] dX0_check_142 5 rfl (congrArg _ kc_iconst_1) rfl rfl ?_
              refine j_goto (pc := 145) M.1 43 dX0_check_145 rfl ?_
              refine j_sub [3, 4, 1, 5, 0] (show lv_pick _ _ = [(0, .ref o), (1, .int x1), (2, .int (a.1 + 1)), (3, .int x3), (4, .int (a.2.1 + 1))] from rfl) ?_
              have hy := hR _ _ _ hf _ _ hkn
              exact hy
            · replace hf := o_neg b6 hf
              refine j_iconst (pc := 133) M.1 dX0_check_133 kc_iconst_3 ?_
              refine j_iload_n (pc := 134) M.1 dX0_check_134 3 rfl ?_
              refine j_imul (pc := 135) M.1 dX0_check_135 ?_
              refine j_iconst (pc := 136) M.1 dX0_check_136 kc_iconst_2 ?_
              refine j_iadd (pc := 137) M.1 dX0_check_137 ?_
              exact jx_iretF (pc := 138) M dX0_check_138 hf hkn
          · replace hf := o_neg b5 hf
            refine j_iconst (pc := 113) M.1 dX0_check_113 kc_iconst_3 ?_
            refine j_iload_n (pc := 114) M.1 dX0_check_114 3 rfl ?_
            refine j_imul (pc := 115) M.1 dX0_check_115 ?_
            refine j_iconst (pc := 116) M.1 dX0_check_116 kc_iconst_1 ?_
            refine j_iadd (pc := 117) M.1 dX0_check_117 ?_
            exact jx_iretF (pc := 118) M dX0_check_118 hf hkn
        · replace hf := o_neg b4 hf
          refine j_iconst (pc := 95) M.1 dX0_check_95 kc_iconst_3 ?_
          refine j_iload_n (pc := 96) M.1 dX0_check_96 3 rfl ?_
          refine j_imul (pc := 97) M.1 dX0_check_97 ?_
          exact jx_iretF (pc := 98) M dX0_check_98 hf hkn
      · replace hf := o_pos b3 hf
        refine j_iconst (pc := 80) M.1 dX0_check_80 kc_iconst_3 ?_
        refine j_iload_n (pc := 81) M.1 dX0_check_81 2 rfl ?_
        refine j_imul (pc := 82) M.1 dX0_check_82 ?_
        exact jx_iretF (pc := 83) M dX0_check_83 hf hkn
    · replace hf := o_pos b2 hf
      refine j_goto (pc := 72) M.1 142 dX0_check_72 rfl ?_
      refine j_iinc (pc := 142) M.1 [(4, .int (a.2.1 + 1)), (5, .int r1.1), (0, .ref o), (1, .int x1), (2, .int a.1), (3, .int x3)] dX0_check_142 5 rfl (congrArg _ kc_iconst_1) rfl rfl ?_
      refine j_goto (pc := 145) M.1 43 dX0_check_145 rfl ?_
      refine j_sub [2, 3, 4, 5, 0] (show lv_pick _ _ = [(0, .ref o), (1, .int x1), (2, .int a.1), (3, .int x3), (4, .int (a.2.1 + 1))] from rfl) ?_
      have hy := hR _ _ _ hf _ _ hkn
      exact hy
noncomputable def x0_check_B27 (F : Nat) (K154 : Int32 × Int32 × XS → XR Int32) (x1 : Int32) (R : Int32 × Int32 × XS → XR Int32) (a : Int32 × Int32 × XS) : XR Int32 :=
  if ((a.2.2.1.1 0) * (a.2.2.1.1 1)) ≤ a.2.1 then (K154 (a.1, a.2.1, a.2.2)) else (lp (x0_check_B43 F (fun a1 => R (a1.1, a.2.1 + 1, a1.2.2)) x1 a.2.1) F (a.1, 0, a.2.2))
theorem kx0_check_B27 (M : XC γ cX0_check 6 RX0 "check" G o B 5 (some .int) (xQi G o B v τr) c0 s0) (x1 : Int32) (K154 : Int32 × Int32 × XS → XR Int32) (hK154 : ∀ a c s, K154 a = some (v, τr, c, s) → ∀ k n, k + c ≤ c0 ∧ n + s ≤ s0 → J γ (XW G o B a.2.2) k n 154 [(1, .int x1), (2, .int a.1)] []) : ∀ R : Int32 × Int32 × XS → XR Int32, (∀ a c s, R a = some (v, τr, c, s) → ∀ k n, k + c ≤ c0 ∧ n + s ≤ s0 → J γ (XW G o B a.2.2) k n 27 [(0, .ref o), (1, .int x1), (2, .int a.1), (3, .int a.2.1)] []) → ∀ a c s, x0_check_B27 F K154 x1 R a = some (v, τr, c, s) → ∀ k n, k + c ≤ c0 ∧ n + s ≤ s0 → J γ (XW G o B a.2.2) k n 27 [(0, .ref o), (1, .int x1), (2, .int a.1), (3, .int a.2.1)] [] := by
  intro R hR a c s hf k n hkn
  unfold x0_check_B27 at hf
  refine j_iload_n (pc := 27) M.1 dX0_check_27 3 rfl ?_
  refine j_aload_n (pc := 28) M.1 dX0_check_28 0 rfl ?_
  refine jx_getS (pc := 29) M xfs_13 dX0_check_29 ?_
  refine j_aload_n (pc := 32) M.1 dX0_check_32 0 rfl ?_
  refine jx_getS (pc := 33) M xfs_19 dX0_check_33 ?_
  refine j_imul (pc := 36) M.1 dX0_check_36 ?_
  refine j_icmp_ge (pc := 37) M.1 154 dX0_check_37 rfl (fun b1 => ?_) (fun b1 => ?_)
  · replace hf := o_pos b1 hf
    refine j_sub [1, 2] (show lv_pick _ _ = [(1, .int x1), (2, .int a.1)] from rfl) ?_
    have hy := hK154 _ _ _ hf _ _ hkn
    exact hy
  · replace hf := o_neg b1 hf
    refine j_iconst (pc := 40) M.1 dX0_check_40 kc_iconst_0 ?_
    refine j_istore (pc := 41) M.1 [(4, .int 0), (0, .ref o), (1, .int x1), (2, .int a.1), (3, .int a.2.1)] dX0_check_41 rfl rfl ?_
    refine j_sub [1, 2, 3, 4, 0] (show lv_pick _ _ = [(0, .ref o), (1, .int x1), (2, .int a.1), (3, .int a.2.1), (4, .int 0)] from rfl) ?_
    refine lp_Wc (kx0_check_B43 M x1 a.2.1 _ ?_) F (a.1, 0, a.2.2) _ _ hf _ _ hkn
    · intro a1 c s hf k n hkn
      refine j_iinc (pc := 148) M.1 [(3, .int (a.2.1 + 1)), (0, .ref o), (1, .int x1), (2, .int a1.1)] dX0_check_148 3 rfl (congrArg _ kc_iconst_1) rfl rfl ?_
      refine j_goto (pc := 151) M.1 27 dX0_check_151 rfl ?_
      refine j_sub [1, 2, 3, 0] (show lv_pick _ _ = [(0, .ref o), (1, .int x1), (2, .int a1.1), (3, .int (a.2.1 + 1))] from rfl) ?_
      have hy := hR _ _ _ hf _ _ hkn
      exact hy
noncomputable def x0_check (F : Nat) (x1 : Int32) (τ : XS) : XR Int32 :=
  if x1 < 0 then (some ((-2), τ, 0, 0)) else (if x1 ≤ ((τ.1.1 5) / 12) then (nx (xS τ 5 0) (fun τ1 => lp (x0_check_B27 F (fun a1 => if a1.1 = x1 then (some ((-1), a1.2.2, 0, 0)) else (some (3 * a1.1, a1.2.2, 0, 0))) x1) F (0, 0, τ1))) else (some ((-2), τ, 0, 0)))
theorem met_x0_check {l : Launch} {G : gG} {o B F : Nat} {x1 : Int32} {τ : XS} {r : Int32 × XS × Nat × Nat} (hf : x0_check F x1 τ = some r) : MetX l G o B yX0_check cX0_check 6 (some .int) 5 [.ref o, .int x1] τ (xQi G o B r.1 r.2.1) r.2.2.1 r.2.2.2 := by
  obtain ⟨v, τr, c, s⟩ := r
  refine metX_of (own := RX0) (mn := "check") (by decide) rfl rfl rfl (fun γ hγ M => ?_)
  subst hγ
  show J γ (XW G o B τ) 0 0 0 [(0, .ref o), (1, .int x1)] []
  have hkn : 0 + c ≤ c ∧ 0 + s ≤ s := ⟨by omega, by omega⟩
  unfold x0_check at hf
  refine j_iload_n (pc := 0) M.1 dX0_check_0 1 rfl ?_
  refine j_if_lt (pc := 1) M.1 15 dX0_check_1 rfl (fun b1 => ?_) (fun b1 => ?_)
  · replace hf := o_pos b1 hf
    refine j_bipush (pc := 15) M.1 dX0_check_15 kc_bipush_m2 ?_
    exact jx_iretF (pc := 17) M dX0_check_17 hf hkn
  · replace hf := o_neg b1 hf
    refine j_iload_n (pc := 4) M.1 dX0_check_4 1 rfl ?_
    refine j_aload_n (pc := 5) M.1 dX0_check_5 0 rfl ?_
    refine jx_getS (pc := 6) M xfs_264 dX0_check_6 ?_
    refine j_bipush (pc := 9) M.1 dX0_check_9 kc_bipush_12 ?_
    refine j_idiv (pc := 11) M.1 dX0_check_11 (by decide) ?_
    refine j_icmp_le (pc := 12) M.1 18 dX0_check_12 rfl (fun b2 => ?_) (fun b2 => ?_)
    · replace hf := o_pos b2 hf
      refine j_aload_n (pc := 18) M.1 dX0_check_18 0 rfl ?_
      refine j_iconst (pc := 19) M.1 dX0_check_19 kc_iconst_0 ?_
      obtain ⟨τ1, e1, hf⟩ := o_nx hf
      refine jx_putS (pc := 20) M xfs_264 dX0_check_20 e1 ?_
      refine j_iconst (pc := 23) M.1 dX0_check_23 kc_iconst_0 ?_
      refine j_istore_n (pc := 24) M.1 [(2, .int 0), (0, .ref o), (1, .int x1)] dX0_check_24 rfl rfl ?_
      refine j_iconst (pc := 25) M.1 dX0_check_25 kc_iconst_0 ?_
      refine j_istore_n (pc := 26) M.1 [(3, .int 0), (2, .int 0), (0, .ref o), (1, .int x1)] dX0_check_26 rfl rfl ?_
      refine j_sub [2, 3, 1, 0] (show lv_pick _ _ = [(0, .ref o), (1, .int x1), (2, .int 0), (3, .int 0)] from rfl) ?_
      refine lp_Wc (kx0_check_B27 M x1 _ ?_) F (0, 0, τ1) _ _ hf _ _ hkn
      · intro a1 c s hf k n hkn
        refine j_iload_n (pc := 154) M.1 dX0_check_154 1 rfl ?_
        refine j_iload_n (pc := 155) M.1 dX0_check_155 0 rfl ?_
        refine j_icmp_ne (pc := 156) M.1 163 dX0_check_156 rfl (fun b3 => ?_) (fun b3 => ?_)
        · replace hf := o_neg b3 hf
          refine j_iconst (pc := 163) M.1 dX0_check_163 kc_iconst_3 ?_
          refine j_iload_n (pc := 164) M.1 dX0_check_164 1 rfl ?_
          refine j_imul (pc := 165) M.1 dX0_check_165 ?_
          exact jx_iretF (pc := 166) M dX0_check_166 hf hkn
        · replace hf := o_pos b3 hf
          refine j_iconst (pc := 159) M.1 dX0_check_159 kc_iconst_m1 ?_
          refine j_goto (pc := 160) M.1 166 dX0_check_160 rfl ?_
          exact jx_iretF (pc := 166) M dX0_check_166 hf hkn
    · replace hf := o_neg b2 hf
      refine j_bipush (pc := 15) M.1 dX0_check_15 kc_bipush_m2 ?_
      exact jx_iretF (pc := 17) M dX0_check_17 hf hkn
end
theorem dX0_count_0 : decode cX0_count 0 = .ok (.iload_n 1, 1) := by decide +kernel
theorem dX0_count_1 : decode cX0_count 1 = .ok (.bipush 20, 2) := by decide +kernel
theorem dX0_count_3 : decode cX0_count 3 = .ok (.isub, 1) := by decide +kernel
theorem dX0_count_4 : decode cX0_count 4 = .ok (.aload_n 0, 1) := by decide +kernel
theorem dX0_count_5 : decode cX0_count 5 = .ok (.getfield 271, 3) := by decide +kernel
theorem dX0_count_8 : decode cX0_count 8 = .ok (.invokestatic 137, 3) := by decide +kernel
theorem dX0_count_11 : decode cX0_count 11 = .ok (.ifCond .eq 16, 3) := by decide +kernel
theorem dX0_count_14 : decode cX0_count 14 = .ok (.aload_n 0, 1) := by decide +kernel
theorem dX0_count_15 : decode cX0_count 15 = .ok (.getfield 53, 3) := by decide +kernel
theorem dX0_count_18 : decode cX0_count 18 = .ok (.iload_n 1, 1) := by decide +kernel
theorem dX0_count_19 : decode cX0_count 19 = .ok (.bipush 20, 2) := by decide +kernel
theorem dX0_count_21 : decode cX0_count 21 = .ok (.isub, 1) := by decide +kernel
theorem dX0_count_22 : decode cX0_count 22 = .ok (.aaload, 1) := by decide +kernel
theorem dX0_count_23 : decode cX0_count 23 = .ok (.getfield 288, 3) := by decide +kernel
theorem dX0_count_26 : decode cX0_count 26 = .ok (.ireturn, 1) := by decide +kernel
theorem dX0_count_27 : decode cX0_count 27 = .ok (.iload_n 1, 1) := by decide +kernel
theorem dX0_count_28 : decode cX0_count 28 = .ok (.tableswitch 160 0 15 #[80, 85, 90, 95, 100, 105, 110, 115, 120, 125, 130, 135, 140, 145, 150, 155], 80) := by decide +kernel
theorem dX0_count_108 : decode cX0_count 108 = .ok (.aload_n 0, 1) := by decide +kernel
theorem dX0_count_109 : decode cX0_count 109 = .ok (.getfield 158, 3) := by decide +kernel
theorem dX0_count_112 : decode cX0_count 112 = .ok (.ireturn, 1) := by decide +kernel
theorem dX0_count_113 : decode cX0_count 113 = .ok (.aload_n 0, 1) := by decide +kernel
theorem dX0_count_114 : decode cX0_count 114 = .ok (.getfield 13, 3) := by decide +kernel
theorem dX0_count_117 : decode cX0_count 117 = .ok (.ireturn, 1) := by decide +kernel
theorem dX0_count_118 : decode cX0_count 118 = .ok (.aload_n 0, 1) := by decide +kernel
theorem dX0_count_119 : decode cX0_count 119 = .ok (.getfield 19, 3) := by decide +kernel
theorem dX0_count_122 : decode cX0_count 122 = .ok (.ireturn, 1) := by decide +kernel
theorem dX0_count_123 : decode cX0_count 123 = .ok (.aload_n 0, 1) := by decide +kernel
theorem dX0_count_124 : decode cX0_count 124 = .ok (.getfield 141, 3) := by decide +kernel
theorem dX0_count_127 : decode cX0_count 127 = .ok (.ireturn, 1) := by decide +kernel
theorem dX0_count_128 : decode cX0_count 128 = .ok (.aload_n 0, 1) := by decide +kernel
theorem dX0_count_129 : decode cX0_count 129 = .ok (.getfield 148, 3) := by decide +kernel
theorem dX0_count_132 : decode cX0_count 132 = .ok (.ireturn, 1) := by decide +kernel
theorem dX0_count_133 : decode cX0_count 133 = .ok (.aload_n 0, 1) := by decide +kernel
theorem dX0_count_134 : decode cX0_count 134 = .ok (.getfield 271, 3) := by decide +kernel
theorem dX0_count_137 : decode cX0_count 137 = .ok (.ireturn, 1) := by decide +kernel
theorem dX0_count_138 : decode cX0_count 138 = .ok (.aload_n 0, 1) := by decide +kernel
theorem dX0_count_139 : decode cX0_count 139 = .ok (.getfield 328, 3) := by decide +kernel
theorem dX0_count_142 : decode cX0_count 142 = .ok (.ireturn, 1) := by decide +kernel
theorem dX0_count_143 : decode cX0_count 143 = .ok (.aload_n 0, 1) := by decide +kernel
theorem dX0_count_144 : decode cX0_count 144 = .ok (.getfield 378, 3) := by decide +kernel
theorem dX0_count_147 : decode cX0_count 147 = .ok (.ireturn, 1) := by decide +kernel
theorem dX0_count_148 : decode cX0_count 148 = .ok (.aload_n 0, 1) := by decide +kernel
theorem dX0_count_149 : decode cX0_count 149 = .ok (.getfield 430, 3) := by decide +kernel
theorem dX0_count_152 : decode cX0_count 152 = .ok (.ireturn, 1) := by decide +kernel
theorem dX0_count_153 : decode cX0_count 153 = .ok (.aload_n 0, 1) := by decide +kernel
theorem dX0_count_154 : decode cX0_count 154 = .ok (.getfield 436, 3) := by decide +kernel
theorem dX0_count_157 : decode cX0_count 157 = .ok (.ireturn, 1) := by decide +kernel
theorem dX0_count_158 : decode cX0_count 158 = .ok (.aload_n 0, 1) := by decide +kernel
theorem dX0_count_159 : decode cX0_count 159 = .ok (.getfield 461, 3) := by decide +kernel
theorem dX0_count_162 : decode cX0_count 162 = .ok (.ireturn, 1) := by decide +kernel
theorem dX0_count_163 : decode cX0_count 163 = .ok (.aload_n 0, 1) := by decide +kernel
theorem dX0_count_164 : decode cX0_count 164 = .ok (.getfield 151, 3) := by decide +kernel
theorem dX0_count_167 : decode cX0_count 167 = .ok (.ireturn, 1) := by decide +kernel
theorem dX0_count_168 : decode cX0_count 168 = .ok (.aload_n 0, 1) := by decide +kernel
theorem dX0_count_169 : decode cX0_count 169 = .ok (.getfield 473, 3) := by decide +kernel
theorem dX0_count_172 : decode cX0_count 172 = .ok (.ireturn, 1) := by decide +kernel
theorem dX0_count_173 : decode cX0_count 173 = .ok (.aload_n 0, 1) := by decide +kernel
theorem dX0_count_174 : decode cX0_count 174 = .ok (.getfield 483, 3) := by decide +kernel
theorem dX0_count_177 : decode cX0_count 177 = .ok (.ireturn, 1) := by decide +kernel
theorem dX0_count_178 : decode cX0_count 178 = .ok (.aload_n 0, 1) := by decide +kernel
theorem dX0_count_179 : decode cX0_count 179 = .ok (.getfield 264, 3) := by decide +kernel
theorem dX0_count_182 : decode cX0_count 182 = .ok (.ireturn, 1) := by decide +kernel
theorem dX0_count_183 : decode cX0_count 183 = .ok (.aload_n 0, 1) := by decide +kernel
theorem dX0_count_184 : decode cX0_count 184 = .ok (.getfield 243, 3) := by decide +kernel
theorem dX0_count_187 : decode cX0_count 187 = .ok (.ireturn, 1) := by decide +kernel
theorem dX0_count_188 : decode cX0_count 188 = .ok (.iconst (-1), 1) := by decide +kernel
theorem dX0_count_189 : decode cX0_count 189 = .ok (.ireturn, 1) := by decide +kernel
section
variable {v : Int32}
noncomputable def x0_count (F : Nat) (x1 : Int32) (τ : XS) : XR Int32 :=
  (x0_in F (x1 - 20) (τ.1.1 14)).bind (fun r1 => if r1 = 0 then (if x1 = 0 then (some (τ.1.1 2, τ, 0, 0)) else (if x1 = 1 then (some (τ.1.1 0, τ, 0, 0)) else (if x1 = 2 then (some (τ.1.1 1, τ, 0, 0)) else (if x1 = 3 then (some (τ.1.1 3, τ, 0, 0)) else (if x1 = 4 then (some (τ.1.1 4, τ, 0, 0)) else (if x1 = 5 then (some (τ.1.1 14, τ, 0, 0)) else (if x1 = 6 then (some (τ.1.1 16, τ, 0, 0)) else (if x1 = 7 then (some (τ.1.1 18, τ, 0, 0)) else (if x1 = 8 then (some (τ.1.1 26, τ, 0, 0)) else (if x1 = 9 then (some (τ.1.1 27, τ, 0, 0)) else (if x1 = 10 then (some (τ.1.1 34, τ, 0, 0)) else (if x1 = 11 then (some (τ.1.1 35, τ, 0, 0)) else (if x1 = 12 then (some (τ.1.1 42, τ, 0, 0)) else (if x1 = 13 then (some (τ.1.1 44, τ, 0, 0)) else (if x1 = 14 then (some (τ.1.1 5, τ, 0, 0)) else (if x1 = 15 then (some (τ.1.1 12, τ, 0, 0)) else (some ((-1), τ, 0, 0)))))))))))))))))) else (if okI (x1 - 20) 20 = true then (τ.2.1 6 (x1 - 20).toNatClampNeg).bind (fun n1 => (gI τ n1 [9] 2).bind (fun v1 => some (v1, τ, 0, 0))) else none))
theorem met_x0_count {l : Launch} {G : gG} {o B F : Nat} {x1 : Int32} {τ : XS} {r : Int32 × XS × Nat × Nat} (hf : x0_count F x1 τ = some r) : MetX l G o B yX0_count cX0_count 2 (some .int) 2 [.ref o, .int x1] τ (xQi G o B r.1 r.2.1) r.2.2.1 r.2.2.2 := by
  obtain ⟨v, τr, c, s⟩ := r
  refine metX_of (own := RX0) (mn := "count") (by decide) rfl rfl rfl (fun γ hγ M => ?_)
  subst hγ
  show J γ (XW G o B τ) 0 0 0 [(0, .ref o), (1, .int x1)] []
  have hkn : 0 + c ≤ c ∧ 0 + s ≤ s := ⟨by omega, by omega⟩
  unfold x0_count at hf
  refine j_iload_n (pc := 0) M.1 dX0_count_0 1 rfl ?_
  refine j_bipush (pc := 1) M.1 dX0_count_1 kc_bipush_20 ?_
  refine j_isub (pc := 3) M.1 dX0_count_3 ?_
  refine j_aload_n (pc := 4) M.1 dX0_count_4 0 rfl ?_
  refine jx_getS (pc := 5) M xfs_271 dX0_count_5 ?_
  obtain ⟨r1, g1, hf⟩ := o_bind hf
  refine jx_calls (pc := 8) (As := [.int (x1 - 20), .int (τ.1.1 14)]) (rest := []) M xcs_X0_137 (met_x0_in g1) rfl rfl rfl rfl dX0_count_8 (kn_le0 hkn) ?_
  refine j_if_eq (pc := 11) M.1 27 dX0_count_11 rfl (fun b1 => ?_) (fun b1 => ?_)
  · replace hf := o_pos b1 hf
    refine j_iload_n (pc := 27) M.1 dX0_count_27 1 rfl ?_
    by_cases b2 : x1 = 0
    · replace hf := o_pos b2 hf
      refine j_tableIn (pc := 28) M.1 108 dX0_count_28 (by rw [b2]; decide) (by rw [b2]; decide) (by rw [b2]; rfl) rfl ?_
      refine j_aload_n (pc := 108) M.1 dX0_count_108 0 rfl ?_
      refine jx_getS (pc := 109) M xfs_158 dX0_count_109 ?_
      exact jx_iretF (pc := 112) M dX0_count_112 hf hkn
    replace hf := o_neg b2 hf
    by_cases b3 : x1 = 1
    · replace hf := o_pos b3 hf
      refine j_tableIn (pc := 28) M.1 113 dX0_count_28 (by rw [b3]; decide) (by rw [b3]; decide) (by rw [b3]; rfl) rfl ?_
      refine j_aload_n (pc := 113) M.1 dX0_count_113 0 rfl ?_
      refine jx_getS (pc := 114) M xfs_13 dX0_count_114 ?_
      exact jx_iretF (pc := 117) M dX0_count_117 hf hkn
    replace hf := o_neg b3 hf
    by_cases b4 : x1 = 2
    · replace hf := o_pos b4 hf
      refine j_tableIn (pc := 28) M.1 118 dX0_count_28 (by rw [b4]; decide) (by rw [b4]; decide) (by rw [b4]; rfl) rfl ?_
      refine j_aload_n (pc := 118) M.1 dX0_count_118 0 rfl ?_
      refine jx_getS (pc := 119) M xfs_19 dX0_count_119 ?_
      exact jx_iretF (pc := 122) M dX0_count_122 hf hkn
    replace hf := o_neg b4 hf
    by_cases b5 : x1 = 3
    · replace hf := o_pos b5 hf
      refine j_tableIn (pc := 28) M.1 123 dX0_count_28 (by rw [b5]; decide) (by rw [b5]; decide) (by rw [b5]; rfl) rfl ?_
      refine j_aload_n (pc := 123) M.1 dX0_count_123 0 rfl ?_
      refine jx_getS (pc := 124) M xfs_141 dX0_count_124 ?_
      exact jx_iretF (pc := 127) M dX0_count_127 hf hkn
    replace hf := o_neg b5 hf
    by_cases b6 : x1 = 4
    · replace hf := o_pos b6 hf
      refine j_tableIn (pc := 28) M.1 128 dX0_count_28 (by rw [b6]; decide) (by rw [b6]; decide) (by rw [b6]; rfl) rfl ?_
      refine j_aload_n (pc := 128) M.1 dX0_count_128 0 rfl ?_
      refine jx_getS (pc := 129) M xfs_148 dX0_count_129 ?_
      exact jx_iretF (pc := 132) M dX0_count_132 hf hkn
    replace hf := o_neg b6 hf
    by_cases b7 : x1 = 5
    · replace hf := o_pos b7 hf
      refine j_tableIn (pc := 28) M.1 133 dX0_count_28 (by rw [b7]; decide) (by rw [b7]; decide) (by rw [b7]; rfl) rfl ?_
      refine j_aload_n (pc := 133) M.1 dX0_count_133 0 rfl ?_
      refine jx_getS (pc := 134) M xfs_271 dX0_count_134 ?_
      exact jx_iretF (pc := 137) M dX0_count_137 hf hkn
    replace hf := o_neg b7 hf
    by_cases b8 : x1 = 6
    · replace hf := o_pos b8 hf
      refine j_tableIn (pc := 28) M.1 138 dX0_count_28 (by rw [b8]; decide) (by rw [b8]; decide) (by rw [b8]; rfl) rfl ?_
      refine j_aload_n (pc := 138) M.1 dX0_count_138 0 rfl ?_
      refine jx_getS (pc := 139) M xfs_328 dX0_count_139 ?_
      exact jx_iretF (pc := 142) M dX0_count_142 hf hkn
    replace hf := o_neg b8 hf
    by_cases b9 : x1 = 7
    · replace hf := o_pos b9 hf
      refine j_tableIn (pc := 28) M.1 143 dX0_count_28 (by rw [b9]; decide) (by rw [b9]; decide) (by rw [b9]; rfl) rfl ?_
      refine j_aload_n (pc := 143) M.1 dX0_count_143 0 rfl ?_
      refine jx_getS (pc := 144) M xfs_378 dX0_count_144 ?_
      exact jx_iretF (pc := 147) M dX0_count_147 hf hkn
    replace hf := o_neg b9 hf
    by_cases b10 : x1 = 8
    · replace hf := o_pos b10 hf
      refine j_tableIn (pc := 28) M.1 148 dX0_count_28 (by rw [b10]; decide) (by rw [b10]; decide) (by rw [b10]; rfl) rfl ?_
      refine j_aload_n (pc := 148) M.1 dX0_count_148 0 rfl ?_
      refine jx_getS (pc := 149) M xfs_430 dX0_count_149 ?_
      exact jx_iretF (pc := 152) M dX0_count_152 hf hkn
    replace hf := o_neg b10 hf
    by_cases b11 : x1 = 9
    · replace hf := o_pos b11 hf
      refine j_tableIn (pc := 28) M.1 153 dX0_count_28 (by rw [b11]; decide) (by rw [b11]; decide) (by rw [b11]; rfl) rfl ?_
      refine j_aload_n (pc := 153) M.1 dX0_count_153 0 rfl ?_
      refine jx_getS (pc := 154) M xfs_436 dX0_count_154 ?_
      exact jx_iretF (pc := 157) M dX0_count_157 hf hkn
    replace hf := o_neg b11 hf
    by_cases b12 : x1 = 10
    · replace hf := o_pos b12 hf
      refine j_tableIn (pc := 28) M.1 158 dX0_count_28 (by rw [b12]; decide) (by rw [b12]; decide) (by rw [b12]; rfl) rfl ?_
      refine j_aload_n (pc := 158) M.1 dX0_count_158 0 rfl ?_
      refine jx_getS (pc := 159) M xfs_461 dX0_count_159 ?_
      exact jx_iretF (pc := 162) M dX0_count_162 hf hkn
    replace hf := o_neg b12 hf
    by_cases b13 : x1 = 11
    · replace hf := o_pos b13 hf
      refine j_tableIn (pc := 28) M.1 163 dX0_count_28 (by rw [b13]; decide) (by rw [b13]; decide) (by rw [b13]; rfl) rfl ?_
      refine j_aload_n (pc := 163) M.1 dX0_count_163 0 rfl ?_
      refine jx_getS (pc := 164) M xfs_151 dX0_count_164 ?_
      exact jx_iretF (pc := 167) M dX0_count_167 hf hkn
    replace hf := o_neg b13 hf
    by_cases b14 : x1 = 12
    · replace hf := o_pos b14 hf
      refine j_tableIn (pc := 28) M.1 168 dX0_count_28 (by rw [b14]; decide) (by rw [b14]; decide) (by rw [b14]; rfl) rfl ?_
      refine j_aload_n (pc := 168) M.1 dX0_count_168 0 rfl ?_
      refine jx_getS (pc := 169) M xfs_473 dX0_count_169 ?_
      exact jx_iretF (pc := 172) M dX0_count_172 hf hkn
    replace hf := o_neg b14 hf
    by_cases b15 : x1 = 13
    · replace hf := o_pos b15 hf
      refine j_tableIn (pc := 28) M.1 173 dX0_count_28 (by rw [b15]; decide) (by rw [b15]; decide) (by rw [b15]; rfl) rfl ?_
      refine j_aload_n (pc := 173) M.1 dX0_count_173 0 rfl ?_
      refine jx_getS (pc := 174) M xfs_483 dX0_count_174 ?_
      exact jx_iretF (pc := 177) M dX0_count_177 hf hkn
    replace hf := o_neg b15 hf
    by_cases b16 : x1 = 14
    · replace hf := o_pos b16 hf
      refine j_tableIn (pc := 28) M.1 178 dX0_count_28 (by rw [b16]; decide) (by rw [b16]; decide) (by rw [b16]; rfl) rfl ?_
      refine j_aload_n (pc := 178) M.1 dX0_count_178 0 rfl ?_
      refine jx_getS (pc := 179) M xfs_264 dX0_count_179 ?_
      exact jx_iretF (pc := 182) M dX0_count_182 hf hkn
    replace hf := o_neg b16 hf
    by_cases b17 : x1 = 15
    · replace hf := o_pos b17 hf
      refine j_tableIn (pc := 28) M.1 183 dX0_count_28 (by rw [b17]; decide) (by rw [b17]; decide) (by rw [b17]; rfl) rfl ?_
      refine j_aload_n (pc := 183) M.1 dX0_count_183 0 rfl ?_
      refine jx_getS (pc := 184) M xfs_243 dX0_count_184 ?_
      exact jx_iretF (pc := 187) M dX0_count_187 hf hkn
    replace hf := o_neg b17 hf
    have nb2 : ¬ x1.toInt = 0 := fun z => b2 (Int32.toInt_inj.mp (by rw [z]; rfl))
    have nb3 : ¬ x1.toInt = 1 := fun z => b3 (Int32.toInt_inj.mp (by rw [z]; rfl))
    have nb4 : ¬ x1.toInt = 2 := fun z => b4 (Int32.toInt_inj.mp (by rw [z]; rfl))
    have nb5 : ¬ x1.toInt = 3 := fun z => b5 (Int32.toInt_inj.mp (by rw [z]; rfl))
    have nb6 : ¬ x1.toInt = 4 := fun z => b6 (Int32.toInt_inj.mp (by rw [z]; rfl))
    have nb7 : ¬ x1.toInt = 5 := fun z => b7 (Int32.toInt_inj.mp (by rw [z]; rfl))
    have nb8 : ¬ x1.toInt = 6 := fun z => b8 (Int32.toInt_inj.mp (by rw [z]; rfl))
    have nb9 : ¬ x1.toInt = 7 := fun z => b9 (Int32.toInt_inj.mp (by rw [z]; rfl))
    have nb10 : ¬ x1.toInt = 8 := fun z => b10 (Int32.toInt_inj.mp (by rw [z]; rfl))
    have nb11 : ¬ x1.toInt = 9 := fun z => b11 (Int32.toInt_inj.mp (by rw [z]; rfl))
    have nb12 : ¬ x1.toInt = 10 := fun z => b12 (Int32.toInt_inj.mp (by rw [z]; rfl))
    have nb13 : ¬ x1.toInt = 11 := fun z => b13 (Int32.toInt_inj.mp (by rw [z]; rfl))
    have nb14 : ¬ x1.toInt = 12 := fun z => b14 (Int32.toInt_inj.mp (by rw [z]; rfl))
    have nb15 : ¬ x1.toInt = 13 := fun z => b15 (Int32.toInt_inj.mp (by rw [z]; rfl))
    have nb16 : ¬ x1.toInt = 14 := fun z => b16 (Int32.toInt_inj.mp (by rw [z]; rfl))
    have nb17 : ¬ x1.toInt = 15 := fun z => b17 (Int32.toInt_inj.mp (by rw [z]; rfl))
    refine j_tableOut (pc := 28) M.1 188 dX0_count_28 (by omega) rfl ?_
    refine j_iconst (pc := 188) M.1 dX0_count_188 kc_iconst_m1 ?_
    exact jx_iretF (pc := 189) M dX0_count_189 hf hkn
  · replace hf := o_neg b1 hf
    refine j_aload_n (pc := 14) M.1 dX0_count_14 0 rfl ?_
    refine jx_getA (pc := 15) M xfa_53 dX0_count_15 ?_
    refine j_iload_n (pc := 18) M.1 dX0_count_18 1 rfl ?_
    refine j_bipush (pc := 19) M.1 dX0_count_19 kc_bipush_20 ?_
    refine j_isub (pc := 21) M.1 dX0_count_21 ?_
    obtain ⟨b18, hf⟩ := o_need hf
    obtain ⟨n1, g2, hf⟩ := o_bind hf
    refine jx_aald (pc := 22) M xax_6 (by decide) xrt_6 b18 g2 dX0_count_22 ?_
    obtain ⟨v1, g3, hf⟩ := o_bind hf
    refine jx_getI (pc := 23) M xfl_X0_288 g3 dX0_count_23 ?_
    exact jx_iretF (pc := 26) M dX0_count_26 hf hkn
end
