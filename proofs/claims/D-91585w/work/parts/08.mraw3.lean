set_option maxRecDepth 100000
variable {γ : jG} {G : gG} {o F : Nat}
theorem dX1_stood_0 : decode cX1_stood 0 = .ok (.aload_n 0, 1) := by decide +kernel
theorem dX1_stood_1 : decode cX1_stood 1 = .ok (.iload_n 1, 1) := by decide +kernel
theorem dX1_stood_2 : decode cX1_stood 2 = .ok (.invokevirtual 527, 3) := by decide +kernel
theorem dX1_stood_5 : decode cX1_stood 5 = .ok (.ifCond .eq 30, 3) := by decide +kernel
theorem dX1_stood_8 : decode cX1_stood 8 = .ok (.iload_n 2, 1) := by decide +kernel
theorem dX1_stood_9 : decode cX1_stood 9 = .ok (.iconst 0, 1) := by decide +kernel
theorem dX1_stood_10 : decode cX1_stood 10 = .ok (.bipush 7, 2) := by decide +kernel
theorem dX1_stood_12 : decode cX1_stood 12 = .ok (.invokestatic 278, 3) := by decide +kernel
theorem dX1_stood_15 : decode cX1_stood 15 = .ok (.ifCond .eq 20, 3) := by decide +kernel
theorem dX1_stood_18 : decode cX1_stood 18 = .ok (.iload_n 3, 1) := by decide +kernel
theorem dX1_stood_19 : decode cX1_stood 19 = .ok (.invokestatic 320, 3) := by decide +kernel
theorem dX1_stood_22 : decode cX1_stood 22 = .ok (.ifCond .eq 13, 3) := by decide +kernel
theorem dX1_stood_25 : decode cX1_stood 25 = .ok (.iload 4, 2) := by decide +kernel
theorem dX1_stood_27 : decode cX1_stood 27 = .ok (.iconst 0, 1) := by decide +kernel
theorem dX1_stood_28 : decode cX1_stood 28 = .ok (.iconst 3, 1) := by decide +kernel
theorem dX1_stood_29 : decode cX1_stood 29 = .ok (.invokestatic 278, 3) := by decide +kernel
theorem dX1_stood_32 : decode cX1_stood 32 = .ok (.ifCond .ne 5, 3) := by decide +kernel
theorem dX1_stood_35 : decode cX1_stood 35 = .ok (.iconst (-1), 1) := by decide +kernel
theorem dX1_stood_36 : decode cX1_stood 36 = .ok (.ireturn, 1) := by decide +kernel
theorem dX1_stood_37 : decode cX1_stood 37 = .ok (.aload_n 0, 1) := by decide +kernel
theorem dX1_stood_38 : decode cX1_stood 38 = .ok (.iload_n 1, 1) := by decide +kernel
theorem dX1_stood_39 : decode cX1_stood 39 = .ok (.iload_n 3, 1) := by decide +kernel
theorem dX1_stood_40 : decode cX1_stood 40 = .ok (.invokevirtual 534, 3) := by decide +kernel
theorem dX1_stood_43 : decode cX1_stood 43 = .ok (.istore 5, 2) := by decide +kernel
theorem dX1_stood_45 : decode cX1_stood 45 = .ok (.iconst (-1), 1) := by decide +kernel
theorem dX1_stood_46 : decode cX1_stood 46 = .ok (.istore 6, 2) := by decide +kernel
theorem dX1_stood_48 : decode cX1_stood 48 = .ok (.iconst (-1), 1) := by decide +kernel
theorem dX1_stood_49 : decode cX1_stood 49 = .ok (.istore 7, 2) := by decide +kernel
theorem dX1_stood_51 : decode cX1_stood 51 = .ok (.iconst 0, 1) := by decide +kernel
theorem dX1_stood_52 : decode cX1_stood 52 = .ok (.istore 8, 2) := by decide +kernel
theorem dX1_stood_54 : decode cX1_stood 54 = .ok (.iload 8, 2) := by decide +kernel
theorem dX1_stood_56 : decode cX1_stood 56 = .ok (.iload 5, 2) := by decide +kernel
theorem dX1_stood_58 : decode cX1_stood 58 = .ok (.if_icmp .ge 41, 3) := by decide +kernel
theorem dX1_stood_61 : decode cX1_stood 61 = .ok (.aload_n 0, 1) := by decide +kernel
theorem dX1_stood_62 : decode cX1_stood 62 = .ok (.iload 8, 2) := by decide +kernel
theorem dX1_stood_64 : decode cX1_stood 64 = .ok (.iload_n 2, 1) := by decide +kernel
theorem dX1_stood_65 : decode cX1_stood 65 = .ok (.invokevirtual 537, 3) := by decide +kernel
theorem dX1_stood_68 : decode cX1_stood 68 = .ok (.ifCond .ne 6, 3) := by decide +kernel
theorem dX1_stood_71 : decode cX1_stood 71 = .ok (.goto 22, 3) := by decide +kernel
theorem dX1_stood_74 : decode cX1_stood 74 = .ok (.iload 8, 2) := by decide +kernel
theorem dX1_stood_76 : decode cX1_stood 76 = .ok (.istore 6, 2) := by decide +kernel
theorem dX1_stood_78 : decode cX1_stood 78 = .ok (.iload 7, 2) := by decide +kernel
theorem dX1_stood_80 : decode cX1_stood 80 = .ok (.iconst (-1), 1) := by decide +kernel
theorem dX1_stood_81 : decode cX1_stood 81 = .ok (.if_icmp .ne 8, 3) := by decide +kernel
theorem dX1_stood_84 : decode cX1_stood 84 = .ok (.iload 8, 2) := by decide +kernel
theorem dX1_stood_86 : decode cX1_stood 86 = .ok (.goto 5, 3) := by decide +kernel
theorem dX1_stood_89 : decode cX1_stood 89 = .ok (.iload 7, 2) := by decide +kernel
theorem dX1_stood_91 : decode cX1_stood 91 = .ok (.istore 7, 2) := by decide +kernel
theorem dX1_stood_93 : decode cX1_stood 93 = .ok (.iinc 8 1, 3) := by decide +kernel
theorem dX1_stood_96 : decode cX1_stood 96 = .ok (.goto (-42), 3) := by decide +kernel
theorem dX1_stood_99 : decode cX1_stood 99 = .ok (.iload 6, 2) := by decide +kernel
theorem dX1_stood_101 : decode cX1_stood 101 = .ok (.iconst (-1), 1) := by decide +kernel
theorem dX1_stood_102 : decode cX1_stood 102 = .ok (.if_icmp .ne 5, 3) := by decide +kernel
theorem dX1_stood_105 : decode cX1_stood 105 = .ok (.iconst (-1), 1) := by decide +kernel
theorem dX1_stood_106 : decode cX1_stood 106 = .ok (.ireturn, 1) := by decide +kernel
theorem dX1_stood_107 : decode cX1_stood 107 = .ok (.iload 4, 2) := by decide +kernel
theorem dX1_stood_109 : decode cX1_stood 109 = .ok (.ifCond .ne 16, 3) := by decide +kernel
theorem dX1_stood_112 : decode cX1_stood 112 = .ok (.aload_n 0, 1) := by decide +kernel
theorem dX1_stood_113 : decode cX1_stood 113 = .ok (.getfield 199, 3) := by decide +kernel
theorem dX1_stood_116 : decode cX1_stood 116 = .ok (.aload_n 0, 1) := by decide +kernel
theorem dX1_stood_117 : decode cX1_stood 117 = .ok (.getfield 208, 3) := by decide +kernel
theorem dX1_stood_120 : decode cX1_stood 120 = .ok (.iload 6, 2) := by decide +kernel
theorem dX1_stood_122 : decode cX1_stood 122 = .ok (.iaload, 1) := by decide +kernel
theorem dX1_stood_123 : decode cX1_stood 123 = .ok (.iaload, 1) := by decide +kernel
theorem dX1_stood_124 : decode cX1_stood 124 = .ok (.ireturn, 1) := by decide +kernel
theorem dX1_stood_125 : decode cX1_stood 125 = .ok (.iload 4, 2) := by decide +kernel
theorem dX1_stood_127 : decode cX1_stood 127 = .ok (.iconst 1, 1) := by decide +kernel
theorem dX1_stood_128 : decode cX1_stood 128 = .ok (.if_icmp .ne 31, 3) := by decide +kernel
theorem dX1_stood_131 : decode cX1_stood 131 = .ok (.iload 6, 2) := by decide +kernel
theorem dX1_stood_133 : decode cX1_stood 133 = .ok (.iconst 1, 1) := by decide +kernel
theorem dX1_stood_134 : decode cX1_stood 134 = .ok (.iadd, 1) := by decide +kernel
theorem dX1_stood_135 : decode cX1_stood 135 = .ok (.iload 5, 2) := by decide +kernel
theorem dX1_stood_137 : decode cX1_stood 137 = .ok (.if_icmp .ge 20, 3) := by decide +kernel
theorem dX1_stood_140 : decode cX1_stood 140 = .ok (.aload_n 0, 1) := by decide +kernel
theorem dX1_stood_141 : decode cX1_stood 141 = .ok (.getfield 199, 3) := by decide +kernel
theorem dX1_stood_144 : decode cX1_stood 144 = .ok (.aload_n 0, 1) := by decide +kernel
theorem dX1_stood_145 : decode cX1_stood 145 = .ok (.getfield 208, 3) := by decide +kernel
theorem dX1_stood_148 : decode cX1_stood 148 = .ok (.iload 6, 2) := by decide +kernel
theorem dX1_stood_150 : decode cX1_stood 150 = .ok (.iconst 1, 1) := by decide +kernel
theorem dX1_stood_151 : decode cX1_stood 151 = .ok (.iadd, 1) := by decide +kernel
theorem dX1_stood_152 : decode cX1_stood 152 = .ok (.iaload, 1) := by decide +kernel
theorem dX1_stood_153 : decode cX1_stood 153 = .ok (.iaload, 1) := by decide +kernel
theorem dX1_stood_154 : decode cX1_stood 154 = .ok (.goto 4, 3) := by decide +kernel
theorem dX1_stood_157 : decode cX1_stood 157 = .ok (.iconst (-1), 1) := by decide +kernel
theorem dX1_stood_158 : decode cX1_stood 158 = .ok (.ireturn, 1) := by decide +kernel
theorem dX1_stood_159 : decode cX1_stood 159 = .ok (.iload 7, 2) := by decide +kernel
theorem dX1_stood_161 : decode cX1_stood 161 = .ok (.istore 8, 2) := by decide +kernel
theorem dX1_stood_163 : decode cX1_stood 163 = .ok (.iload 8, 2) := by decide +kernel
theorem dX1_stood_165 : decode cX1_stood 165 = .ok (.iload 6, 2) := by decide +kernel
theorem dX1_stood_167 : decode cX1_stood 167 = .ok (.if_icmp .ge 22, 3) := by decide +kernel
theorem dX1_stood_170 : decode cX1_stood 170 = .ok (.aload_n 0, 1) := by decide +kernel
theorem dX1_stood_171 : decode cX1_stood 171 = .ok (.iload 8, 2) := by decide +kernel
theorem dX1_stood_173 : decode cX1_stood 173 = .ok (.iload_n 2, 1) := by decide +kernel
theorem dX1_stood_174 : decode cX1_stood 174 = .ok (.invokevirtual 537, 3) := by decide +kernel
theorem dX1_stood_177 : decode cX1_stood 177 = .ok (.ifCond .eq 12, 3) := by decide +kernel
theorem dX1_stood_180 : decode cX1_stood 180 = .ok (.iload 8, 2) := by decide +kernel
theorem dX1_stood_182 : decode cX1_stood 182 = .ok (.iconst 1, 1) := by decide +kernel
theorem dX1_stood_183 : decode cX1_stood 183 = .ok (.iadd, 1) := by decide +kernel
theorem dX1_stood_184 : decode cX1_stood 184 = .ok (.istore 8, 2) := by decide +kernel
theorem dX1_stood_186 : decode cX1_stood 186 = .ok (.goto (-23), 3) := by decide +kernel
theorem dX1_stood_189 : decode cX1_stood 189 = .ok (.iload 8, 2) := by decide +kernel
theorem dX1_stood_191 : decode cX1_stood 191 = .ok (.iload 6, 2) := by decide +kernel
theorem dX1_stood_193 : decode cX1_stood 193 = .ok (.if_icmp .ne 5, 3) := by decide +kernel
theorem dX1_stood_196 : decode cX1_stood 196 = .ok (.iconst (-1), 1) := by decide +kernel
theorem dX1_stood_197 : decode cX1_stood 197 = .ok (.ireturn, 1) := by decide +kernel
theorem dX1_stood_198 : decode cX1_stood 198 = .ok (.iload 8, 2) := by decide +kernel
theorem dX1_stood_200 : decode cX1_stood 200 = .ok (.istore 9, 2) := by decide +kernel
theorem dX1_stood_202 : decode cX1_stood 202 = .ok (.aload_n 0, 1) := by decide +kernel
theorem dX1_stood_203 : decode cX1_stood 203 = .ok (.iload 9, 2) := by decide +kernel
theorem dX1_stood_205 : decode cX1_stood 205 = .ok (.iload_n 2, 1) := by decide +kernel
theorem dX1_stood_206 : decode cX1_stood 206 = .ok (.invokevirtual 537, 3) := by decide +kernel
theorem dX1_stood_209 : decode cX1_stood 209 = .ok (.ifCond .ne 12, 3) := by decide +kernel
theorem dX1_stood_212 : decode cX1_stood 212 = .ok (.iload 9, 2) := by decide +kernel
theorem dX1_stood_214 : decode cX1_stood 214 = .ok (.iconst 1, 1) := by decide +kernel
theorem dX1_stood_215 : decode cX1_stood 215 = .ok (.iadd, 1) := by decide +kernel
theorem dX1_stood_216 : decode cX1_stood 216 = .ok (.istore 9, 2) := by decide +kernel
theorem dX1_stood_218 : decode cX1_stood 218 = .ok (.goto (-16), 3) := by decide +kernel
theorem dX1_stood_221 : decode cX1_stood 221 = .ok (.aload_n 0, 1) := by decide +kernel
theorem dX1_stood_222 : decode cX1_stood 222 = .ok (.getfield 208, 3) := by decide +kernel
theorem dX1_stood_225 : decode cX1_stood 225 = .ok (.iload 4, 2) := by decide +kernel
theorem dX1_stood_227 : decode cX1_stood 227 = .ok (.iconst 2, 1) := by decide +kernel
theorem dX1_stood_228 : decode cX1_stood 228 = .ok (.if_icmp .ne 8, 3) := by decide +kernel
theorem dX1_stood_231 : decode cX1_stood 231 = .ok (.iload 8, 2) := by decide +kernel
theorem dX1_stood_233 : decode cX1_stood 233 = .ok (.goto 5, 3) := by decide +kernel
theorem dX1_stood_236 : decode cX1_stood 236 = .ok (.iload 9, 2) := by decide +kernel
theorem dX1_stood_238 : decode cX1_stood 238 = .ok (.iaload, 1) := by decide +kernel
theorem dX1_stood_239 : decode cX1_stood 239 = .ok (.ireturn, 1) := by decide +kernel
section
variable {res : Int32 × MS}
noncomputable def m_stood_B54 (F : Nat) (K99 : Int32 × Int32 × Int32 × MS → Option (Int32 × MS)) (x2 x4 x5 : Int32) (R : Int32 × Int32 × Int32 × MS → Option (Int32 × MS)) (a : Int32 × Int32 × Int32 × MS) : Option (Int32 × MS) :=
  if x5 ≤ a.2.2.1 then (K99 (a.1, a.2.1, a.2.2.1, a.2.2.2)) else ((m_shows F a.2.2.1 x2 a.2.2.2).bind (fun r1 => if r1.1 = 0 then (R (a.1, a.2.1, a.2.2.1 + 1, r1.2)) else (if a.2.1 = ((-1)) then (R (a.2.2.1, a.2.2.1, a.2.2.1 + 1, r1.2)) else (R (a.2.2.1, a.2.1, a.2.2.1 + 1, r1.2)))))
theorem km_stood_B54 (M : MC γ cX1_stood 10 G o 2 (some .int) (mQi G o res)) (x2 x4 x5 : Int32) (K99 : Int32 × Int32 × Int32 × MS → Option (Int32 × MS)) (hK99 : ∀ a, K99 a = some res → J γ (MW G o a.2.2.2) 0 0 99 [(0, .ref o), (2, .int x2), (4, .int x4), (5, .int x5), (6, .int a.1), (7, .int a.2.1)] []) : ∀ R : Int32 × Int32 × Int32 × MS → Option (Int32 × MS), (∀ a, R a = some res → J γ (MW G o a.2.2.2) 0 0 54 [(0, .ref o), (2, .int x2), (4, .int x4), (5, .int x5), (6, .int a.1), (7, .int a.2.1), (8, .int a.2.2.1)] []) → ∀ a, m_stood_B54 F K99 x2 x4 x5 R a = some res → J γ (MW G o a.2.2.2) 0 0 54 [(0, .ref o), (2, .int x2), (4, .int x4), (5, .int x5), (6, .int a.1), (7, .int a.2.1), (8, .int a.2.2.1)] [] := by
  intro R hR a hf
  unfold m_stood_B54 at hf
  refine j_iload (pc := 54) M.1 dX1_stood_54 6 rfl ?_
  refine j_iload (pc := 56) M.1 dX1_stood_56 3 rfl ?_
  refine j_icmp_ge (pc := 58) M.1 99 dX1_stood_58 rfl (fun c1 => ?_) (fun c1 => ?_)
  · replace hf := o_pos c1 hf
    refine j_sub [0, 1, 2, 3, 4, 5] (show lv_pick _ _ = [(0, .ref o), (2, .int x2), (4, .int x4), (5, .int x5), (6, .int a.1), (7, .int a.2.1)] from rfl) ?_
    have hy := hK99 _ hf
    exact hy
  · replace hf := o_neg c1 hf
    refine j_aload_n (pc := 61) M.1 dX1_stood_61 0 rfl ?_
    refine j_iload (pc := 62) M.1 dX1_stood_62 6 rfl ?_
    refine j_iload_n (pc := 64) M.1 dX1_stood_64 1 rfl ?_
    obtain ⟨r1, g1, hf⟩ := o_bind hf
    refine jm_calli (pc := 65) (As := [.int a.2.2.1, .int x2]) (rest := []) M cm_537 (met_shows g1) rfl rfl rfl rfl dX1_stood_65 ?_
    refine j_if_ne (pc := 68) M.1 74 dX1_stood_68 rfl (fun c2 => ?_) (fun c2 => ?_)
    · replace hf := o_neg c2 hf
      refine j_iload (pc := 74) M.1 dX1_stood_74 6 rfl ?_
      refine j_istore (pc := 76) M.1 [(6, .int a.2.2.1), (0, .ref o), (2, .int x2), (4, .int x4), (5, .int x5), (7, .int a.2.1), (8, .int a.2.2.1)] dX1_stood_76 rfl rfl ?_
      refine j_iload (pc := 78) M.1 dX1_stood_78 5 rfl ?_
      refine j_iconst (pc := 80) M.1 dX1_stood_80 kc_iconst_m1 ?_
      refine j_icmp_ne (pc := 81) M.1 89 dX1_stood_81 rfl (fun c3 => ?_) (fun c3 => ?_)
      · replace hf := o_neg c3 hf
        refine j_iload (pc := 89) M.1 dX1_stood_89 5 rfl ?_
        refine j_istore (pc := 91) M.1 [(7, .int a.2.1), (6, .int a.2.2.1), (0, .ref o), (2, .int x2), (4, .int x4), (5, .int x5), (8, .int a.2.2.1)] dX1_stood_91 rfl rfl ?_
        refine j_iinc (pc := 93) M.1 [(8, .int (a.2.2.1 + 1)), (7, .int a.2.1), (6, .int a.2.2.1), (0, .ref o), (2, .int x2), (4, .int x4), (5, .int x5)] dX1_stood_93 6 rfl (congrArg _ kc_iconst_1) rfl rfl ?_
        refine j_goto (pc := 96) M.1 54 dX1_stood_96 rfl ?_
        refine j_sub [3, 4, 5, 6, 2, 1, 0] (show lv_pick _ _ = [(0, .ref o), (2, .int x2), (4, .int x4), (5, .int x5), (6, .int a.2.2.1), (7, .int a.2.1), (8, .int (a.2.2.1 + 1))] from rfl) ?_
        have hy := hR _ hf
        exact hy
      · replace hf := o_pos c3 hf
        refine j_iload (pc := 84) M.1 dX1_stood_84 6 rfl ?_
        refine j_goto (pc := 86) M.1 91 dX1_stood_86 rfl ?_
        refine j_istore (pc := 91) M.1 [(7, .int a.2.2.1), (6, .int a.2.2.1), (0, .ref o), (2, .int x2), (4, .int x4), (5, .int x5), (8, .int a.2.2.1)] dX1_stood_91 rfl rfl ?_
        refine j_iinc (pc := 93) M.1 [(8, .int (a.2.2.1 + 1)), (7, .int a.2.2.1), (6, .int a.2.2.1), (0, .ref o), (2, .int x2), (4, .int x4), (5, .int x5)] dX1_stood_93 6 rfl (congrArg _ kc_iconst_1) rfl rfl ?_
        refine j_goto (pc := 96) M.1 54 dX1_stood_96 rfl ?_
        refine j_sub [3, 4, 5, 6, 2, 1, 0] (show lv_pick _ _ = [(0, .ref o), (2, .int x2), (4, .int x4), (5, .int x5), (6, .int a.2.2.1), (7, .int a.2.2.1), (8, .int (a.2.2.1 + 1))] from rfl) ?_
        have hy := hR _ hf
        exact hy
    · replace hf := o_pos c2 hf
      refine j_goto (pc := 71) M.1 93 dX1_stood_71 rfl ?_
      refine j_iinc (pc := 93) M.1 [(8, .int (a.2.2.1 + 1)), (0, .ref o), (2, .int x2), (4, .int x4), (5, .int x5), (6, .int a.1), (7, .int a.2.1)] dX1_stood_93 6 rfl (congrArg _ kc_iconst_1) rfl rfl ?_
      refine j_goto (pc := 96) M.1 54 dX1_stood_96 rfl ?_
      refine j_sub [1, 2, 3, 4, 5, 6, 0] (show lv_pick _ _ = [(0, .ref o), (2, .int x2), (4, .int x4), (5, .int x5), (6, .int a.1), (7, .int a.2.1), (8, .int (a.2.2.1 + 1))] from rfl) ?_
      have hy := hR _ hf
      exact hy
noncomputable def m_stood_B163 (F : Nat) (K189 : Int32 × MS → Option (Int32 × MS)) (x2 x4 x6 : Int32) (R : Int32 × MS → Option (Int32 × MS)) (a : Int32 × MS) : Option (Int32 × MS) :=
  if x6 ≤ a.1 then (K189 (a.1, a.2)) else ((m_shows F a.1 x2 a.2).bind (fun r1 => if r1.1 = 0 then (K189 (a.1, r1.2)) else (R (a.1 + 1, r1.2))))
theorem km_stood_B163 (M : MC γ cX1_stood 10 G o 2 (some .int) (mQi G o res)) (x2 x4 x6 : Int32) (K189 : Int32 × MS → Option (Int32 × MS)) (hK189 : ∀ a, K189 a = some res → J γ (MW G o a.2) 0 0 189 [(0, .ref o), (2, .int x2), (4, .int x4), (6, .int x6), (8, .int a.1)] []) : ∀ R : Int32 × MS → Option (Int32 × MS), (∀ a, R a = some res → J γ (MW G o a.2) 0 0 163 [(0, .ref o), (2, .int x2), (4, .int x4), (6, .int x6), (8, .int a.1)] []) → ∀ a, m_stood_B163 F K189 x2 x4 x6 R a = some res → J γ (MW G o a.2) 0 0 163 [(0, .ref o), (2, .int x2), (4, .int x4), (6, .int x6), (8, .int a.1)] [] := by
  intro R hR a hf
  unfold m_stood_B163 at hf
  refine j_iload (pc := 163) M.1 dX1_stood_163 4 rfl ?_
  refine j_iload (pc := 165) M.1 dX1_stood_165 3 rfl ?_
  refine j_icmp_ge (pc := 167) M.1 189 dX1_stood_167 rfl (fun c1 => ?_) (fun c1 => ?_)
  · replace hf := o_pos c1 hf
    have hy := hK189 _ hf
    exact hy
  · replace hf := o_neg c1 hf
    refine j_aload_n (pc := 170) M.1 dX1_stood_170 0 rfl ?_
    refine j_iload (pc := 171) M.1 dX1_stood_171 4 rfl ?_
    refine j_iload_n (pc := 173) M.1 dX1_stood_173 1 rfl ?_
    obtain ⟨r1, g1, hf⟩ := o_bind hf
    refine jm_calli (pc := 174) (As := [.int a.1, .int x2]) (rest := []) M cm_537 (met_shows g1) rfl rfl rfl rfl dX1_stood_174 ?_
    refine j_if_eq (pc := 177) M.1 189 dX1_stood_177 rfl (fun c2 => ?_) (fun c2 => ?_)
    · replace hf := o_pos c2 hf
      have hy := hK189 _ hf
      exact hy
    · replace hf := o_neg c2 hf
      refine j_iload (pc := 180) M.1 dX1_stood_180 4 rfl ?_
      refine j_iconst (pc := 182) M.1 dX1_stood_182 kc_iconst_1 ?_
      refine j_iadd (pc := 183) M.1 dX1_stood_183 ?_
      refine j_istore (pc := 184) M.1 [(8, .int (a.1 + 1)), (0, .ref o), (2, .int x2), (4, .int x4), (6, .int x6)] dX1_stood_184 rfl rfl ?_
      refine j_goto (pc := 186) M.1 163 dX1_stood_186 rfl ?_
      refine j_sub [1, 2, 3, 4, 0] (show lv_pick _ _ = [(0, .ref o), (2, .int x2), (4, .int x4), (6, .int x6), (8, .int (a.1 + 1))] from rfl) ?_
      have hy := hR _ hf
      exact hy
noncomputable def m_stood_B202 (F : Nat) (K221 : Int32 × MS → Option (Int32 × MS)) (x2 x4 x8 : Int32) (R : Int32 × MS → Option (Int32 × MS)) (a : Int32 × MS) : Option (Int32 × MS) :=
  (m_shows F a.1 x2 a.2).bind (fun r1 => if r1.1 = 0 then (R (a.1 + 1, r1.2)) else (K221 (a.1, r1.2)))
theorem km_stood_B202 (M : MC γ cX1_stood 10 G o 2 (some .int) (mQi G o res)) (x2 x4 x8 : Int32) (K221 : Int32 × MS → Option (Int32 × MS)) (hK221 : ∀ a, K221 a = some res → J γ (MW G o a.2) 0 0 221 [(0, .ref o), (4, .int x4), (8, .int x8), (9, .int a.1)] []) : ∀ R : Int32 × MS → Option (Int32 × MS), (∀ a, R a = some res → J γ (MW G o a.2) 0 0 202 [(0, .ref o), (2, .int x2), (4, .int x4), (8, .int x8), (9, .int a.1)] []) → ∀ a, m_stood_B202 F K221 x2 x4 x8 R a = some res → J γ (MW G o a.2) 0 0 202 [(0, .ref o), (2, .int x2), (4, .int x4), (8, .int x8), (9, .int a.1)] [] := by
  intro R hR a hf
  unfold m_stood_B202 at hf
  refine j_aload_n (pc := 202) M.1 dX1_stood_202 0 rfl ?_
  refine j_iload (pc := 203) M.1 dX1_stood_203 4 rfl ?_
  refine j_iload_n (pc := 205) M.1 dX1_stood_205 1 rfl ?_
  obtain ⟨r1, g1, hf⟩ := o_bind hf
  refine jm_calli (pc := 206) (As := [.int a.1, .int x2]) (rest := []) M cm_537 (met_shows g1) rfl rfl rfl rfl dX1_stood_206 ?_
  refine j_if_ne (pc := 209) M.1 221 dX1_stood_209 rfl (fun c1 => ?_) (fun c1 => ?_)
  · replace hf := o_neg c1 hf
    refine j_sub [0, 2, 3, 4] (show lv_pick _ _ = [(0, .ref o), (4, .int x4), (8, .int x8), (9, .int a.1)] from rfl) ?_
    have hy := hK221 _ hf
    exact hy
  · replace hf := o_pos c1 hf
    refine j_iload (pc := 212) M.1 dX1_stood_212 4 rfl ?_
    refine j_iconst (pc := 214) M.1 dX1_stood_214 kc_iconst_1 ?_
    refine j_iadd (pc := 215) M.1 dX1_stood_215 ?_
    refine j_istore (pc := 216) M.1 [(9, .int (a.1 + 1)), (0, .ref o), (2, .int x2), (4, .int x4), (8, .int x8)] dX1_stood_216 rfl rfl ?_
    refine j_goto (pc := 218) M.1 202 dX1_stood_218 rfl ?_
    refine j_sub [1, 2, 3, 4, 0] (show lv_pick _ _ = [(0, .ref o), (2, .int x2), (4, .int x4), (8, .int x8), (9, .int (a.1 + 1))] from rfl) ?_
    have hy := hR _ hf
    exact hy
noncomputable def m_stood_189 (F : Nat) (x2 x4 x6 x8 : Int32) (σ : MS) : Option (Int32 × MS) :=
  if x8 = x6 then (some ((-1), σ)) else (lp (m_stood_B202 F (fun a1 => if x4 = 2 then (if okI x8 100 = true then some (a1.2.2 64 x8.toNatClampNeg, a1.2) else none) else (if okI a1.1 100 = true then some (a1.2.2 64 a1.1.toNatClampNeg, a1.2) else none)) x2 x4 x8) F (x8, σ))
theorem km_stood_189 (M : MC γ cX1_stood 10 G o 2 (some .int) (mQi G o res)) (x2 x4 x6 x8 : Int32) (σ : MS) (hf : m_stood_189 F x2 x4 x6 x8 σ = some res) : J γ (MW G o σ) 0 0 189 [(0, .ref o), (2, .int x2), (4, .int x4), (6, .int x6), (8, .int x8)] [] := by
  unfold m_stood_189 at hf
  refine j_iload (pc := 189) M.1 dX1_stood_189 4 rfl ?_
  refine j_iload (pc := 191) M.1 dX1_stood_191 3 rfl ?_
  refine j_icmp_ne (pc := 193) M.1 198 dX1_stood_193 rfl (fun c1 => ?_) (fun c1 => ?_)
  · replace hf := o_neg c1 hf
    refine j_iload (pc := 198) M.1 dX1_stood_198 4 rfl ?_
    refine j_istore (pc := 200) M.1 [(9, .int x8), (0, .ref o), (2, .int x2), (4, .int x4), (6, .int x6), (8, .int x8)] dX1_stood_200 rfl rfl ?_
    refine j_sub [1, 2, 3, 5, 0] (show lv_pick _ _ = [(0, .ref o), (2, .int x2), (4, .int x4), (8, .int x8), (9, .int x8)] from rfl) ?_
    refine lp_W (km_stood_B202 M x2 x4 x8 _ ?_) F (x8, σ) hf
    · intro a1 hf
      refine j_aload_n (pc := 221) M.1 dX1_stood_221 0 rfl ?_
      refine jm_getA (pc := 222) M fa_208 dX1_stood_222 ?_
      refine j_iload (pc := 225) M.1 dX1_stood_225 1 rfl ?_
      refine j_iconst (pc := 227) M.1 dX1_stood_227 kc_iconst_2 ?_
      refine j_icmp_ne (pc := 228) M.1 236 dX1_stood_228 rfl (fun c2 => ?_) (fun c2 => ?_)
      · replace hf := o_neg c2 hf
        refine j_iload (pc := 236) M.1 dX1_stood_236 3 rfl ?_
        obtain ⟨b1, hf⟩ := o_need hf
        refine jm_iald (pc := 238) M ax_64 b1 dX1_stood_238 ?_
        exact jm_iret (pc := 239) M dX1_stood_239 hf
      · replace hf := o_pos c2 hf
        refine j_iload (pc := 231) M.1 dX1_stood_231 2 rfl ?_
        refine j_goto (pc := 233) M.1 238 dX1_stood_233 rfl ?_
        obtain ⟨b2, hf⟩ := o_need hf
        refine jm_iald (pc := 238) M ax_64 b2 dX1_stood_238 ?_
        exact jm_iret (pc := 239) M dX1_stood_239 hf
  · replace hf := o_pos c1 hf
    refine j_iconst (pc := 196) M.1 dX1_stood_196 kc_iconst_m1 ?_
    exact jm_iret (pc := 197) M dX1_stood_197 hf
noncomputable def m_stood (F : Nat) (x1 x2 x3 x4 : Int32) (σ : MS) : Option (Int32 × MS) :=
  (m_isWall F x1 σ).bind (fun r1 => if r1.1 = 0 then (some ((-1), r1.2)) else ((m_in F x2 0 7).bind (fun r2 => if r2 = 0 then (some ((-1), r1.2)) else ((m_isWeek F x3).bind (fun r3 => if r3 = 0 then (some ((-1), r1.2)) else ((m_in F x4 0 3).bind (fun r4 => if r4 = 0 then (some ((-1), r1.2)) else ((m_looksAt F x1 x3 r1.2).bind (fun r5 => lp (m_stood_B54 F (fun a1 => if a1.1 = ((-1)) then (some ((-1), a1.2.2.2)) else (if x4 = 0 then (if okI a1.1 100 = true then if okI (a1.2.2.2.2 64 a1.1.toNatClampNeg) 100 = true then some (a1.2.2.2.2 61 (a1.2.2.2.2 64 a1.1.toNatClampNeg).toNatClampNeg, a1.2.2.2) else none else none) else (if x4 = 1 then (if r5.1 ≤ (a1.1 + 1) then (some ((-1), a1.2.2.2)) else (if okI (a1.1 + 1) 100 = true then if okI (a1.2.2.2.2 64 (a1.1 + 1).toNatClampNeg) 100 = true then some (a1.2.2.2.2 61 (a1.2.2.2.2 64 (a1.1 + 1).toNatClampNeg).toNatClampNeg, a1.2.2.2) else none else none)) else (lp (m_stood_B163 F (fun a2 => m_stood_189 F x2 x4 a1.1 a2.1 a2.2) x2 x4 a1.1) F (a1.2.1, a1.2.2.2))))) x2 x4 r5.1) F ((-1), (-1), 0, r5.2))))))))))
theorem met_stood {l : Launch} {G : gG} {o F : Nat} {x1 x2 x3 x4 : Int32} {σ : MS} {res : Int32 × MS} (hf : m_stood F x1 x2 x3 x4 σ = some res) : MetMi l G yX1_stood cX1_stood 10 (some .int) 2 o [.int x1, .int x2, .int x3, .int x4] σ res := by
  refine metMi_of (by decide) rfl rfl (fun γ hγ M => ?_)
  subst hγ
  show J γ (MW G o σ) 0 0 0 [(0, .ref o), (1, .int x1), (2, .int x2), (3, .int x3), (4, .int x4)] []
  unfold m_stood at hf
  refine j_aload_n (pc := 0) M.1 dX1_stood_0 0 rfl ?_
  refine j_iload_n (pc := 1) M.1 dX1_stood_1 1 rfl ?_
  obtain ⟨r1, g1, hf⟩ := o_bind hf
  refine jm_calli (pc := 2) (As := [.int x1]) (rest := []) M cm_527 (met_isWall g1) rfl rfl rfl rfl dX1_stood_2 ?_
  refine j_if_eq (pc := 5) M.1 35 dX1_stood_5 rfl (fun c1 => ?_) (fun c1 => ?_)
  · replace hf := o_pos c1 hf
    refine j_iconst (pc := 35) M.1 dX1_stood_35 kc_iconst_m1 ?_
    exact jm_iret (pc := 36) M dX1_stood_36 hf
  · replace hf := o_neg c1 hf
    refine j_iload_n (pc := 8) M.1 dX1_stood_8 2 rfl ?_
    refine j_iconst (pc := 9) M.1 dX1_stood_9 kc_iconst_0 ?_
    refine j_bipush (pc := 10) M.1 dX1_stood_10 kc_bipush_7 ?_
    obtain ⟨r2, g2, hf⟩ := o_bind hf
    refine jm_calls (pc := 12) (As := [.int x2, .int 0, .int 7]) (rest := []) M cs_X1_278 (met_in g2) rfl rfl rfl rfl dX1_stood_12 ?_
    refine j_if_eq (pc := 15) M.1 35 dX1_stood_15 rfl (fun c2 => ?_) (fun c2 => ?_)
    · replace hf := o_pos c2 hf
      refine j_iconst (pc := 35) M.1 dX1_stood_35 kc_iconst_m1 ?_
      exact jm_iret (pc := 36) M dX1_stood_36 hf
    · replace hf := o_neg c2 hf
      refine j_iload_n (pc := 18) M.1 dX1_stood_18 3 rfl ?_
      obtain ⟨r3, g3, hf⟩ := o_bind hf
      refine jm_calls (pc := 19) (As := [.int x3]) (rest := []) M cs_X1_320 (met_isWeek g3) rfl rfl rfl rfl dX1_stood_19 ?_
      refine j_if_eq (pc := 22) M.1 35 dX1_stood_22 rfl (fun c3 => ?_) (fun c3 => ?_)
      · replace hf := o_pos c3 hf
        refine j_iconst (pc := 35) M.1 dX1_stood_35 kc_iconst_m1 ?_
        exact jm_iret (pc := 36) M dX1_stood_36 hf
      · replace hf := o_neg c3 hf
        refine j_iload (pc := 25) M.1 dX1_stood_25 4 rfl ?_
        refine j_iconst (pc := 27) M.1 dX1_stood_27 kc_iconst_0 ?_
        refine j_iconst (pc := 28) M.1 dX1_stood_28 kc_iconst_3 ?_
        obtain ⟨r4, g4, hf⟩ := o_bind hf
        refine jm_calls (pc := 29) (As := [.int x4, .int 0, .int 3]) (rest := []) M cs_X1_278 (met_in g4) rfl rfl rfl rfl dX1_stood_29 ?_
        refine j_if_ne (pc := 32) M.1 37 dX1_stood_32 rfl (fun c4 => ?_) (fun c4 => ?_)
        · replace hf := o_neg c4 hf
          refine j_aload_n (pc := 37) M.1 dX1_stood_37 0 rfl ?_
          refine j_iload_n (pc := 38) M.1 dX1_stood_38 1 rfl ?_
          refine j_iload_n (pc := 39) M.1 dX1_stood_39 3 rfl ?_
          obtain ⟨r5, g5, hf⟩ := o_bind hf
          refine jm_calli (pc := 40) (As := [.int x1, .int x3]) (rest := []) M cm_534 (met_looksAt g5) rfl rfl rfl rfl dX1_stood_40 ?_
          refine j_istore (pc := 43) M.1 [(5, .int r5.1), (0, .ref o), (1, .int x1), (2, .int x2), (3, .int x3), (4, .int x4)] dX1_stood_43 rfl rfl ?_
          refine j_iconst (pc := 45) M.1 dX1_stood_45 kc_iconst_m1 ?_
          refine j_istore (pc := 46) M.1 [(6, .int ((-1))), (5, .int r5.1), (0, .ref o), (1, .int x1), (2, .int x2), (3, .int x3), (4, .int x4)] dX1_stood_46 rfl rfl ?_
          refine j_iconst (pc := 48) M.1 dX1_stood_48 kc_iconst_m1 ?_
          refine j_istore (pc := 49) M.1 [(7, .int ((-1))), (6, .int ((-1))), (5, .int r5.1), (0, .ref o), (1, .int x1), (2, .int x2), (3, .int x3), (4, .int x4)] dX1_stood_49 rfl rfl ?_
          refine j_iconst (pc := 51) M.1 dX1_stood_51 kc_iconst_0 ?_
          refine j_istore (pc := 52) M.1 [(8, .int 0), (7, .int ((-1))), (6, .int ((-1))), (5, .int r5.1), (0, .ref o), (1, .int x1), (2, .int x2), (3, .int x3), (4, .int x4)] dX1_stood_52 rfl rfl ?_
          refine j_sub [4, 6, 8, 3, 2, 1, 0] (show lv_pick _ _ = [(0, .ref o), (2, .int x2), (4, .int x4), (5, .int r5.1), (6, .int ((-1))), (7, .int ((-1))), (8, .int 0)] from rfl) ?_
          refine lp_W (km_stood_B54 M x2 x4 r5.1 _ ?_) F ((-1), (-1), 0, r5.2) hf
          · intro a1 hf
            refine j_iload (pc := 99) M.1 dX1_stood_99 4 rfl ?_
            refine j_iconst (pc := 101) M.1 dX1_stood_101 kc_iconst_m1 ?_
            refine j_icmp_ne (pc := 102) M.1 107 dX1_stood_102 rfl (fun c5 => ?_) (fun c5 => ?_)
            · replace hf := o_neg c5 hf
              refine j_iload (pc := 107) M.1 dX1_stood_107 2 rfl ?_
              refine j_if_ne (pc := 109) M.1 125 dX1_stood_109 rfl (fun c6 => ?_) (fun c6 => ?_)
              · replace hf := o_neg c6 hf
                refine j_iload (pc := 125) M.1 dX1_stood_125 2 rfl ?_
                refine j_iconst (pc := 127) M.1 dX1_stood_127 kc_iconst_1 ?_
                refine j_icmp_ne (pc := 128) M.1 159 dX1_stood_128 rfl (fun c7 => ?_) (fun c7 => ?_)
                · replace hf := o_neg c7 hf
                  refine j_iload (pc := 159) M.1 dX1_stood_159 5 rfl ?_
                  refine j_istore (pc := 161) M.1 [(8, .int a1.2.1), (0, .ref o), (2, .int x2), (4, .int x4), (5, .int r5.1), (6, .int a1.1), (7, .int a1.2.1)] dX1_stood_161 rfl rfl ?_
                  refine j_sub [1, 2, 3, 5, 0] (show lv_pick _ _ = [(0, .ref o), (2, .int x2), (4, .int x4), (6, .int a1.1), (8, .int a1.2.1)] from rfl) ?_
                  refine lp_W (km_stood_B163 M x2 x4 a1.1 _ ?_) F (a1.2.1, a1.2.2.2) hf
                  · intro a2 hf
                    exact km_stood_189 M x2 x4 a1.1 a2.1 a2.2 hf
                · replace hf := o_pos c7 hf
                  refine j_iload (pc := 131) M.1 dX1_stood_131 4 rfl ?_
                  refine j_iconst (pc := 133) M.1 dX1_stood_133 kc_iconst_1 ?_
                  refine j_iadd (pc := 134) M.1 dX1_stood_134 ?_
                  refine j_iload (pc := 135) M.1 dX1_stood_135 3 rfl ?_
                  refine j_icmp_ge (pc := 137) M.1 157 dX1_stood_137 rfl (fun c8 => ?_) (fun c8 => ?_)
                  · replace hf := o_pos c8 hf
                    refine j_iconst (pc := 157) M.1 dX1_stood_157 kc_iconst_m1 ?_
                    exact jm_iret (pc := 158) M dX1_stood_158 hf
                  · replace hf := o_neg c8 hf
                    refine j_aload_n (pc := 140) M.1 dX1_stood_140 0 rfl ?_
                    refine jm_getA (pc := 141) M fa_199 dX1_stood_141 ?_
                    refine j_aload_n (pc := 144) M.1 dX1_stood_144 0 rfl ?_
                    refine jm_getA (pc := 145) M fa_208 dX1_stood_145 ?_
                    refine j_iload (pc := 148) M.1 dX1_stood_148 4 rfl ?_
                    refine j_iconst (pc := 150) M.1 dX1_stood_150 kc_iconst_1 ?_
                    refine j_iadd (pc := 151) M.1 dX1_stood_151 ?_
                    obtain ⟨b1, hf⟩ := o_need hf
                    refine jm_iald (pc := 152) M ax_64 b1 dX1_stood_152 ?_
                    obtain ⟨b2, hf⟩ := o_need hf
                    refine jm_iald (pc := 153) M ax_61 b2 dX1_stood_153 ?_
                    refine j_goto (pc := 154) M.1 158 dX1_stood_154 rfl ?_
                    exact jm_iret (pc := 158) M dX1_stood_158 hf
              · replace hf := o_pos c6 hf
                refine j_aload_n (pc := 112) M.1 dX1_stood_112 0 rfl ?_
                refine jm_getA (pc := 113) M fa_199 dX1_stood_113 ?_
                refine j_aload_n (pc := 116) M.1 dX1_stood_116 0 rfl ?_
                refine jm_getA (pc := 117) M fa_208 dX1_stood_117 ?_
                refine j_iload (pc := 120) M.1 dX1_stood_120 4 rfl ?_
                obtain ⟨b3, hf⟩ := o_need hf
                refine jm_iald (pc := 122) M ax_64 b3 dX1_stood_122 ?_
                obtain ⟨b4, hf⟩ := o_need hf
                refine jm_iald (pc := 123) M ax_61 b4 dX1_stood_123 ?_
                exact jm_iret (pc := 124) M dX1_stood_124 hf
            · replace hf := o_pos c5 hf
              refine j_iconst (pc := 105) M.1 dX1_stood_105 kc_iconst_m1 ?_
              exact jm_iret (pc := 106) M dX1_stood_106 hf
        · replace hf := o_pos c4 hf
          refine j_iconst (pc := 35) M.1 dX1_stood_35 kc_iconst_m1 ?_
          exact jm_iret (pc := 36) M dX1_stood_36 hf
end
theorem dX1_strike_0 : decode cX1_strike 0 = .ok (.aload_n 0, 1) := by decide +kernel
theorem dX1_strike_1 : decode cX1_strike 1 = .ok (.iload_n 1, 1) := by decide +kernel
theorem dX1_strike_2 : decode cX1_strike 2 = .ok (.invokevirtual 308, 3) := by decide +kernel
theorem dX1_strike_5 : decode cX1_strike 5 = .ok (.ifCond .eq 13, 3) := by decide +kernel
theorem dX1_strike_8 : decode cX1_strike 8 = .ok (.aload_n 0, 1) := by decide +kernel
theorem dX1_strike_9 : decode cX1_strike 9 = .ok (.getfield 52, 3) := by decide +kernel
theorem dX1_strike_12 : decode cX1_strike 12 = .ok (.iload_n 1, 1) := by decide +kernel
theorem dX1_strike_13 : decode cX1_strike 13 = .ok (.iaload, 1) := by decide +kernel
theorem dX1_strike_14 : decode cX1_strike 14 = .ok (.iconst (-1), 1) := by decide +kernel
theorem dX1_strike_15 : decode cX1_strike 15 = .ok (.if_icmp .eq 5, 3) := by decide +kernel
theorem dX1_strike_18 : decode cX1_strike 18 = .ok (.iconst 0, 1) := by decide +kernel
theorem dX1_strike_19 : decode cX1_strike 19 = .ok (.ireturn, 1) := by decide +kernel
theorem dX1_strike_20 : decode cX1_strike 20 = .ok (.aload_n 0, 1) := by decide +kernel
theorem dX1_strike_21 : decode cX1_strike 21 = .ok (.getfield 52, 3) := by decide +kernel
theorem dX1_strike_24 : decode cX1_strike 24 = .ok (.iload_n 1, 1) := by decide +kernel
theorem dX1_strike_25 : decode cX1_strike 25 = .ok (.aload_n 0, 1) := by decide +kernel
theorem dX1_strike_26 : decode cX1_strike 26 = .ok (.getfield 291, 3) := by decide +kernel
theorem dX1_strike_29 : decode cX1_strike 29 = .ok (.iastore, 1) := by decide +kernel
theorem dX1_strike_30 : decode cX1_strike 30 = .ok (.iconst 1, 1) := by decide +kernel
theorem dX1_strike_31 : decode cX1_strike 31 = .ok (.ireturn, 1) := by decide +kernel
section
variable {res : Int32 × MS}
noncomputable def m_strike (F : Nat) (x1 : Int32) (σ : MS) : Option (Int32 × MS) :=
  (m_isDig F x1 σ).bind (fun r1 => if r1.1 = 0 then (some (0, r1.2)) else (if okI x1 100 = true then if (r1.2.2 14 x1.toNatClampNeg) = ((-1)) then (if okI x1 100 = true then nx (sA r1.2 14 x1.toNatClampNeg (r1.2.1 2)) (fun σ1 => some (1, σ1)) else none) else (some (0, r1.2)) else none))
theorem met_strike {l : Launch} {G : gG} {o F : Nat} {x1 : Int32} {σ : MS} {res : Int32 × MS} (hf : m_strike F x1 σ = some res) : MetMi l G yX1_strike cX1_strike 2 (some .boolean) 2 o [.int x1] σ res := by
  refine metMi_of (by decide) rfl rfl (fun γ hγ M => ?_)
  subst hγ
  show J γ (MW G o σ) 0 0 0 [(0, .ref o), (1, .int x1)] []
  unfold m_strike at hf
  refine j_aload_n (pc := 0) M.1 dX1_strike_0 0 rfl ?_
  refine j_iload_n (pc := 1) M.1 dX1_strike_1 1 rfl ?_
  obtain ⟨r1, g1, hf⟩ := o_bind hf
  refine jm_calli (pc := 2) (As := [.int x1]) (rest := []) M cm_308 (met_isDig g1) rfl rfl rfl rfl dX1_strike_2 ?_
  refine j_if_eq (pc := 5) M.1 18 dX1_strike_5 rfl (fun c1 => ?_) (fun c1 => ?_)
  · replace hf := o_pos c1 hf
    refine j_iconst (pc := 18) M.1 dX1_strike_18 kc_iconst_0 ?_
    exact jm_zret (pc := 19) M dX1_strike_19 rfl hf
  · replace hf := o_neg c1 hf
    refine j_aload_n (pc := 8) M.1 dX1_strike_8 0 rfl ?_
    refine jm_getA (pc := 9) M fa_52 dX1_strike_9 ?_
    refine j_iload_n (pc := 12) M.1 dX1_strike_12 1 rfl ?_
    obtain ⟨b1, hf⟩ := o_need hf
    refine jm_iald (pc := 13) M ax_14 b1 dX1_strike_13 ?_
    refine j_iconst (pc := 14) M.1 dX1_strike_14 kc_iconst_m1 ?_
    refine j_icmp_eq (pc := 15) M.1 20 dX1_strike_15 rfl (fun c2 => ?_) (fun c2 => ?_)
    · replace hf := o_pos c2 hf
      refine j_aload_n (pc := 20) M.1 dX1_strike_20 0 rfl ?_
      refine jm_getA (pc := 21) M fa_52 dX1_strike_21 ?_
      refine j_iload_n (pc := 24) M.1 dX1_strike_24 1 rfl ?_
      refine j_aload_n (pc := 25) M.1 dX1_strike_25 0 rfl ?_
      refine jm_getS (pc := 26) M fm_291 dX1_strike_26 ?_
      obtain ⟨b2, hf⟩ := o_need hf
      obtain ⟨σ1, e1, hf⟩ := o_nx hf
      refine jm_iast (pc := 29) M ax_14 b2 dX1_strike_29 e1 ?_
      refine j_iconst (pc := 30) M.1 dX1_strike_30 kc_iconst_1 ?_
      exact jm_zret (pc := 31) M dX1_strike_31 rfl hf
    · replace hf := o_neg c2 hf
      refine j_iconst (pc := 18) M.1 dX1_strike_18 kc_iconst_0 ?_
      exact jm_zret (pc := 19) M dX1_strike_19 rfl hf
end
theorem dX1_takes_0 : decode cX1_takes 0 = .ok (.aload_n 0, 1) := by decide +kernel
theorem dX1_takes_1 : decode cX1_takes 1 = .ok (.invokevirtual 354, 3) := by decide +kernel
theorem dX1_takes_4 : decode cX1_takes 4 = .ok (.iload_n 1, 1) := by decide +kernel
theorem dX1_takes_5 : decode cX1_takes 5 = .ok (.if_icmp .eq 13, 3) := by decide +kernel
theorem dX1_takes_8 : decode cX1_takes 8 = .ok (.aload_n 0, 1) := by decide +kernel
theorem dX1_takes_9 : decode cX1_takes 9 = .ok (.iconst 1, 1) := by decide +kernel
theorem dX1_takes_10 : decode cX1_takes 10 = .ok (.aload_n 0, 1) := by decide +kernel
theorem dX1_takes_11 : decode cX1_takes 11 = .ok (.getfield 348, 3) := by decide +kernel
theorem dX1_takes_14 : decode cX1_takes 14 = .ok (.invokevirtual 361, 3) := by decide +kernel
theorem dX1_takes_17 : decode cX1_takes 17 = .ok (.ireturn, 1) := by decide +kernel
theorem dX1_takes_18 : decode cX1_takes 18 = .ok (.aload_n 0, 1) := by decide +kernel
theorem dX1_takes_19 : decode cX1_takes 19 = .ok (.aload_n 0, 1) := by decide +kernel
theorem dX1_takes_20 : decode cX1_takes 20 = .ok (.getfield 348, 3) := by decide +kernel
theorem dX1_takes_23 : decode cX1_takes 23 = .ok (.iconst 1, 1) := by decide +kernel
theorem dX1_takes_24 : decode cX1_takes 24 = .ok (.iadd, 1) := by decide +kernel
theorem dX1_takes_25 : decode cX1_takes 25 = .ok (.putfield 348, 3) := by decide +kernel
theorem dX1_takes_28 : decode cX1_takes 28 = .ok (.iconst 1, 1) := by decide +kernel
theorem dX1_takes_29 : decode cX1_takes 29 = .ok (.ireturn, 1) := by decide +kernel
section
variable {res : Int32 × MS}
noncomputable def m_takes (F : Nat) (x1 : Int32) (σ : MS) : Option (Int32 × MS) :=
  (m_byteHere F σ).bind (fun r1 => if r1.1 = x1 then (nx (sS r1.2 29 ((r1.2.1 29) + 1)) (fun σ1 => some (1, σ1))) else ((m_wrong F 1 (r1.2.1 29) r1.2).bind (fun r2 => if okB r2.1 = true then some (r2.1, r2.2) else none)))
theorem met_takes {l : Launch} {G : gG} {o F : Nat} {x1 : Int32} {σ : MS} {res : Int32 × MS} (hf : m_takes F x1 σ = some res) : MetMi l G yX1_takes cX1_takes 2 (some .boolean) 2 o [.int x1] σ res := by
  refine metMi_of (by decide) rfl rfl (fun γ hγ M => ?_)
  subst hγ
  show J γ (MW G o σ) 0 0 0 [(0, .ref o), (1, .int x1)] []
  unfold m_takes at hf
  refine j_aload_n (pc := 0) M.1 dX1_takes_0 0 rfl ?_
  obtain ⟨r1, g1, hf⟩ := o_bind hf
  refine jm_calli (pc := 1) (As := []) (rest := []) M cm_354 (met_byteHere g1) rfl rfl rfl rfl dX1_takes_1 ?_
  refine j_iload_n (pc := 4) M.1 dX1_takes_4 1 rfl ?_
  refine j_icmp_eq (pc := 5) M.1 18 dX1_takes_5 rfl (fun c1 => ?_) (fun c1 => ?_)
  · replace hf := o_pos c1 hf
    refine j_aload_n (pc := 18) M.1 dX1_takes_18 0 rfl ?_
    refine j_aload_n (pc := 19) M.1 dX1_takes_19 0 rfl ?_
    refine jm_getS (pc := 20) M fm_348 dX1_takes_20 ?_
    refine j_iconst (pc := 23) M.1 dX1_takes_23 kc_iconst_1 ?_
    refine j_iadd (pc := 24) M.1 dX1_takes_24 ?_
    obtain ⟨σ1, e1, hf⟩ := o_nx hf
    refine jm_put (pc := 25) M fm_348 dX1_takes_25 e1 ?_
    refine j_iconst (pc := 28) M.1 dX1_takes_28 kc_iconst_1 ?_
    exact jm_zret (pc := 29) M dX1_takes_29 rfl hf
  · replace hf := o_neg c1 hf
    refine j_aload_n (pc := 8) M.1 dX1_takes_8 0 rfl ?_
    refine j_iconst (pc := 9) M.1 dX1_takes_9 kc_iconst_1 ?_
    refine j_aload_n (pc := 10) M.1 dX1_takes_10 0 rfl ?_
    refine jm_getS (pc := 11) M fm_348 dX1_takes_11 ?_
    obtain ⟨r2, g2, hf⟩ := o_bind hf
    refine jm_calli (pc := 14) (As := [.int 1, .int (r1.2.1 29)]) (rest := []) M cm_361 (met_wrong g2) rfl rfl rfl rfl dX1_takes_14 ?_
    obtain ⟨b1, hf⟩ := o_need hf
    exact jm_zret (pc := 17) M dX1_takes_17 b1 hf
end
theorem dX1_thing_0 : decode cX1_thing 0 = .ok (.iload_n 1, 1) := by decide +kernel
theorem dX1_thing_1 : decode cX1_thing 1 = .ok (.iconst 0, 1) := by decide +kernel
theorem dX1_thing_2 : decode cX1_thing 2 = .ok (.bipush 9, 2) := by decide +kernel
theorem dX1_thing_4 : decode cX1_thing 4 = .ok (.invokestatic 278, 3) := by decide +kernel
theorem dX1_thing_7 : decode cX1_thing 7 = .ok (.ifCond .eq 33, 3) := by decide +kernel
theorem dX1_thing_10 : decode cX1_thing 10 = .ok (.iload_n 2, 1) := by decide +kernel
theorem dX1_thing_11 : decode cX1_thing 11 = .ok (.iconst 0, 1) := by decide +kernel
theorem dX1_thing_12 : decode cX1_thing 12 = .ok (.bipush 7, 2) := by decide +kernel
theorem dX1_thing_14 : decode cX1_thing 14 = .ok (.invokestatic 278, 3) := by decide +kernel
theorem dX1_thing_17 : decode cX1_thing 17 = .ok (.ifCond .eq 23, 3) := by decide +kernel
theorem dX1_thing_20 : decode cX1_thing 20 = .ok (.iload_n 3, 1) := by decide +kernel
theorem dX1_thing_21 : decode cX1_thing 21 = .ok (.iconst 0, 1) := by decide +kernel
theorem dX1_thing_22 : decode cX1_thing 22 = .ok (.sipush 255, 3) := by decide +kernel
theorem dX1_thing_25 : decode cX1_thing 25 = .ok (.invokestatic 278, 3) := by decide +kernel
theorem dX1_thing_28 : decode cX1_thing 28 = .ok (.ifCond .eq 12, 3) := by decide +kernel
theorem dX1_thing_31 : decode cX1_thing 31 = .ok (.aload_n 0, 1) := by decide +kernel
theorem dX1_thing_32 : decode cX1_thing 32 = .ok (.getfield 491, 3) := by decide +kernel
theorem dX1_thing_35 : decode cX1_thing 35 = .ok (.bipush 60, 2) := by decide +kernel
theorem dX1_thing_37 : decode cX1_thing 37 = .ok (.if_icmp .ne 5, 3) := by decide +kernel
theorem dX1_thing_40 : decode cX1_thing 40 = .ok (.iconst (-1), 1) := by decide +kernel
theorem dX1_thing_41 : decode cX1_thing 41 = .ok (.ireturn, 1) := by decide +kernel
theorem dX1_thing_42 : decode cX1_thing 42 = .ok (.aload_n 0, 1) := by decide +kernel
theorem dX1_thing_43 : decode cX1_thing 43 = .ok (.getfield 163, 3) := by decide +kernel
theorem dX1_thing_46 : decode cX1_thing 46 = .ok (.aload_n 0, 1) := by decide +kernel
theorem dX1_thing_47 : decode cX1_thing 47 = .ok (.getfield 491, 3) := by decide +kernel
theorem dX1_thing_50 : decode cX1_thing 50 = .ok (.iload_n 1, 1) := by decide +kernel
theorem dX1_thing_51 : decode cX1_thing 51 = .ok (.iastore, 1) := by decide +kernel
theorem dX1_thing_52 : decode cX1_thing 52 = .ok (.aload_n 0, 1) := by decide +kernel
theorem dX1_thing_53 : decode cX1_thing 53 = .ok (.getfield 166, 3) := by decide +kernel
theorem dX1_thing_56 : decode cX1_thing 56 = .ok (.aload_n 0, 1) := by decide +kernel
theorem dX1_thing_57 : decode cX1_thing 57 = .ok (.getfield 491, 3) := by decide +kernel
theorem dX1_thing_60 : decode cX1_thing 60 = .ok (.iload_n 2, 1) := by decide +kernel
theorem dX1_thing_61 : decode cX1_thing 61 = .ok (.iastore, 1) := by decide +kernel
theorem dX1_thing_62 : decode cX1_thing 62 = .ok (.aload_n 0, 1) := by decide +kernel
theorem dX1_thing_63 : decode cX1_thing 63 = .ok (.getfield 169, 3) := by decide +kernel
theorem dX1_thing_66 : decode cX1_thing 66 = .ok (.aload_n 0, 1) := by decide +kernel
theorem dX1_thing_67 : decode cX1_thing 67 = .ok (.getfield 491, 3) := by decide +kernel
theorem dX1_thing_70 : decode cX1_thing 70 = .ok (.iload_n 3, 1) := by decide +kernel
theorem dX1_thing_71 : decode cX1_thing 71 = .ok (.iastore, 1) := by decide +kernel
theorem dX1_thing_72 : decode cX1_thing 72 = .ok (.aload_n 0, 1) := by decide +kernel
theorem dX1_thing_73 : decode cX1_thing 73 = .ok (.aload_n 0, 1) := by decide +kernel
theorem dX1_thing_74 : decode cX1_thing 74 = .ok (.getfield 491, 3) := by decide +kernel
theorem dX1_thing_77 : decode cX1_thing 77 = .ok (.iconst 1, 1) := by decide +kernel
theorem dX1_thing_78 : decode cX1_thing 78 = .ok (.iadd, 1) := by decide +kernel
theorem dX1_thing_79 : decode cX1_thing 79 = .ok (.putfield 491, 3) := by decide +kernel
theorem dX1_thing_82 : decode cX1_thing 82 = .ok (.aload_n 0, 1) := by decide +kernel
theorem dX1_thing_83 : decode cX1_thing 83 = .ok (.getfield 491, 3) := by decide +kernel
theorem dX1_thing_86 : decode cX1_thing 86 = .ok (.iconst 1, 1) := by decide +kernel
theorem dX1_thing_87 : decode cX1_thing 87 = .ok (.isub, 1) := by decide +kernel
theorem dX1_thing_88 : decode cX1_thing 88 = .ok (.ireturn, 1) := by decide +kernel
section
variable {res : Int32 × MS}
noncomputable def m_thing (F : Nat) (x1 x2 x3 : Int32) (σ : MS) : Option (Int32 × MS) :=
  (m_in F x1 0 9).bind (fun r1 => if r1 = 0 then (some ((-1), σ)) else ((m_in F x2 0 7).bind (fun r2 => if r2 = 0 then (some ((-1), σ)) else ((m_in F x3 0 255).bind (fun r3 => if r3 = 0 then (some ((-1), σ)) else (if (σ.1 68) = 60 then (some ((-1), σ)) else (if okI (σ.1 68) 60 = true then nx (sA σ 49 (σ.1 68).toNatClampNeg x1) (fun σ1 => if okI (σ1.1 68) 60 = true then nx (sA σ1 50 (σ1.1 68).toNatClampNeg x2) (fun σ2 => if okI (σ2.1 68) 60 = true then nx (sA σ2 51 (σ2.1 68).toNatClampNeg x3) (fun σ3 => nx (sS σ3 68 ((σ3.1 68) + 1)) (fun σ4 => some ((σ4.1 68) - 1, σ4))) else none) else none) else none)))))))
theorem met_thing {l : Launch} {G : gG} {o F : Nat} {x1 x2 x3 : Int32} {σ : MS} {res : Int32 × MS} (hf : m_thing F x1 x2 x3 σ = some res) : MetMi l G yX1_thing cX1_thing 4 (some .int) 2 o [.int x1, .int x2, .int x3] σ res := by
  refine metMi_of (by decide) rfl rfl (fun γ hγ M => ?_)
  subst hγ
  show J γ (MW G o σ) 0 0 0 [(0, .ref o), (1, .int x1), (2, .int x2), (3, .int x3)] []
  unfold m_thing at hf
  refine j_iload_n (pc := 0) M.1 dX1_thing_0 1 rfl ?_
  refine j_iconst (pc := 1) M.1 dX1_thing_1 kc_iconst_0 ?_
  refine j_bipush (pc := 2) M.1 dX1_thing_2 kc_bipush_9 ?_
  obtain ⟨r1, g1, hf⟩ := o_bind hf
  refine jm_calls (pc := 4) (As := [.int x1, .int 0, .int 9]) (rest := []) M cs_X1_278 (met_in g1) rfl rfl rfl rfl dX1_thing_4 ?_
  refine j_if_eq (pc := 7) M.1 40 dX1_thing_7 rfl (fun c1 => ?_) (fun c1 => ?_)
  · replace hf := o_pos c1 hf
    refine j_iconst (pc := 40) M.1 dX1_thing_40 kc_iconst_m1 ?_
    exact jm_iret (pc := 41) M dX1_thing_41 hf
  · replace hf := o_neg c1 hf
    refine j_iload_n (pc := 10) M.1 dX1_thing_10 2 rfl ?_
    refine j_iconst (pc := 11) M.1 dX1_thing_11 kc_iconst_0 ?_
    refine j_bipush (pc := 12) M.1 dX1_thing_12 kc_bipush_7 ?_
    obtain ⟨r2, g2, hf⟩ := o_bind hf
    refine jm_calls (pc := 14) (As := [.int x2, .int 0, .int 7]) (rest := []) M cs_X1_278 (met_in g2) rfl rfl rfl rfl dX1_thing_14 ?_
    refine j_if_eq (pc := 17) M.1 40 dX1_thing_17 rfl (fun c2 => ?_) (fun c2 => ?_)
    · replace hf := o_pos c2 hf
      refine j_iconst (pc := 40) M.1 dX1_thing_40 kc_iconst_m1 ?_
      exact jm_iret (pc := 41) M dX1_thing_41 hf
    · replace hf := o_neg c2 hf
      refine j_iload_n (pc := 20) M.1 dX1_thing_20 3 rfl ?_
      refine j_iconst (pc := 21) M.1 dX1_thing_21 kc_iconst_0 ?_
      refine j_sipush (pc := 22) M.1 dX1_thing_22 kc_sipush_255 ?_
      obtain ⟨r3, g3, hf⟩ := o_bind hf
      refine jm_calls (pc := 25) (As := [.int x3, .int 0, .int 255]) (rest := []) M cs_X1_278 (met_in g3) rfl rfl rfl rfl dX1_thing_25 ?_
      refine j_if_eq (pc := 28) M.1 40 dX1_thing_28 rfl (fun c3 => ?_) (fun c3 => ?_)
      · replace hf := o_pos c3 hf
        refine j_iconst (pc := 40) M.1 dX1_thing_40 kc_iconst_m1 ?_
        exact jm_iret (pc := 41) M dX1_thing_41 hf
      · replace hf := o_neg c3 hf
        refine j_aload_n (pc := 31) M.1 dX1_thing_31 0 rfl ?_
        refine jm_getS (pc := 32) M fm_491 dX1_thing_32 ?_
        refine j_bipush (pc := 35) M.1 dX1_thing_35 kc_bipush_60 ?_
        refine j_icmp_ne (pc := 37) M.1 42 dX1_thing_37 rfl (fun c4 => ?_) (fun c4 => ?_)
        · replace hf := o_neg c4 hf
          refine j_aload_n (pc := 42) M.1 dX1_thing_42 0 rfl ?_
          refine jm_getA (pc := 43) M fa_163 dX1_thing_43 ?_
          refine j_aload_n (pc := 46) M.1 dX1_thing_46 0 rfl ?_
          refine jm_getS (pc := 47) M fm_491 dX1_thing_47 ?_
          refine j_iload_n (pc := 50) M.1 dX1_thing_50 1 rfl ?_
          obtain ⟨b1, hf⟩ := o_need hf
          obtain ⟨σ1, e1, hf⟩ := o_nx hf
          refine jm_iast (pc := 51) M ax_49 b1 dX1_thing_51 e1 ?_
          refine j_aload_n (pc := 52) M.1 dX1_thing_52 0 rfl ?_
          refine jm_getA (pc := 53) M fa_166 dX1_thing_53 ?_
          refine j_aload_n (pc := 56) M.1 dX1_thing_56 0 rfl ?_
          refine jm_getS (pc := 57) M fm_491 dX1_thing_57 ?_
          refine j_iload_n (pc := 60) M.1 dX1_thing_60 2 rfl ?_
          obtain ⟨b2, hf⟩ := o_need hf
          obtain ⟨σ2, e2, hf⟩ := o_nx hf
          refine jm_iast (pc := 61) M ax_50 b2 dX1_thing_61 e2 ?_
          refine j_aload_n (pc := 62) M.1 dX1_thing_62 0 rfl ?_
          refine jm_getA (pc := 63) M fa_169 dX1_thing_63 ?_
          refine j_aload_n (pc := 66) M.1 dX1_thing_66 0 rfl ?_
          refine jm_getS (pc := 67) M fm_491 dX1_thing_67 ?_
          refine j_iload_n (pc := 70) M.1 dX1_thing_70 3 rfl ?_
          obtain ⟨b3, hf⟩ := o_need hf
          obtain ⟨σ3, e3, hf⟩ := o_nx hf
          refine jm_iast (pc := 71) M ax_51 b3 dX1_thing_71 e3 ?_
          refine j_aload_n (pc := 72) M.1 dX1_thing_72 0 rfl ?_
          refine j_aload_n (pc := 73) M.1 dX1_thing_73 0 rfl ?_
          refine jm_getS (pc := 74) M fm_491 dX1_thing_74 ?_
          refine j_iconst (pc := 77) M.1 dX1_thing_77 kc_iconst_1 ?_
          refine j_iadd (pc := 78) M.1 dX1_thing_78 ?_
          obtain ⟨σ4, e4, hf⟩ := o_nx hf
          refine jm_put (pc := 79) M fm_491 dX1_thing_79 e4 ?_
          refine j_aload_n (pc := 82) M.1 dX1_thing_82 0 rfl ?_
          refine jm_getS (pc := 83) M fm_491 dX1_thing_83 ?_
          refine j_iconst (pc := 86) M.1 dX1_thing_86 kc_iconst_1 ?_
          refine j_isub (pc := 87) M.1 dX1_thing_87 ?_
          exact jm_iret (pc := 88) M dX1_thing_88 hf
        · replace hf := o_pos c4 hf
          refine j_iconst (pc := 40) M.1 dX1_thing_40 kc_iconst_m1 ?_
          exact jm_iret (pc := 41) M dX1_thing_41 hf
end
theorem dX1_wall_0 : decode cX1_wall 0 = .ok (.aload_n 0, 1) := by decide +kernel
theorem dX1_wall_1 : decode cX1_wall 1 = .ok (.iload_n 1, 1) := by decide +kernel
theorem dX1_wall_2 : decode cX1_wall 2 = .ok (.invokevirtual 331, 3) := by decide +kernel
theorem dX1_wall_5 : decode cX1_wall 5 = .ok (.ifCond .eq 23, 3) := by decide +kernel
theorem dX1_wall_8 : decode cX1_wall 8 = .ok (.iload_n 2, 1) := by decide +kernel
theorem dX1_wall_9 : decode cX1_wall 9 = .ok (.iconst 0, 1) := by decide +kernel
theorem dX1_wall_10 : decode cX1_wall 10 = .ok (.sipush 10000, 3) := by decide +kernel
theorem dX1_wall_13 : decode cX1_wall 13 = .ok (.invokestatic 278, 3) := by decide +kernel
theorem dX1_wall_16 : decode cX1_wall 16 = .ok (.ifCond .eq 12, 3) := by decide +kernel
theorem dX1_wall_19 : decode cX1_wall 19 = .ok (.aload_n 0, 1) := by decide +kernel
theorem dX1_wall_20 : decode cX1_wall 20 = .ok (.getfield 521, 3) := by decide +kernel
theorem dX1_wall_23 : decode cX1_wall 23 = .ok (.bipush 30, 2) := by decide +kernel
theorem dX1_wall_25 : decode cX1_wall 25 = .ok (.if_icmp .ne 5, 3) := by decide +kernel
theorem dX1_wall_28 : decode cX1_wall 28 = .ok (.iconst (-1), 1) := by decide +kernel
theorem dX1_wall_29 : decode cX1_wall 29 = .ok (.ireturn, 1) := by decide +kernel
theorem dX1_wall_30 : decode cX1_wall 30 = .ok (.aload_n 0, 1) := by decide +kernel
theorem dX1_wall_31 : decode cX1_wall 31 = .ok (.getfield 190, 3) := by decide +kernel
theorem dX1_wall_34 : decode cX1_wall 34 = .ok (.aload_n 0, 1) := by decide +kernel
theorem dX1_wall_35 : decode cX1_wall 35 = .ok (.getfield 521, 3) := by decide +kernel
theorem dX1_wall_38 : decode cX1_wall 38 = .ok (.iload_n 1, 1) := by decide +kernel
theorem dX1_wall_39 : decode cX1_wall 39 = .ok (.iastore, 1) := by decide +kernel
theorem dX1_wall_40 : decode cX1_wall 40 = .ok (.aload_n 0, 1) := by decide +kernel
theorem dX1_wall_41 : decode cX1_wall 41 = .ok (.getfield 193, 3) := by decide +kernel
theorem dX1_wall_44 : decode cX1_wall 44 = .ok (.aload_n 0, 1) := by decide +kernel
theorem dX1_wall_45 : decode cX1_wall 45 = .ok (.getfield 521, 3) := by decide +kernel
theorem dX1_wall_48 : decode cX1_wall 48 = .ok (.iload_n 2, 1) := by decide +kernel
theorem dX1_wall_49 : decode cX1_wall 49 = .ok (.iastore, 1) := by decide +kernel
theorem dX1_wall_50 : decode cX1_wall 50 = .ok (.aload_n 0, 1) := by decide +kernel
theorem dX1_wall_51 : decode cX1_wall 51 = .ok (.aload_n 0, 1) := by decide +kernel
theorem dX1_wall_52 : decode cX1_wall 52 = .ok (.getfield 521, 3) := by decide +kernel
theorem dX1_wall_55 : decode cX1_wall 55 = .ok (.iconst 1, 1) := by decide +kernel
theorem dX1_wall_56 : decode cX1_wall 56 = .ok (.iadd, 1) := by decide +kernel
theorem dX1_wall_57 : decode cX1_wall 57 = .ok (.putfield 521, 3) := by decide +kernel
theorem dX1_wall_60 : decode cX1_wall 60 = .ok (.aload_n 0, 1) := by decide +kernel
theorem dX1_wall_61 : decode cX1_wall 61 = .ok (.getfield 521, 3) := by decide +kernel
theorem dX1_wall_64 : decode cX1_wall 64 = .ok (.iconst 1, 1) := by decide +kernel
theorem dX1_wall_65 : decode cX1_wall 65 = .ok (.isub, 1) := by decide +kernel
theorem dX1_wall_66 : decode cX1_wall 66 = .ok (.ireturn, 1) := by decide +kernel
section
variable {res : Int32 × MS}
noncomputable def m_wall (F : Nat) (x1 x2 : Int32) (σ : MS) : Option (Int32 × MS) :=
  (m_isPlace F x1 σ).bind (fun r1 => if r1.1 = 0 then (some ((-1), r1.2)) else ((m_in F x2 0 10000).bind (fun r2 => if r2 = 0 then (some ((-1), r1.2)) else (if (r1.2.1 79) = 30 then (some ((-1), r1.2)) else (if okI (r1.2.1 79) 30 = true then nx (sA r1.2 58 (r1.2.1 79).toNatClampNeg x1) (fun σ1 => if okI (σ1.1 79) 30 = true then nx (sA σ1 59 (σ1.1 79).toNatClampNeg x2) (fun σ2 => nx (sS σ2 79 ((σ2.1 79) + 1)) (fun σ3 => some ((σ3.1 79) - 1, σ3))) else none) else none)))))
theorem met_wall {l : Launch} {G : gG} {o F : Nat} {x1 x2 : Int32} {σ : MS} {res : Int32 × MS} (hf : m_wall F x1 x2 σ = some res) : MetMi l G yX1_wall cX1_wall 3 (some .int) 2 o [.int x1, .int x2] σ res := by
  refine metMi_of (by decide) rfl rfl (fun γ hγ M => ?_)
  subst hγ
  show J γ (MW G o σ) 0 0 0 [(0, .ref o), (1, .int x1), (2, .int x2)] []
  unfold m_wall at hf
  refine j_aload_n (pc := 0) M.1 dX1_wall_0 0 rfl ?_
  refine j_iload_n (pc := 1) M.1 dX1_wall_1 1 rfl ?_
  obtain ⟨r1, g1, hf⟩ := o_bind hf
  refine jm_calli (pc := 2) (As := [.int x1]) (rest := []) M cm_331 (met_isPlace g1) rfl rfl rfl rfl dX1_wall_2 ?_
  refine j_if_eq (pc := 5) M.1 28 dX1_wall_5 rfl (fun c1 => ?_) (fun c1 => ?_)
  · replace hf := o_pos c1 hf
    refine j_iconst (pc := 28) M.1 dX1_wall_28 kc_iconst_m1 ?_
    exact jm_iret (pc := 29) M dX1_wall_29 hf
  · replace hf := o_neg c1 hf
    refine j_iload_n (pc := 8) M.1 dX1_wall_8 2 rfl ?_
    refine j_iconst (pc := 9) M.1 dX1_wall_9 kc_iconst_0 ?_
    refine j_sipush (pc := 10) M.1 dX1_wall_10 kc_sipush_10000 ?_
    obtain ⟨r2, g2, hf⟩ := o_bind hf
    refine jm_calls (pc := 13) (As := [.int x2, .int 0, .int 10000]) (rest := []) M cs_X1_278 (met_in g2) rfl rfl rfl rfl dX1_wall_13 ?_
    refine j_if_eq (pc := 16) M.1 28 dX1_wall_16 rfl (fun c2 => ?_) (fun c2 => ?_)
    · replace hf := o_pos c2 hf
      refine j_iconst (pc := 28) M.1 dX1_wall_28 kc_iconst_m1 ?_
      exact jm_iret (pc := 29) M dX1_wall_29 hf
    · replace hf := o_neg c2 hf
      refine j_aload_n (pc := 19) M.1 dX1_wall_19 0 rfl ?_
      refine jm_getS (pc := 20) M fm_521 dX1_wall_20 ?_
      refine j_bipush (pc := 23) M.1 dX1_wall_23 kc_bipush_30 ?_
      refine j_icmp_ne (pc := 25) M.1 30 dX1_wall_25 rfl (fun c3 => ?_) (fun c3 => ?_)
      · replace hf := o_neg c3 hf
        refine j_aload_n (pc := 30) M.1 dX1_wall_30 0 rfl ?_
        refine jm_getA (pc := 31) M fa_190 dX1_wall_31 ?_
        refine j_aload_n (pc := 34) M.1 dX1_wall_34 0 rfl ?_
        refine jm_getS (pc := 35) M fm_521 dX1_wall_35 ?_
        refine j_iload_n (pc := 38) M.1 dX1_wall_38 1 rfl ?_
        obtain ⟨b1, hf⟩ := o_need hf
        obtain ⟨σ1, e1, hf⟩ := o_nx hf
        refine jm_iast (pc := 39) M ax_58 b1 dX1_wall_39 e1 ?_
        refine j_aload_n (pc := 40) M.1 dX1_wall_40 0 rfl ?_
        refine jm_getA (pc := 41) M fa_193 dX1_wall_41 ?_
        refine j_aload_n (pc := 44) M.1 dX1_wall_44 0 rfl ?_
        refine jm_getS (pc := 45) M fm_521 dX1_wall_45 ?_
        refine j_iload_n (pc := 48) M.1 dX1_wall_48 2 rfl ?_
        obtain ⟨b2, hf⟩ := o_need hf
        obtain ⟨σ2, e2, hf⟩ := o_nx hf
        refine jm_iast (pc := 49) M ax_59 b2 dX1_wall_49 e2 ?_
        refine j_aload_n (pc := 50) M.1 dX1_wall_50 0 rfl ?_
        refine j_aload_n (pc := 51) M.1 dX1_wall_51 0 rfl ?_
        refine jm_getS (pc := 52) M fm_521 dX1_wall_52 ?_
        refine j_iconst (pc := 55) M.1 dX1_wall_55 kc_iconst_1 ?_
        refine j_iadd (pc := 56) M.1 dX1_wall_56 ?_
        obtain ⟨σ3, e3, hf⟩ := o_nx hf
        refine jm_put (pc := 57) M fm_521 dX1_wall_57 e3 ?_
        refine j_aload_n (pc := 60) M.1 dX1_wall_60 0 rfl ?_
        refine jm_getS (pc := 61) M fm_521 dX1_wall_61 ?_
        refine j_iconst (pc := 64) M.1 dX1_wall_64 kc_iconst_1 ?_
        refine j_isub (pc := 65) M.1 dX1_wall_65 ?_
        exact jm_iret (pc := 66) M dX1_wall_66 hf
      · replace hf := o_pos c3 hf
        refine j_iconst (pc := 28) M.1 dX1_wall_28 kc_iconst_m1 ?_
        exact jm_iret (pc := 29) M dX1_wall_29 hf
end
theorem dX1_work_0 : decode cX1_work 0 = .ok (.aload_n 0, 1) := by decide +kernel
theorem dX1_work_1 : decode cX1_work 1 = .ok (.iload_n 1, 1) := by decide +kernel
theorem dX1_work_2 : decode cX1_work 2 = .ok (.invokevirtual 527, 3) := by decide +kernel
theorem dX1_work_5 : decode cX1_work 5 = .ok (.ifCond .eq 33, 3) := by decide +kernel
theorem dX1_work_8 : decode cX1_work 8 = .ok (.iload_n 2, 1) := by decide +kernel
theorem dX1_work_9 : decode cX1_work 9 = .ok (.iconst 1, 1) := by decide +kernel
theorem dX1_work_10 : decode cX1_work 10 = .ok (.sipush 10000, 3) := by decide +kernel
theorem dX1_work_13 : decode cX1_work 13 = .ok (.invokestatic 278, 3) := by decide +kernel
theorem dX1_work_16 : decode cX1_work 16 = .ok (.ifCond .eq 22, 3) := by decide +kernel
theorem dX1_work_19 : decode cX1_work 19 = .ok (.iload_n 3, 1) := by decide +kernel
theorem dX1_work_20 : decode cX1_work 20 = .ok (.iconst 1, 1) := by decide +kernel
theorem dX1_work_21 : decode cX1_work 21 = .ok (.bipush 100, 2) := by decide +kernel
theorem dX1_work_23 : decode cX1_work 23 = .ok (.invokestatic 278, 3) := by decide +kernel
theorem dX1_work_26 : decode cX1_work 26 = .ok (.ifCond .eq 12, 3) := by decide +kernel
theorem dX1_work_29 : decode cX1_work 29 = .ok (.aload_n 0, 1) := by decide +kernel
theorem dX1_work_30 : decode cX1_work 30 = .ok (.getfield 555, 3) := by decide +kernel
theorem dX1_work_33 : decode cX1_work 33 = .ok (.bipush 9, 2) := by decide +kernel
theorem dX1_work_35 : decode cX1_work 35 = .ok (.if_icmp .ne 5, 3) := by decide +kernel
theorem dX1_work_38 : decode cX1_work 38 = .ok (.iconst (-1), 1) := by decide +kernel
theorem dX1_work_39 : decode cX1_work 39 = .ok (.ireturn, 1) := by decide +kernel
theorem dX1_work_40 : decode cX1_work 40 = .ok (.aload_n 0, 1) := by decide +kernel
theorem dX1_work_41 : decode cX1_work 41 = .ok (.getfield 253, 3) := by decide +kernel
theorem dX1_work_44 : decode cX1_work 44 = .ok (.aload_n 0, 1) := by decide +kernel
theorem dX1_work_45 : decode cX1_work 45 = .ok (.getfield 555, 3) := by decide +kernel
theorem dX1_work_48 : decode cX1_work 48 = .ok (.iload_n 1, 1) := by decide +kernel
theorem dX1_work_49 : decode cX1_work 49 = .ok (.iastore, 1) := by decide +kernel
theorem dX1_work_50 : decode cX1_work 50 = .ok (.aload_n 0, 1) := by decide +kernel
theorem dX1_work_51 : decode cX1_work 51 = .ok (.getfield 256, 3) := by decide +kernel
theorem dX1_work_54 : decode cX1_work 54 = .ok (.aload_n 0, 1) := by decide +kernel
theorem dX1_work_55 : decode cX1_work 55 = .ok (.getfield 555, 3) := by decide +kernel
theorem dX1_work_58 : decode cX1_work 58 = .ok (.iload_n 2, 1) := by decide +kernel
theorem dX1_work_59 : decode cX1_work 59 = .ok (.iastore, 1) := by decide +kernel
theorem dX1_work_60 : decode cX1_work 60 = .ok (.aload_n 0, 1) := by decide +kernel
theorem dX1_work_61 : decode cX1_work 61 = .ok (.getfield 259, 3) := by decide +kernel
theorem dX1_work_64 : decode cX1_work 64 = .ok (.aload_n 0, 1) := by decide +kernel
theorem dX1_work_65 : decode cX1_work 65 = .ok (.getfield 555, 3) := by decide +kernel
theorem dX1_work_68 : decode cX1_work 68 = .ok (.iload_n 3, 1) := by decide +kernel
theorem dX1_work_69 : decode cX1_work 69 = .ok (.iastore, 1) := by decide +kernel
theorem dX1_work_70 : decode cX1_work 70 = .ok (.aload_n 0, 1) := by decide +kernel
theorem dX1_work_71 : decode cX1_work 71 = .ok (.aload_n 0, 1) := by decide +kernel
theorem dX1_work_72 : decode cX1_work 72 = .ok (.getfield 555, 3) := by decide +kernel
theorem dX1_work_75 : decode cX1_work 75 = .ok (.iconst 1, 1) := by decide +kernel
theorem dX1_work_76 : decode cX1_work 76 = .ok (.iadd, 1) := by decide +kernel
theorem dX1_work_77 : decode cX1_work 77 = .ok (.putfield 555, 3) := by decide +kernel
theorem dX1_work_80 : decode cX1_work 80 = .ok (.aload_n 0, 1) := by decide +kernel
theorem dX1_work_81 : decode cX1_work 81 = .ok (.getfield 555, 3) := by decide +kernel
theorem dX1_work_84 : decode cX1_work 84 = .ok (.iconst 1, 1) := by decide +kernel
theorem dX1_work_85 : decode cX1_work 85 = .ok (.isub, 1) := by decide +kernel
theorem dX1_work_86 : decode cX1_work 86 = .ok (.ireturn, 1) := by decide +kernel
section
variable {res : Int32 × MS}
noncomputable def m_work (F : Nat) (x1 x2 x3 : Int32) (σ : MS) : Option (Int32 × MS) :=
  (m_isWall F x1 σ).bind (fun r1 => if r1.1 = 0 then (some ((-1), r1.2)) else ((m_in F x2 1 10000).bind (fun r2 => if r2 = 0 then (some ((-1), r1.2)) else ((m_in F x3 1 100).bind (fun r3 => if r3 = 0 then (some ((-1), r1.2)) else (if (r1.2.1 101) = 9 then (some ((-1), r1.2)) else (if okI (r1.2.1 101) 9 = true then nx (sA r1.2 79 (r1.2.1 101).toNatClampNeg x1) (fun σ1 => if okI (σ1.1 101) 9 = true then nx (sA σ1 80 (σ1.1 101).toNatClampNeg x2) (fun σ2 => if okI (σ2.1 101) 9 = true then nx (sA σ2 81 (σ2.1 101).toNatClampNeg x3) (fun σ3 => nx (sS σ3 101 ((σ3.1 101) + 1)) (fun σ4 => some ((σ4.1 101) - 1, σ4))) else none) else none) else none)))))))
theorem met_work {l : Launch} {G : gG} {o F : Nat} {x1 x2 x3 : Int32} {σ : MS} {res : Int32 × MS} (hf : m_work F x1 x2 x3 σ = some res) : MetMi l G yX1_work cX1_work 4 (some .int) 2 o [.int x1, .int x2, .int x3] σ res := by
  refine metMi_of (by decide) rfl rfl (fun γ hγ M => ?_)
  subst hγ
  show J γ (MW G o σ) 0 0 0 [(0, .ref o), (1, .int x1), (2, .int x2), (3, .int x3)] []
  unfold m_work at hf
  refine j_aload_n (pc := 0) M.1 dX1_work_0 0 rfl ?_
  refine j_iload_n (pc := 1) M.1 dX1_work_1 1 rfl ?_
  obtain ⟨r1, g1, hf⟩ := o_bind hf
  refine jm_calli (pc := 2) (As := [.int x1]) (rest := []) M cm_527 (met_isWall g1) rfl rfl rfl rfl dX1_work_2 ?_
  refine j_if_eq (pc := 5) M.1 38 dX1_work_5 rfl (fun c1 => ?_) (fun c1 => ?_)
  · replace hf := o_pos c1 hf
    refine j_iconst (pc := 38) M.1 dX1_work_38 kc_iconst_m1 ?_
    exact jm_iret (pc := 39) M dX1_work_39 hf
  · replace hf := o_neg c1 hf
    refine j_iload_n (pc := 8) M.1 dX1_work_8 2 rfl ?_
    refine j_iconst (pc := 9) M.1 dX1_work_9 kc_iconst_1 ?_
    refine j_sipush (pc := 10) M.1 dX1_work_10 kc_sipush_10000 ?_
    obtain ⟨r2, g2, hf⟩ := o_bind hf
    refine jm_calls (pc := 13) (As := [.int x2, .int 1, .int 10000]) (rest := []) M cs_X1_278 (met_in g2) rfl rfl rfl rfl dX1_work_13 ?_
    refine j_if_eq (pc := 16) M.1 38 dX1_work_16 rfl (fun c2 => ?_) (fun c2 => ?_)
    · replace hf := o_pos c2 hf
      refine j_iconst (pc := 38) M.1 dX1_work_38 kc_iconst_m1 ?_
      exact jm_iret (pc := 39) M dX1_work_39 hf
    · replace hf := o_neg c2 hf
      refine j_iload_n (pc := 19) M.1 dX1_work_19 3 rfl ?_
      refine j_iconst (pc := 20) M.1 dX1_work_20 kc_iconst_1 ?_
      refine j_bipush (pc := 21) M.1 dX1_work_21 kc_bipush_100 ?_
      obtain ⟨r3, g3, hf⟩ := o_bind hf
      refine jm_calls (pc := 23) (As := [.int x3, .int 1, .int 100]) (rest := []) M cs_X1_278 (met_in g3) rfl rfl rfl rfl dX1_work_23 ?_
      refine j_if_eq (pc := 26) M.1 38 dX1_work_26 rfl (fun c3 => ?_) (fun c3 => ?_)
      · replace hf := o_pos c3 hf
        refine j_iconst (pc := 38) M.1 dX1_work_38 kc_iconst_m1 ?_
        exact jm_iret (pc := 39) M dX1_work_39 hf
      · replace hf := o_neg c3 hf
        refine j_aload_n (pc := 29) M.1 dX1_work_29 0 rfl ?_
        refine jm_getS (pc := 30) M fm_555 dX1_work_30 ?_
        refine j_bipush (pc := 33) M.1 dX1_work_33 kc_bipush_9 ?_
        refine j_icmp_ne (pc := 35) M.1 40 dX1_work_35 rfl (fun c4 => ?_) (fun c4 => ?_)
        · replace hf := o_neg c4 hf
          refine j_aload_n (pc := 40) M.1 dX1_work_40 0 rfl ?_
          refine jm_getA (pc := 41) M fa_253 dX1_work_41 ?_
          refine j_aload_n (pc := 44) M.1 dX1_work_44 0 rfl ?_
          refine jm_getS (pc := 45) M fm_555 dX1_work_45 ?_
          refine j_iload_n (pc := 48) M.1 dX1_work_48 1 rfl ?_
          obtain ⟨b1, hf⟩ := o_need hf
          obtain ⟨σ1, e1, hf⟩ := o_nx hf
          refine jm_iast (pc := 49) M ax_79 b1 dX1_work_49 e1 ?_
          refine j_aload_n (pc := 50) M.1 dX1_work_50 0 rfl ?_
          refine jm_getA (pc := 51) M fa_256 dX1_work_51 ?_
          refine j_aload_n (pc := 54) M.1 dX1_work_54 0 rfl ?_
          refine jm_getS (pc := 55) M fm_555 dX1_work_55 ?_
          refine j_iload_n (pc := 58) M.1 dX1_work_58 2 rfl ?_
          obtain ⟨b2, hf⟩ := o_need hf
          obtain ⟨σ2, e2, hf⟩ := o_nx hf
          refine jm_iast (pc := 59) M ax_80 b2 dX1_work_59 e2 ?_
          refine j_aload_n (pc := 60) M.1 dX1_work_60 0 rfl ?_
          refine jm_getA (pc := 61) M fa_259 dX1_work_61 ?_
          refine j_aload_n (pc := 64) M.1 dX1_work_64 0 rfl ?_
          refine jm_getS (pc := 65) M fm_555 dX1_work_65 ?_
          refine j_iload_n (pc := 68) M.1 dX1_work_68 3 rfl ?_
          obtain ⟨b3, hf⟩ := o_need hf
          obtain ⟨σ3, e3, hf⟩ := o_nx hf
          refine jm_iast (pc := 69) M ax_81 b3 dX1_work_69 e3 ?_
          refine j_aload_n (pc := 70) M.1 dX1_work_70 0 rfl ?_
          refine j_aload_n (pc := 71) M.1 dX1_work_71 0 rfl ?_
          refine jm_getS (pc := 72) M fm_555 dX1_work_72 ?_
          refine j_iconst (pc := 75) M.1 dX1_work_75 kc_iconst_1 ?_
          refine j_iadd (pc := 76) M.1 dX1_work_76 ?_
          obtain ⟨σ4, e4, hf⟩ := o_nx hf
          refine jm_put (pc := 77) M fm_555 dX1_work_77 e4 ?_
          refine j_aload_n (pc := 80) M.1 dX1_work_80 0 rfl ?_
          refine jm_getS (pc := 81) M fm_555 dX1_work_81 ?_
          refine j_iconst (pc := 84) M.1 dX1_work_84 kc_iconst_1 ?_
          refine j_isub (pc := 85) M.1 dX1_work_85 ?_
          exact jm_iret (pc := 86) M dX1_work_86 hf
        · replace hf := o_pos c4 hf
          refine j_iconst (pc := 38) M.1 dX1_work_38 kc_iconst_m1 ?_
          exact jm_iret (pc := 39) M dX1_work_39 hf
end
theorem dX1_dig_0 : decode cX1_dig 0 = .ok (.iload_n 1, 1) := by decide +kernel
theorem dX1_dig_1 : decode cX1_dig 1 = .ok (.iconst 0, 1) := by decide +kernel
theorem dX1_dig_2 : decode cX1_dig 2 = .ok (.bipush 7, 2) := by decide +kernel
theorem dX1_dig_4 : decode cX1_dig 4 = .ok (.invokestatic 278, 3) := by decide +kernel
theorem dX1_dig_7 : decode cX1_dig 7 = .ok (.ifCond .eq 87, 3) := by decide +kernel
theorem dX1_dig_10 : decode cX1_dig 10 = .ok (.iload_n 2, 1) := by decide +kernel
theorem dX1_dig_11 : decode cX1_dig 11 = .ok (.iconst 0, 1) := by decide +kernel
theorem dX1_dig_12 : decode cX1_dig 12 = .ok (.iconst 2, 1) := by decide +kernel
theorem dX1_dig_13 : decode cX1_dig 13 = .ok (.invokestatic 278, 3) := by decide +kernel
theorem dX1_dig_16 : decode cX1_dig 16 = .ok (.ifCond .eq 78, 3) := by decide +kernel
theorem dX1_dig_19 : decode cX1_dig 19 = .ok (.aload_n 0, 1) := by decide +kernel
theorem dX1_dig_20 : decode cX1_dig 20 = .ok (.iload_n 3, 1) := by decide +kernel
theorem dX1_dig_21 : decode cX1_dig 21 = .ok (.iload 4, 2) := by decide +kernel
theorem dX1_dig_23 : decode cX1_dig 23 = .ok (.invokevirtual 298, 3) := by decide +kernel
theorem dX1_dig_26 : decode cX1_dig 26 = .ok (.ifCond .eq 68, 3) := by decide +kernel
theorem dX1_dig_29 : decode cX1_dig 29 = .ok (.iload 5, 2) := by decide +kernel
theorem dX1_dig_31 : decode cX1_dig 31 = .ok (.invokestatic 305, 3) := by decide +kernel
theorem dX1_dig_34 : decode cX1_dig 34 = .ok (.ifCond .eq 60, 3) := by decide +kernel
theorem dX1_dig_37 : decode cX1_dig 37 = .ok (.iload 6, 2) := by decide +kernel
theorem dX1_dig_39 : decode cX1_dig 39 = .ok (.iload 5, 2) := by decide +kernel
theorem dX1_dig_41 : decode cX1_dig 41 = .ok (.bipush 7, 2) := by decide +kernel
theorem dX1_dig_43 : decode cX1_dig 43 = .ok (.invokestatic 278, 3) := by decide +kernel
theorem dX1_dig_46 : decode cX1_dig 46 = .ok (.ifCond .eq 48, 3) := by decide +kernel
theorem dX1_dig_49 : decode cX1_dig 49 = .ok (.iload_n 2, 1) := by decide +kernel
theorem dX1_dig_50 : decode cX1_dig 50 = .ok (.ifCond .ne 8, 3) := by decide +kernel
theorem dX1_dig_53 : decode cX1_dig 53 = .ok (.iload 5, 2) := by decide +kernel
theorem dX1_dig_55 : decode cX1_dig 55 = .ok (.ifCond .ne 39, 3) := by decide +kernel
theorem dX1_dig_58 : decode cX1_dig 58 = .ok (.iload 7, 2) := by decide +kernel
theorem dX1_dig_60 : decode cX1_dig 60 = .ok (.iconst 0, 1) := by decide +kernel
theorem dX1_dig_61 : decode cX1_dig 61 = .ok (.aload_n 0, 1) := by decide +kernel
theorem dX1_dig_62 : decode cX1_dig 62 = .ok (.getfield 291, 3) := by decide +kernel
theorem dX1_dig_65 : decode cX1_dig 65 = .ok (.invokestatic 278, 3) := by decide +kernel
theorem dX1_dig_68 : decode cX1_dig 68 = .ok (.ifCond .eq 26, 3) := by decide +kernel
theorem dX1_dig_71 : decode cX1_dig 71 = .ok (.iload 8, 2) := by decide +kernel
theorem dX1_dig_73 : decode cX1_dig 73 = .ok (.iload 7, 2) := by decide +kernel
theorem dX1_dig_75 : decode cX1_dig 75 = .ok (.aload_n 0, 1) := by decide +kernel
theorem dX1_dig_76 : decode cX1_dig 76 = .ok (.getfield 291, 3) := by decide +kernel
theorem dX1_dig_79 : decode cX1_dig 79 = .ok (.invokestatic 278, 3) := by decide +kernel
theorem dX1_dig_82 : decode cX1_dig 82 = .ok (.ifCond .eq 12, 3) := by decide +kernel
theorem dX1_dig_85 : decode cX1_dig 85 = .ok (.aload_n 0, 1) := by decide +kernel
theorem dX1_dig_86 : decode cX1_dig 86 = .ok (.getfield 285, 3) := by decide +kernel
theorem dX1_dig_89 : decode cX1_dig 89 = .ok (.bipush 100, 2) := by decide +kernel
theorem dX1_dig_91 : decode cX1_dig 91 = .ok (.if_icmp .ne 5, 3) := by decide +kernel
theorem dX1_dig_94 : decode cX1_dig 94 = .ok (.iconst (-1), 1) := by decide +kernel
theorem dX1_dig_95 : decode cX1_dig 95 = .ok (.ireturn, 1) := by decide +kernel
theorem dX1_dig_96 : decode cX1_dig 96 = .ok (.aload_n 0, 1) := by decide +kernel
theorem dX1_dig_97 : decode cX1_dig 97 = .ok (.getfield 25, 3) := by decide +kernel
theorem dX1_dig_100 : decode cX1_dig 100 = .ok (.aload_n 0, 1) := by decide +kernel
theorem dX1_dig_101 : decode cX1_dig 101 = .ok (.getfield 285, 3) := by decide +kernel
theorem dX1_dig_104 : decode cX1_dig 104 = .ok (.iload_n 1, 1) := by decide +kernel
theorem dX1_dig_105 : decode cX1_dig 105 = .ok (.iastore, 1) := by decide +kernel
theorem dX1_dig_106 : decode cX1_dig 106 = .ok (.aload_n 0, 1) := by decide +kernel
theorem dX1_dig_107 : decode cX1_dig 107 = .ok (.getfield 28, 3) := by decide +kernel
theorem dX1_dig_110 : decode cX1_dig 110 = .ok (.aload_n 0, 1) := by decide +kernel
theorem dX1_dig_111 : decode cX1_dig 111 = .ok (.getfield 285, 3) := by decide +kernel
theorem dX1_dig_114 : decode cX1_dig 114 = .ok (.iload_n 2, 1) := by decide +kernel
theorem dX1_dig_115 : decode cX1_dig 115 = .ok (.iastore, 1) := by decide +kernel
theorem dX1_dig_116 : decode cX1_dig 116 = .ok (.aload_n 0, 1) := by decide +kernel
theorem dX1_dig_117 : decode cX1_dig 117 = .ok (.getfield 31, 3) := by decide +kernel
theorem dX1_dig_120 : decode cX1_dig 120 = .ok (.aload_n 0, 1) := by decide +kernel
theorem dX1_dig_121 : decode cX1_dig 121 = .ok (.getfield 285, 3) := by decide +kernel
theorem dX1_dig_124 : decode cX1_dig 124 = .ok (.iload_n 3, 1) := by decide +kernel
theorem dX1_dig_125 : decode cX1_dig 125 = .ok (.iastore, 1) := by decide +kernel
theorem dX1_dig_126 : decode cX1_dig 126 = .ok (.aload_n 0, 1) := by decide +kernel
theorem dX1_dig_127 : decode cX1_dig 127 = .ok (.getfield 34, 3) := by decide +kernel
theorem dX1_dig_130 : decode cX1_dig 130 = .ok (.aload_n 0, 1) := by decide +kernel
theorem dX1_dig_131 : decode cX1_dig 131 = .ok (.getfield 285, 3) := by decide +kernel
theorem dX1_dig_134 : decode cX1_dig 134 = .ok (.iload 4, 2) := by decide +kernel
theorem dX1_dig_136 : decode cX1_dig 136 = .ok (.iastore, 1) := by decide +kernel
theorem dX1_dig_137 : decode cX1_dig 137 = .ok (.aload_n 0, 1) := by decide +kernel
theorem dX1_dig_138 : decode cX1_dig 138 = .ok (.getfield 37, 3) := by decide +kernel
theorem dX1_dig_141 : decode cX1_dig 141 = .ok (.aload_n 0, 1) := by decide +kernel
theorem dX1_dig_142 : decode cX1_dig 142 = .ok (.getfield 285, 3) := by decide +kernel
theorem dX1_dig_145 : decode cX1_dig 145 = .ok (.iload 5, 2) := by decide +kernel
theorem dX1_dig_147 : decode cX1_dig 147 = .ok (.iastore, 1) := by decide +kernel
theorem dX1_dig_148 : decode cX1_dig 148 = .ok (.aload_n 0, 1) := by decide +kernel
theorem dX1_dig_149 : decode cX1_dig 149 = .ok (.getfield 40, 3) := by decide +kernel
theorem dX1_dig_152 : decode cX1_dig 152 = .ok (.aload_n 0, 1) := by decide +kernel
theorem dX1_dig_153 : decode cX1_dig 153 = .ok (.getfield 285, 3) := by decide +kernel
theorem dX1_dig_156 : decode cX1_dig 156 = .ok (.iload 6, 2) := by decide +kernel
theorem dX1_dig_158 : decode cX1_dig 158 = .ok (.iastore, 1) := by decide +kernel
theorem dX1_dig_159 : decode cX1_dig 159 = .ok (.aload_n 0, 1) := by decide +kernel
theorem dX1_dig_160 : decode cX1_dig 160 = .ok (.getfield 43, 3) := by decide +kernel
theorem dX1_dig_163 : decode cX1_dig 163 = .ok (.aload_n 0, 1) := by decide +kernel
theorem dX1_dig_164 : decode cX1_dig 164 = .ok (.getfield 285, 3) := by decide +kernel
theorem dX1_dig_167 : decode cX1_dig 167 = .ok (.iload 7, 2) := by decide +kernel
theorem dX1_dig_169 : decode cX1_dig 169 = .ok (.iastore, 1) := by decide +kernel
theorem dX1_dig_170 : decode cX1_dig 170 = .ok (.aload_n 0, 1) := by decide +kernel
theorem dX1_dig_171 : decode cX1_dig 171 = .ok (.getfield 46, 3) := by decide +kernel
theorem dX1_dig_174 : decode cX1_dig 174 = .ok (.aload_n 0, 1) := by decide +kernel
theorem dX1_dig_175 : decode cX1_dig 175 = .ok (.getfield 285, 3) := by decide +kernel
theorem dX1_dig_178 : decode cX1_dig 178 = .ok (.iload 8, 2) := by decide +kernel
theorem dX1_dig_180 : decode cX1_dig 180 = .ok (.iastore, 1) := by decide +kernel
theorem dX1_dig_181 : decode cX1_dig 181 = .ok (.aload_n 0, 1) := by decide +kernel
theorem dX1_dig_182 : decode cX1_dig 182 = .ok (.getfield 49, 3) := by decide +kernel
theorem dX1_dig_185 : decode cX1_dig 185 = .ok (.aload_n 0, 1) := by decide +kernel
theorem dX1_dig_186 : decode cX1_dig 186 = .ok (.getfield 285, 3) := by decide +kernel
theorem dX1_dig_189 : decode cX1_dig 189 = .ok (.aload_n 0, 1) := by decide +kernel
theorem dX1_dig_190 : decode cX1_dig 190 = .ok (.getfield 291, 3) := by decide +kernel
theorem dX1_dig_193 : decode cX1_dig 193 = .ok (.iastore, 1) := by decide +kernel
theorem dX1_dig_194 : decode cX1_dig 194 = .ok (.aload_n 0, 1) := by decide +kernel
theorem dX1_dig_195 : decode cX1_dig 195 = .ok (.getfield 52, 3) := by decide +kernel
theorem dX1_dig_198 : decode cX1_dig 198 = .ok (.aload_n 0, 1) := by decide +kernel
theorem dX1_dig_199 : decode cX1_dig 199 = .ok (.getfield 285, 3) := by decide +kernel
theorem dX1_dig_202 : decode cX1_dig 202 = .ok (.iconst (-1), 1) := by decide +kernel
theorem dX1_dig_203 : decode cX1_dig 203 = .ok (.iastore, 1) := by decide +kernel
theorem dX1_dig_204 : decode cX1_dig 204 = .ok (.aload_n 0, 1) := by decide +kernel
theorem dX1_dig_205 : decode cX1_dig 205 = .ok (.aload_n 0, 1) := by decide +kernel
theorem dX1_dig_206 : decode cX1_dig 206 = .ok (.getfield 285, 3) := by decide +kernel
theorem dX1_dig_209 : decode cX1_dig 209 = .ok (.iconst 1, 1) := by decide +kernel
theorem dX1_dig_210 : decode cX1_dig 210 = .ok (.iadd, 1) := by decide +kernel
theorem dX1_dig_211 : decode cX1_dig 211 = .ok (.putfield 285, 3) := by decide +kernel
theorem dX1_dig_214 : decode cX1_dig 214 = .ok (.aload_n 0, 1) := by decide +kernel
theorem dX1_dig_215 : decode cX1_dig 215 = .ok (.getfield 285, 3) := by decide +kernel
theorem dX1_dig_218 : decode cX1_dig 218 = .ok (.iconst 1, 1) := by decide +kernel
theorem dX1_dig_219 : decode cX1_dig 219 = .ok (.isub, 1) := by decide +kernel
theorem dX1_dig_220 : decode cX1_dig 220 = .ok (.ireturn, 1) := by decide +kernel
section
variable {res : Int32 × MS}
noncomputable def m_dig_58 (F : Nat) (x1 x2 x3 x4 x5 x6 x7 x8 : Int32) (σ : MS) : Option (Int32 × MS) :=
  (m_in F x7 0 (σ.1 2)).bind (fun r1 => if r1 = 0 then (some ((-1), σ)) else ((m_in F x8 x7 (σ.1 2)).bind (fun r2 => if r2 = 0 then (some ((-1), σ)) else (if (σ.1 4) = 100 then (some ((-1), σ)) else (if okI (σ.1 4) 100 = true then nx (sA σ 5 (σ.1 4).toNatClampNeg x1) (fun σ1 => if okI (σ1.1 4) 100 = true then nx (sA σ1 6 (σ1.1 4).toNatClampNeg x2) (fun σ2 => if okI (σ2.1 4) 100 = true then nx (sA σ2 7 (σ2.1 4).toNatClampNeg x3) (fun σ3 => if okI (σ3.1 4) 100 = true then nx (sA σ3 8 (σ3.1 4).toNatClampNeg x4) (fun σ4 => if okI (σ4.1 4) 100 = true then nx (sA σ4 9 (σ4.1 4).toNatClampNeg x5) (fun σ5 => if okI (σ5.1 4) 100 = true then nx (sA σ5 10 (σ5.1 4).toNatClampNeg x6) (fun σ6 => if okI (σ6.1 4) 100 = true then nx (sA σ6 11 (σ6.1 4).toNatClampNeg x7) (fun σ7 => if okI (σ7.1 4) 100 = true then nx (sA σ7 12 (σ7.1 4).toNatClampNeg x8) (fun σ8 => if okI (σ8.1 4) 100 = true then nx (sA σ8 13 (σ8.1 4).toNatClampNeg (σ8.1 2)) (fun σ9 => if okI (σ9.1 4) 100 = true then nx (sA σ9 14 (σ9.1 4).toNatClampNeg ((-1))) (fun σ10 => nx (sS σ10 4 ((σ10.1 4) + 1)) (fun σ11 => some ((σ11.1 4) - 1, σ11))) else none) else none) else none) else none) else none) else none) else none) else none) else none) else none)))))
theorem km_dig_58 (M : MC γ cX1_dig 9 G o 3 (some .int) (mQi G o res)) (x1 x2 x3 x4 x5 x6 x7 x8 : Int32) (σ : MS) (hf : m_dig_58 F x1 x2 x3 x4 x5 x6 x7 x8 σ = some res) : J γ (MW G o σ) 0 0 58 [(0, .ref o), (1, .int x1), (2, .int x2), (3, .int x3), (4, .int x4), (5, .int x5), (6, .int x6), (7, .int x7), (8, .int x8)] [] := by
  unfold m_dig_58 at hf
  refine j_iload (pc := 58) M.1 dX1_dig_58 7 rfl ?_
  refine j_iconst (pc := 60) M.1 dX1_dig_60 kc_iconst_0 ?_
  refine j_aload_n (pc := 61) M.1 dX1_dig_61 0 rfl ?_
  refine jm_getS (pc := 62) M fm_291 dX1_dig_62 ?_
  obtain ⟨r1, g1, hf⟩ := o_bind hf
  refine jm_calls (pc := 65) (As := [.int x7, .int 0, .int (σ.1 2)]) (rest := []) M cs_X1_278 (met_in g1) rfl rfl rfl rfl dX1_dig_65 ?_
  refine j_if_eq (pc := 68) M.1 94 dX1_dig_68 rfl (fun c1 => ?_) (fun c1 => ?_)
  · replace hf := o_pos c1 hf
    refine j_iconst (pc := 94) M.1 dX1_dig_94 kc_iconst_m1 ?_
    exact jm_iret (pc := 95) M dX1_dig_95 hf
  · replace hf := o_neg c1 hf
    refine j_iload (pc := 71) M.1 dX1_dig_71 8 rfl ?_
    refine j_iload (pc := 73) M.1 dX1_dig_73 7 rfl ?_
    refine j_aload_n (pc := 75) M.1 dX1_dig_75 0 rfl ?_
    refine jm_getS (pc := 76) M fm_291 dX1_dig_76 ?_
    obtain ⟨r2, g2, hf⟩ := o_bind hf
    refine jm_calls (pc := 79) (As := [.int x8, .int x7, .int (σ.1 2)]) (rest := []) M cs_X1_278 (met_in g2) rfl rfl rfl rfl dX1_dig_79 ?_
    refine j_if_eq (pc := 82) M.1 94 dX1_dig_82 rfl (fun c2 => ?_) (fun c2 => ?_)
    · replace hf := o_pos c2 hf
      refine j_iconst (pc := 94) M.1 dX1_dig_94 kc_iconst_m1 ?_
      exact jm_iret (pc := 95) M dX1_dig_95 hf
    · replace hf := o_neg c2 hf
      refine j_aload_n (pc := 85) M.1 dX1_dig_85 0 rfl ?_
      refine jm_getS (pc := 86) M fm_285 dX1_dig_86 ?_
      refine j_bipush (pc := 89) M.1 dX1_dig_89 kc_bipush_100 ?_
      refine j_icmp_ne (pc := 91) M.1 96 dX1_dig_91 rfl (fun c3 => ?_) (fun c3 => ?_)
      · replace hf := o_neg c3 hf
        refine j_aload_n (pc := 96) M.1 dX1_dig_96 0 rfl ?_
        refine jm_getA (pc := 97) M fa_25 dX1_dig_97 ?_
        refine j_aload_n (pc := 100) M.1 dX1_dig_100 0 rfl ?_
        refine jm_getS (pc := 101) M fm_285 dX1_dig_101 ?_
        refine j_iload_n (pc := 104) M.1 dX1_dig_104 1 rfl ?_
        obtain ⟨b1, hf⟩ := o_need hf
        obtain ⟨σ1, e1, hf⟩ := o_nx hf
        refine jm_iast (pc := 105) M ax_5 b1 dX1_dig_105 e1 ?_
        refine j_aload_n (pc := 106) M.1 dX1_dig_106 0 rfl ?_
        refine jm_getA (pc := 107) M fa_28 dX1_dig_107 ?_
        refine j_aload_n (pc := 110) M.1 dX1_dig_110 0 rfl ?_
        refine jm_getS (pc := 111) M fm_285 dX1_dig_111 ?_
        refine j_iload_n (pc := 114) M.1 dX1_dig_114 2 rfl ?_
        obtain ⟨b2, hf⟩ := o_need hf
        obtain ⟨σ2, e2, hf⟩ := o_nx hf
        refine jm_iast (pc := 115) M ax_6 b2 dX1_dig_115 e2 ?_
        refine j_aload_n (pc := 116) M.1 dX1_dig_116 0 rfl ?_
        refine jm_getA (pc := 117) M fa_31 dX1_dig_117 ?_
        refine j_aload_n (pc := 120) M.1 dX1_dig_120 0 rfl ?_
        refine jm_getS (pc := 121) M fm_285 dX1_dig_121 ?_
        refine j_iload_n (pc := 124) M.1 dX1_dig_124 3 rfl ?_
        obtain ⟨b3, hf⟩ := o_need hf
        obtain ⟨σ3, e3, hf⟩ := o_nx hf
        refine jm_iast (pc := 125) M ax_7 b3 dX1_dig_125 e3 ?_
        refine j_aload_n (pc := 126) M.1 dX1_dig_126 0 rfl ?_
        refine jm_getA (pc := 127) M fa_34 dX1_dig_127 ?_
        refine j_aload_n (pc := 130) M.1 dX1_dig_130 0 rfl ?_
        refine jm_getS (pc := 131) M fm_285 dX1_dig_131 ?_
        refine j_iload (pc := 134) M.1 dX1_dig_134 4 rfl ?_
        obtain ⟨b4, hf⟩ := o_need hf
        obtain ⟨σ4, e4, hf⟩ := o_nx hf
        refine jm_iast (pc := 136) M ax_8 b4 dX1_dig_136 e4 ?_
        refine j_aload_n (pc := 137) M.1 dX1_dig_137 0 rfl ?_
        refine jm_getA (pc := 138) M fa_37 dX1_dig_138 ?_
        refine j_aload_n (pc := 141) M.1 dX1_dig_141 0 rfl ?_
        refine jm_getS (pc := 142) M fm_285 dX1_dig_142 ?_
        refine j_iload (pc := 145) M.1 dX1_dig_145 5 rfl ?_
        obtain ⟨b5, hf⟩ := o_need hf
        obtain ⟨σ5, e5, hf⟩ := o_nx hf
        refine jm_iast (pc := 147) M ax_9 b5 dX1_dig_147 e5 ?_
        refine j_aload_n (pc := 148) M.1 dX1_dig_148 0 rfl ?_
        refine jm_getA (pc := 149) M fa_40 dX1_dig_149 ?_
        refine j_aload_n (pc := 152) M.1 dX1_dig_152 0 rfl ?_
        refine jm_getS (pc := 153) M fm_285 dX1_dig_153 ?_
        refine j_iload (pc := 156) M.1 dX1_dig_156 6 rfl ?_
        obtain ⟨b6, hf⟩ := o_need hf
        obtain ⟨σ6, e6, hf⟩ := o_nx hf
        refine jm_iast (pc := 158) M ax_10 b6 dX1_dig_158 e6 ?_
        refine j_aload_n (pc := 159) M.1 dX1_dig_159 0 rfl ?_
        refine jm_getA (pc := 160) M fa_43 dX1_dig_160 ?_
        refine j_aload_n (pc := 163) M.1 dX1_dig_163 0 rfl ?_
        refine jm_getS (pc := 164) M fm_285 dX1_dig_164 ?_
        refine j_iload (pc := 167) M.1 dX1_dig_167 7 rfl ?_
        obtain ⟨b7, hf⟩ := o_need hf
        obtain ⟨σ7, e7, hf⟩ := o_nx hf
        refine jm_iast (pc := 169) M ax_11 b7 dX1_dig_169 e7 ?_
        refine j_aload_n (pc := 170) M.1 dX1_dig_170 0 rfl ?_
        refine jm_getA (pc := 171) M fa_46 dX1_dig_171 ?_
        refine j_aload_n (pc := 174) M.1 dX1_dig_174 0 rfl ?_
        refine jm_getS (pc := 175) M fm_285 dX1_dig_175 ?_
        refine j_iload (pc := 178) M.1 dX1_dig_178 8 rfl ?_
        obtain ⟨b8, hf⟩ := o_need hf
        obtain ⟨σ8, e8, hf⟩ := o_nx hf
        refine jm_iast (pc := 180) M ax_12 b8 dX1_dig_180 e8 ?_
        refine j_aload_n (pc := 181) M.1 dX1_dig_181 0 rfl ?_
        refine jm_getA (pc := 182) M fa_49 dX1_dig_182 ?_
        refine j_aload_n (pc := 185) M.1 dX1_dig_185 0 rfl ?_
        refine jm_getS (pc := 186) M fm_285 dX1_dig_186 ?_
        refine j_aload_n (pc := 189) M.1 dX1_dig_189 0 rfl ?_
        refine jm_getS (pc := 190) M fm_291 dX1_dig_190 ?_
        obtain ⟨b9, hf⟩ := o_need hf
        obtain ⟨σ9, e9, hf⟩ := o_nx hf
        refine jm_iast (pc := 193) M ax_13 b9 dX1_dig_193 e9 ?_
        refine j_aload_n (pc := 194) M.1 dX1_dig_194 0 rfl ?_
        refine jm_getA (pc := 195) M fa_52 dX1_dig_195 ?_
        refine j_aload_n (pc := 198) M.1 dX1_dig_198 0 rfl ?_
        refine jm_getS (pc := 199) M fm_285 dX1_dig_199 ?_
        refine j_iconst (pc := 202) M.1 dX1_dig_202 kc_iconst_m1 ?_
        obtain ⟨b10, hf⟩ := o_need hf
        obtain ⟨σ10, e10, hf⟩ := o_nx hf
        refine jm_iast (pc := 203) M ax_14 b10 dX1_dig_203 e10 ?_
        refine j_aload_n (pc := 204) M.1 dX1_dig_204 0 rfl ?_
        refine j_aload_n (pc := 205) M.1 dX1_dig_205 0 rfl ?_
        refine jm_getS (pc := 206) M fm_285 dX1_dig_206 ?_
        refine j_iconst (pc := 209) M.1 dX1_dig_209 kc_iconst_1 ?_
        refine j_iadd (pc := 210) M.1 dX1_dig_210 ?_
        obtain ⟨σ11, e11, hf⟩ := o_nx hf
        refine jm_put (pc := 211) M fm_285 dX1_dig_211 e11 ?_
        refine j_aload_n (pc := 214) M.1 dX1_dig_214 0 rfl ?_
        refine jm_getS (pc := 215) M fm_285 dX1_dig_215 ?_
        refine j_iconst (pc := 218) M.1 dX1_dig_218 kc_iconst_1 ?_
        refine j_isub (pc := 219) M.1 dX1_dig_219 ?_
        exact jm_iret (pc := 220) M dX1_dig_220 hf
      · replace hf := o_pos c3 hf
        refine j_iconst (pc := 94) M.1 dX1_dig_94 kc_iconst_m1 ?_
        exact jm_iret (pc := 95) M dX1_dig_95 hf
noncomputable def m_dig (F : Nat) (x1 x2 x3 x4 x5 x6 x7 x8 : Int32) (σ : MS) : Option (Int32 × MS) :=
  (m_in F x1 0 7).bind (fun r1 => if r1 = 0 then (some ((-1), σ)) else ((m_in F x2 0 2).bind (fun r2 => if r2 = 0 then (some ((-1), σ)) else ((m_isRectangle F x3 x4 σ).bind (fun r3 => if r3.1 = 0 then (some ((-1), r3.2)) else ((m_isLayer F x5).bind (fun r4 => if r4 = 0 then (some ((-1), r3.2)) else ((m_in F x6 x5 7).bind (fun r5 => if r5 = 0 then (some ((-1), r3.2)) else (if x2 = 0 then (if x5 = 0 then (m_dig_58 F x1 x2 x3 x4 x5 x6 x7 x8 r3.2) else (some ((-1), r3.2))) else (m_dig_58 F x1 x2 x3 x4 x5 x6 x7 x8 r3.2)))))))))))
theorem met_dig {l : Launch} {G : gG} {o F : Nat} {x1 x2 x3 x4 x5 x6 x7 x8 : Int32} {σ : MS} {res : Int32 × MS} (hf : m_dig F x1 x2 x3 x4 x5 x6 x7 x8 σ = some res) : MetMi l G yX1_dig cX1_dig 9 (some .int) 3 o [.int x1, .int x2, .int x3, .int x4, .int x5, .int x6, .int x7, .int x8] σ res := by
  refine metMi_of (by decide) rfl rfl (fun γ hγ M => ?_)
  subst hγ
  show J γ (MW G o σ) 0 0 0 [(0, .ref o), (1, .int x1), (2, .int x2), (3, .int x3), (4, .int x4), (5, .int x5), (6, .int x6), (7, .int x7), (8, .int x8)] []
  unfold m_dig at hf
  refine j_iload_n (pc := 0) M.1 dX1_dig_0 1 rfl ?_
  refine j_iconst (pc := 1) M.1 dX1_dig_1 kc_iconst_0 ?_
  refine j_bipush (pc := 2) M.1 dX1_dig_2 kc_bipush_7 ?_
  obtain ⟨r1, g1, hf⟩ := o_bind hf
  refine jm_calls (pc := 4) (As := [.int x1, .int 0, .int 7]) (rest := []) M cs_X1_278 (met_in g1) rfl rfl rfl rfl dX1_dig_4 ?_
  refine j_if_eq (pc := 7) M.1 94 dX1_dig_7 rfl (fun c1 => ?_) (fun c1 => ?_)
  · replace hf := o_pos c1 hf
    refine j_iconst (pc := 94) M.1 dX1_dig_94 kc_iconst_m1 ?_
    exact jm_iret (pc := 95) M dX1_dig_95 hf
  · replace hf := o_neg c1 hf
    refine j_iload_n (pc := 10) M.1 dX1_dig_10 2 rfl ?_
    refine j_iconst (pc := 11) M.1 dX1_dig_11 kc_iconst_0 ?_
    refine j_iconst (pc := 12) M.1 dX1_dig_12 kc_iconst_2 ?_
    obtain ⟨r2, g2, hf⟩ := o_bind hf
    refine jm_calls (pc := 13) (As := [.int x2, .int 0, .int 2]) (rest := []) M cs_X1_278 (met_in g2) rfl rfl rfl rfl dX1_dig_13 ?_
    refine j_if_eq (pc := 16) M.1 94 dX1_dig_16 rfl (fun c2 => ?_) (fun c2 => ?_)
    · replace hf := o_pos c2 hf
      refine j_iconst (pc := 94) M.1 dX1_dig_94 kc_iconst_m1 ?_
      exact jm_iret (pc := 95) M dX1_dig_95 hf
    · replace hf := o_neg c2 hf
      refine j_aload_n (pc := 19) M.1 dX1_dig_19 0 rfl ?_
      refine j_iload_n (pc := 20) M.1 dX1_dig_20 3 rfl ?_
      refine j_iload (pc := 21) M.1 dX1_dig_21 4 rfl ?_
      obtain ⟨r3, g3, hf⟩ := o_bind hf
      refine jm_calli (pc := 23) (As := [.int x3, .int x4]) (rest := []) M cm_298 (met_isRectangle g3) rfl rfl rfl rfl dX1_dig_23 ?_
      refine j_if_eq (pc := 26) M.1 94 dX1_dig_26 rfl (fun c3 => ?_) (fun c3 => ?_)
      · replace hf := o_pos c3 hf
        refine j_iconst (pc := 94) M.1 dX1_dig_94 kc_iconst_m1 ?_
        exact jm_iret (pc := 95) M dX1_dig_95 hf
      · replace hf := o_neg c3 hf
        refine j_iload (pc := 29) M.1 dX1_dig_29 5 rfl ?_
        obtain ⟨r4, g4, hf⟩ := o_bind hf
        refine jm_calls (pc := 31) (As := [.int x5]) (rest := []) M cs_X1_305 (met_isLayer g4) rfl rfl rfl rfl dX1_dig_31 ?_
        refine j_if_eq (pc := 34) M.1 94 dX1_dig_34 rfl (fun c4 => ?_) (fun c4 => ?_)
        · replace hf := o_pos c4 hf
          refine j_iconst (pc := 94) M.1 dX1_dig_94 kc_iconst_m1 ?_
          exact jm_iret (pc := 95) M dX1_dig_95 hf
        · replace hf := o_neg c4 hf
          refine j_iload (pc := 37) M.1 dX1_dig_37 6 rfl ?_
          refine j_iload (pc := 39) M.1 dX1_dig_39 5 rfl ?_
          refine j_bipush (pc := 41) M.1 dX1_dig_41 kc_bipush_7 ?_
          obtain ⟨r5, g5, hf⟩ := o_bind hf
          refine jm_calls (pc := 43) (As := [.int x6, .int x5, .int 7]) (rest := []) M cs_X1_278 (met_in g5) rfl rfl rfl rfl dX1_dig_43 ?_
          refine j_if_eq (pc := 46) M.1 94 dX1_dig_46 rfl (fun c5 => ?_) (fun c5 => ?_)
          · replace hf := o_pos c5 hf
            refine j_iconst (pc := 94) M.1 dX1_dig_94 kc_iconst_m1 ?_
            exact jm_iret (pc := 95) M dX1_dig_95 hf
          · replace hf := o_neg c5 hf
            refine j_iload_n (pc := 49) M.1 dX1_dig_49 2 rfl ?_
            refine j_if_ne (pc := 50) M.1 58 dX1_dig_50 rfl (fun c6 => ?_) (fun c6 => ?_)
            · replace hf := o_neg c6 hf
              exact km_dig_58 M x1 x2 x3 x4 x5 x6 x7 x8 r3.2 hf
            · replace hf := o_pos c6 hf
              refine j_iload (pc := 53) M.1 dX1_dig_53 5 rfl ?_
              refine j_if_ne (pc := 55) M.1 94 dX1_dig_55 rfl (fun c7 => ?_) (fun c7 => ?_)
              · replace hf := o_neg c7 hf
                refine j_iconst (pc := 94) M.1 dX1_dig_94 kc_iconst_m1 ?_
                exact jm_iret (pc := 95) M dX1_dig_95 hf
              · replace hf := o_pos c7 hf
                exact km_dig_58 M x1 x2 x3 x4 x5 x6 x7 x8 r3.2 hf
end
theorem dX1_has_0 : decode cX1_has 0 = .ok (.aload_n 0, 1) := by decide +kernel
theorem dX1_has_1 : decode cX1_has 1 = .ok (.iload_n 2, 1) := by decide +kernel
theorem dX1_has_2 : decode cX1_has 2 = .ok (.aload_n 0, 1) := by decide +kernel
theorem dX1_has_3 : decode cX1_has 3 = .ok (.getfield 31, 3) := by decide +kernel
theorem dX1_has_6 : decode cX1_has 6 = .ok (.iload_n 1, 1) := by decide +kernel
theorem dX1_has_7 : decode cX1_has 7 = .ok (.iaload, 1) := by decide +kernel
theorem dX1_has_8 : decode cX1_has 8 = .ok (.aload_n 0, 1) := by decide +kernel
theorem dX1_has_9 : decode cX1_has 9 = .ok (.getfield 34, 3) := by decide +kernel
theorem dX1_has_12 : decode cX1_has 12 = .ok (.iload_n 1, 1) := by decide +kernel
theorem dX1_has_13 : decode cX1_has 13 = .ok (.iaload, 1) := by decide +kernel
theorem dX1_has_14 : decode cX1_has 14 = .ok (.invokevirtual 302, 3) := by decide +kernel
theorem dX1_has_17 : decode cX1_has 17 = .ok (.ifCond .eq 26, 3) := by decide +kernel
theorem dX1_has_20 : decode cX1_has 20 = .ok (.iload_n 3, 1) := by decide +kernel
theorem dX1_has_21 : decode cX1_has 21 = .ok (.aload_n 0, 1) := by decide +kernel
theorem dX1_has_22 : decode cX1_has 22 = .ok (.getfield 37, 3) := by decide +kernel
theorem dX1_has_25 : decode cX1_has 25 = .ok (.iload_n 1, 1) := by decide +kernel
theorem dX1_has_26 : decode cX1_has 26 = .ok (.iaload, 1) := by decide +kernel
theorem dX1_has_27 : decode cX1_has 27 = .ok (.aload_n 0, 1) := by decide +kernel
theorem dX1_has_28 : decode cX1_has 28 = .ok (.getfield 40, 3) := by decide +kernel
theorem dX1_has_31 : decode cX1_has 31 = .ok (.iload_n 1, 1) := by decide +kernel
theorem dX1_has_32 : decode cX1_has 32 = .ok (.iaload, 1) := by decide +kernel
theorem dX1_has_33 : decode cX1_has 33 = .ok (.invokestatic 278, 3) := by decide +kernel
theorem dX1_has_36 : decode cX1_has 36 = .ok (.ifCond .eq 7, 3) := by decide +kernel
theorem dX1_has_39 : decode cX1_has 39 = .ok (.iconst 1, 1) := by decide +kernel
theorem dX1_has_40 : decode cX1_has 40 = .ok (.goto 4, 3) := by decide +kernel
theorem dX1_has_43 : decode cX1_has 43 = .ok (.iconst 0, 1) := by decide +kernel
theorem dX1_has_44 : decode cX1_has 44 = .ok (.ireturn, 1) := by decide +kernel
section
variable {res : Int32 × MS}
noncomputable def m_has (F : Nat) (x1 x2 x3 : Int32) (σ : MS) : Option (Int32 × MS) :=
  if okI x1 100 = true then if okI x1 100 = true then (m_isIn F x2 (σ.2 7 x1.toNatClampNeg) (σ.2 8 x1.toNatClampNeg) σ).bind (fun r1 => if r1.1 = 0 then (some (0, r1.2)) else (if okI x1 100 = true then if okI x1 100 = true then (m_in F x3 (r1.2.2 9 x1.toNatClampNeg) (r1.2.2 10 x1.toNatClampNeg)).bind (fun r2 => if r2 = 0 then (some (0, r1.2)) else (some (1, r1.2))) else none else none)) else none else none
theorem met_has {l : Launch} {G : gG} {o F : Nat} {x1 x2 x3 : Int32} {σ : MS} {res : Int32 × MS} (hf : m_has F x1 x2 x3 σ = some res) : MetMi l G yX1_has cX1_has 4 (some .boolean) 3 o [.int x1, .int x2, .int x3] σ res := by
  refine metMi_of (by decide) rfl rfl (fun γ hγ M => ?_)
  subst hγ
  show J γ (MW G o σ) 0 0 0 [(0, .ref o), (1, .int x1), (2, .int x2), (3, .int x3)] []
  unfold m_has at hf
  refine j_aload_n (pc := 0) M.1 dX1_has_0 0 rfl ?_
  refine j_iload_n (pc := 1) M.1 dX1_has_1 2 rfl ?_
  refine j_aload_n (pc := 2) M.1 dX1_has_2 0 rfl ?_
  refine jm_getA (pc := 3) M fa_31 dX1_has_3 ?_
  refine j_iload_n (pc := 6) M.1 dX1_has_6 1 rfl ?_
  obtain ⟨b1, hf⟩ := o_need hf
  refine jm_iald (pc := 7) M ax_7 b1 dX1_has_7 ?_
  refine j_aload_n (pc := 8) M.1 dX1_has_8 0 rfl ?_
  refine jm_getA (pc := 9) M fa_34 dX1_has_9 ?_
  refine j_iload_n (pc := 12) M.1 dX1_has_12 1 rfl ?_
  obtain ⟨b2, hf⟩ := o_need hf
  refine jm_iald (pc := 13) M ax_8 b2 dX1_has_13 ?_
  obtain ⟨r1, g1, hf⟩ := o_bind hf
  refine jm_calli (pc := 14) (As := [.int x2, .int (σ.2 7 x1.toNatClampNeg), .int (σ.2 8 x1.toNatClampNeg)]) (rest := []) M cm_302 (met_isIn g1) rfl rfl rfl rfl dX1_has_14 ?_
  refine j_if_eq (pc := 17) M.1 43 dX1_has_17 rfl (fun c1 => ?_) (fun c1 => ?_)
  · replace hf := o_pos c1 hf
    refine j_iconst (pc := 43) M.1 dX1_has_43 kc_iconst_0 ?_
    exact jm_zret (pc := 44) M dX1_has_44 rfl hf
  · replace hf := o_neg c1 hf
    refine j_iload_n (pc := 20) M.1 dX1_has_20 3 rfl ?_
    refine j_aload_n (pc := 21) M.1 dX1_has_21 0 rfl ?_
    refine jm_getA (pc := 22) M fa_37 dX1_has_22 ?_
    refine j_iload_n (pc := 25) M.1 dX1_has_25 1 rfl ?_
    obtain ⟨b3, hf⟩ := o_need hf
    refine jm_iald (pc := 26) M ax_9 b3 dX1_has_26 ?_
    refine j_aload_n (pc := 27) M.1 dX1_has_27 0 rfl ?_
    refine jm_getA (pc := 28) M fa_40 dX1_has_28 ?_
    refine j_iload_n (pc := 31) M.1 dX1_has_31 1 rfl ?_
    obtain ⟨b4, hf⟩ := o_need hf
    refine jm_iald (pc := 32) M ax_10 b4 dX1_has_32 ?_
    obtain ⟨r2, g2, hf⟩ := o_bind hf
    refine jm_calls (pc := 33) (As := [.int x3, .int (r1.2.2 9 x1.toNatClampNeg), .int (r1.2.2 10 x1.toNatClampNeg)]) (rest := []) M cs_X1_278 (met_in g2) rfl rfl rfl rfl dX1_has_33 ?_
    refine j_if_eq (pc := 36) M.1 43 dX1_has_36 rfl (fun c2 => ?_) (fun c2 => ?_)
    · replace hf := o_pos c2 hf
      refine j_iconst (pc := 43) M.1 dX1_has_43 kc_iconst_0 ?_
      exact jm_zret (pc := 44) M dX1_has_44 rfl hf
    · replace hf := o_neg c2 hf
      refine j_iconst (pc := 39) M.1 dX1_has_39 kc_iconst_1 ?_
      refine j_goto (pc := 40) M.1 44 dX1_has_40 rfl ?_
      exact jm_zret (pc := 44) M dX1_has_44 rfl hf
end
theorem dX1_meaning_0 : decode cX1_meaning 0 = .ok (.iload_n 1, 1) := by decide +kernel
theorem dX1_meaning_1 : decode cX1_meaning 1 = .ok (.iconst 0, 1) := by decide +kernel
theorem dX1_meaning_2 : decode cX1_meaning 2 = .ok (.iconst 3, 1) := by decide +kernel
theorem dX1_meaning_3 : decode cX1_meaning 3 = .ok (.invokestatic 278, 3) := by decide +kernel
theorem dX1_meaning_6 : decode cX1_meaning 6 = .ok (.ifCond .eq 30, 3) := by decide +kernel
theorem dX1_meaning_9 : decode cX1_meaning 9 = .ok (.iload_n 2, 1) := by decide +kernel
theorem dX1_meaning_10 : decode cX1_meaning 10 = .ok (.iconst 1, 1) := by decide +kernel
theorem dX1_meaning_11 : decode cX1_meaning 11 = .ok (.bipush 99, 2) := by decide +kernel
theorem dX1_meaning_13 : decode cX1_meaning 13 = .ok (.invokestatic 278, 3) := by decide +kernel
theorem dX1_meaning_16 : decode cX1_meaning 16 = .ok (.ifCond .eq 20, 3) := by decide +kernel
theorem dX1_meaning_19 : decode cX1_meaning 19 = .ok (.iload_n 3, 1) := by decide +kernel
theorem dX1_meaning_20 : decode cX1_meaning 20 = .ok (.invokestatic 320, 3) := by decide +kernel
theorem dX1_meaning_23 : decode cX1_meaning 23 = .ok (.ifCond .eq 13, 3) := by decide +kernel
theorem dX1_meaning_26 : decode cX1_meaning 26 = .ok (.aload_n 0, 1) := by decide +kernel
theorem dX1_meaning_27 : decode cX1_meaning 27 = .ok (.iload_n 1, 1) := by decide +kernel
theorem dX1_meaning_28 : decode cX1_meaning 28 = .ok (.iload_n 2, 1) := by decide +kernel
theorem dX1_meaning_29 : decode cX1_meaning 29 = .ok (.iload_n 3, 1) := by decide +kernel
theorem dX1_meaning_30 : decode cX1_meaning 30 = .ok (.invokevirtual 337, 3) := by decide +kernel
theorem dX1_meaning_33 : decode cX1_meaning 33 = .ok (.goto 4, 3) := by decide +kernel
theorem dX1_meaning_36 : decode cX1_meaning 36 = .ok (.iconst (-1), 1) := by decide +kernel
theorem dX1_meaning_37 : decode cX1_meaning 37 = .ok (.ireturn, 1) := by decide +kernel
section
variable {res : Int32 × MS}
noncomputable def m_meaning (F : Nat) (x1 x2 x3 : Int32) (σ : MS) : Option (Int32 × MS) :=
  (m_in F x1 0 3).bind (fun r1 => if r1 = 0 then (some ((-1), σ)) else ((m_in F x2 1 99).bind (fun r2 => if r2 = 0 then (some ((-1), σ)) else ((m_isWeek F x3).bind (fun r3 => if r3 = 0 then (some ((-1), σ)) else ((m_meaningOf F x1 x2 x3 σ).bind (fun r4 => some (r4.1, r4.2))))))))
theorem met_meaning {l : Launch} {G : gG} {o F : Nat} {x1 x2 x3 : Int32} {σ : MS} {res : Int32 × MS} (hf : m_meaning F x1 x2 x3 σ = some res) : MetMi l G yX1_meaning cX1_meaning 4 (some .int) 3 o [.int x1, .int x2, .int x3] σ res := by
  refine metMi_of (by decide) rfl rfl (fun γ hγ M => ?_)
  subst hγ
  show J γ (MW G o σ) 0 0 0 [(0, .ref o), (1, .int x1), (2, .int x2), (3, .int x3)] []
  unfold m_meaning at hf
  refine j_iload_n (pc := 0) M.1 dX1_meaning_0 1 rfl ?_
  refine j_iconst (pc := 1) M.1 dX1_meaning_1 kc_iconst_0 ?_
  refine j_iconst (pc := 2) M.1 dX1_meaning_2 kc_iconst_3 ?_
  obtain ⟨r1, g1, hf⟩ := o_bind hf
  refine jm_calls (pc := 3) (As := [.int x1, .int 0, .int 3]) (rest := []) M cs_X1_278 (met_in g1) rfl rfl rfl rfl dX1_meaning_3 ?_
  refine j_if_eq (pc := 6) M.1 36 dX1_meaning_6 rfl (fun c1 => ?_) (fun c1 => ?_)
  · replace hf := o_pos c1 hf
    refine j_iconst (pc := 36) M.1 dX1_meaning_36 kc_iconst_m1 ?_
    exact jm_iret (pc := 37) M dX1_meaning_37 hf
  · replace hf := o_neg c1 hf
    refine j_iload_n (pc := 9) M.1 dX1_meaning_9 2 rfl ?_
    refine j_iconst (pc := 10) M.1 dX1_meaning_10 kc_iconst_1 ?_
    refine j_bipush (pc := 11) M.1 dX1_meaning_11 kc_bipush_99 ?_
    obtain ⟨r2, g2, hf⟩ := o_bind hf
    refine jm_calls (pc := 13) (As := [.int x2, .int 1, .int 99]) (rest := []) M cs_X1_278 (met_in g2) rfl rfl rfl rfl dX1_meaning_13 ?_
    refine j_if_eq (pc := 16) M.1 36 dX1_meaning_16 rfl (fun c2 => ?_) (fun c2 => ?_)
    · replace hf := o_pos c2 hf
      refine j_iconst (pc := 36) M.1 dX1_meaning_36 kc_iconst_m1 ?_
      exact jm_iret (pc := 37) M dX1_meaning_37 hf
    · replace hf := o_neg c2 hf
      refine j_iload_n (pc := 19) M.1 dX1_meaning_19 3 rfl ?_
      obtain ⟨r3, g3, hf⟩ := o_bind hf
      refine jm_calls (pc := 20) (As := [.int x3]) (rest := []) M cs_X1_320 (met_isWeek g3) rfl rfl rfl rfl dX1_meaning_20 ?_
      refine j_if_eq (pc := 23) M.1 36 dX1_meaning_23 rfl (fun c3 => ?_) (fun c3 => ?_)
      · replace hf := o_pos c3 hf
        refine j_iconst (pc := 36) M.1 dX1_meaning_36 kc_iconst_m1 ?_
        exact jm_iret (pc := 37) M dX1_meaning_37 hf
      · replace hf := o_neg c3 hf
        refine j_aload_n (pc := 26) M.1 dX1_meaning_26 0 rfl ?_
        refine j_iload_n (pc := 27) M.1 dX1_meaning_27 1 rfl ?_
        refine j_iload_n (pc := 28) M.1 dX1_meaning_28 2 rfl ?_
        refine j_iload_n (pc := 29) M.1 dX1_meaning_29 3 rfl ?_
        obtain ⟨r4, g4, hf⟩ := o_bind hf
        refine jm_calli (pc := 30) (As := [.int x1, .int x2, .int x3]) (rest := []) M cm_337 (met_meaningOf g4) rfl rfl rfl rfl dX1_meaning_30 ?_
        refine j_goto (pc := 33) M.1 37 dX1_meaning_33 rfl ?_
        exact jm_iret (pc := 37) M dX1_meaning_37 hf
end
theorem dX1_meets_0 : decode cX1_meets 0 = .ok (.iconst 0, 1) := by decide +kernel
theorem dX1_meets_1 : decode cX1_meets 1 = .ok (.istore_n 3, 1) := by decide +kernel
theorem dX1_meets_2 : decode cX1_meets 2 = .ok (.iload_n 3, 1) := by decide +kernel
theorem dX1_meets_3 : decode cX1_meets 3 = .ok (.aload_n 0, 1) := by decide +kernel
theorem dX1_meets_4 : decode cX1_meets 4 = .ok (.getfield 272, 3) := by decide +kernel
theorem dX1_meets_7 : decode cX1_meets 7 = .ok (.aload_n 0, 1) := by decide +kernel
theorem dX1_meets_8 : decode cX1_meets 8 = .ok (.getfield 275, 3) := by decide +kernel
theorem dX1_meets_11 : decode cX1_meets 11 = .ok (.imul, 1) := by decide +kernel
theorem dX1_meets_12 : decode cX1_meets 12 = .ok (.if_icmp .ge 41, 3) := by decide +kernel
theorem dX1_meets_15 : decode cX1_meets 15 = .ok (.aload_n 0, 1) := by decide +kernel
theorem dX1_meets_16 : decode cX1_meets 16 = .ok (.getfield 13, 3) := by decide +kernel
theorem dX1_meets_19 : decode cX1_meets 19 = .ok (.iload_n 3, 1) := by decide +kernel
theorem dX1_meets_20 : decode cX1_meets 20 = .ok (.iaload, 1) := by decide +kernel
theorem dX1_meets_21 : decode cX1_meets 21 = .ok (.iload_n 2, 1) := by decide +kernel
theorem dX1_meets_22 : decode cX1_meets 22 = .ok (.if_icmp .ne 25, 3) := by decide +kernel
theorem dX1_meets_25 : decode cX1_meets 25 = .ok (.aload_n 0, 1) := by decide +kernel
theorem dX1_meets_26 : decode cX1_meets 26 = .ok (.iload_n 3, 1) := by decide +kernel
theorem dX1_meets_27 : decode cX1_meets 27 = .ok (.aload_n 0, 1) := by decide +kernel
theorem dX1_meets_28 : decode cX1_meets 28 = .ok (.getfield 31, 3) := by decide +kernel
theorem dX1_meets_31 : decode cX1_meets 31 = .ok (.iload_n 1, 1) := by decide +kernel
theorem dX1_meets_32 : decode cX1_meets 32 = .ok (.iaload, 1) := by decide +kernel
theorem dX1_meets_33 : decode cX1_meets 33 = .ok (.aload_n 0, 1) := by decide +kernel
theorem dX1_meets_34 : decode cX1_meets 34 = .ok (.getfield 34, 3) := by decide +kernel
theorem dX1_meets_37 : decode cX1_meets 37 = .ok (.iload_n 1, 1) := by decide +kernel
theorem dX1_meets_38 : decode cX1_meets 38 = .ok (.iaload, 1) := by decide +kernel
theorem dX1_meets_39 : decode cX1_meets 39 = .ok (.invokevirtual 302, 3) := by decide +kernel
theorem dX1_meets_42 : decode cX1_meets 42 = .ok (.ifCond .eq 5, 3) := by decide +kernel
theorem dX1_meets_45 : decode cX1_meets 45 = .ok (.iconst 1, 1) := by decide +kernel
theorem dX1_meets_46 : decode cX1_meets 46 = .ok (.ireturn, 1) := by decide +kernel
theorem dX1_meets_47 : decode cX1_meets 47 = .ok (.iinc 3 1, 3) := by decide +kernel
theorem dX1_meets_50 : decode cX1_meets 50 = .ok (.goto (-48), 3) := by decide +kernel
theorem dX1_meets_53 : decode cX1_meets 53 = .ok (.iconst 0, 1) := by decide +kernel
theorem dX1_meets_54 : decode cX1_meets 54 = .ok (.ireturn, 1) := by decide +kernel
section
variable {res : Int32 × MS}
noncomputable def m_meets_B2 (F : Nat) (x1 x2 : Int32) (R : Int32 × MS → Option (Int32 × MS)) (a : Int32 × MS) : Option (Int32 × MS) :=
  if ((a.2.1 0) * (a.2.1 1)) ≤ a.1 then (some (0, a.2)) else (if okI a.1 100 = true then if (a.2.2 1 a.1.toNatClampNeg) = x2 then (if okI x1 100 = true then if okI x1 100 = true then (m_isIn F a.1 (a.2.2 7 x1.toNatClampNeg) (a.2.2 8 x1.toNatClampNeg) a.2).bind (fun r1 => if r1.1 = 0 then (R (a.1 + 1, r1.2)) else (some (1, r1.2))) else none else none) else (R (a.1 + 1, a.2)) else none)
theorem km_meets_B2 (M : MC γ cX1_meets 4 G o 3 (some .boolean) (mQi G o res)) (x1 x2 : Int32) : ∀ R : Int32 × MS → Option (Int32 × MS), (∀ a, R a = some res → J γ (MW G o a.2) 0 0 2 [(0, .ref o), (1, .int x1), (2, .int x2), (3, .int a.1)] []) → ∀ a, m_meets_B2 F x1 x2 R a = some res → J γ (MW G o a.2) 0 0 2 [(0, .ref o), (1, .int x1), (2, .int x2), (3, .int a.1)] [] := by
  intro R hR a hf
  unfold m_meets_B2 at hf
  refine j_iload_n (pc := 2) M.1 dX1_meets_2 3 rfl ?_
  refine j_aload_n (pc := 3) M.1 dX1_meets_3 0 rfl ?_
  refine jm_getS (pc := 4) M fm_272 dX1_meets_4 ?_
  refine j_aload_n (pc := 7) M.1 dX1_meets_7 0 rfl ?_
  refine jm_getS (pc := 8) M fm_275 dX1_meets_8 ?_
  refine j_imul (pc := 11) M.1 dX1_meets_11 ?_
  refine j_icmp_ge (pc := 12) M.1 53 dX1_meets_12 rfl (fun c1 => ?_) (fun c1 => ?_)
  · replace hf := o_pos c1 hf
    refine j_iconst (pc := 53) M.1 dX1_meets_53 kc_iconst_0 ?_
    exact jm_zret (pc := 54) M dX1_meets_54 rfl hf
  · replace hf := o_neg c1 hf
    refine j_aload_n (pc := 15) M.1 dX1_meets_15 0 rfl ?_
    refine jm_getA (pc := 16) M fa_13 dX1_meets_16 ?_
    refine j_iload_n (pc := 19) M.1 dX1_meets_19 3 rfl ?_
    obtain ⟨b1, hf⟩ := o_need hf
    refine jm_iald (pc := 20) M ax_1 b1 dX1_meets_20 ?_
    refine j_iload_n (pc := 21) M.1 dX1_meets_21 2 rfl ?_
    refine j_icmp_ne (pc := 22) M.1 47 dX1_meets_22 rfl (fun c2 => ?_) (fun c2 => ?_)
    · replace hf := o_neg c2 hf
      refine j_iinc (pc := 47) M.1 [(3, .int (a.1 + 1)), (0, .ref o), (1, .int x1), (2, .int x2)] dX1_meets_47 3 rfl (congrArg _ kc_iconst_1) rfl rfl ?_
      refine j_goto (pc := 50) M.1 2 dX1_meets_50 rfl ?_
      refine j_sub [1, 2, 3, 0] (show lv_pick _ _ = [(0, .ref o), (1, .int x1), (2, .int x2), (3, .int (a.1 + 1))] from rfl) ?_
      have hy := hR _ hf
      exact hy
    · replace hf := o_pos c2 hf
      refine j_aload_n (pc := 25) M.1 dX1_meets_25 0 rfl ?_
      refine j_iload_n (pc := 26) M.1 dX1_meets_26 3 rfl ?_
      refine j_aload_n (pc := 27) M.1 dX1_meets_27 0 rfl ?_
      refine jm_getA (pc := 28) M fa_31 dX1_meets_28 ?_
      refine j_iload_n (pc := 31) M.1 dX1_meets_31 1 rfl ?_
      obtain ⟨b2, hf⟩ := o_need hf
      refine jm_iald (pc := 32) M ax_7 b2 dX1_meets_32 ?_
      refine j_aload_n (pc := 33) M.1 dX1_meets_33 0 rfl ?_
      refine jm_getA (pc := 34) M fa_34 dX1_meets_34 ?_
      refine j_iload_n (pc := 37) M.1 dX1_meets_37 1 rfl ?_
      obtain ⟨b3, hf⟩ := o_need hf
      refine jm_iald (pc := 38) M ax_8 b3 dX1_meets_38 ?_
      obtain ⟨r1, g1, hf⟩ := o_bind hf
      refine jm_calli (pc := 39) (As := [.int a.1, .int (a.2.2 7 x1.toNatClampNeg), .int (a.2.2 8 x1.toNatClampNeg)]) (rest := []) M cm_302 (met_isIn g1) rfl rfl rfl rfl dX1_meets_39 ?_
      refine j_if_eq (pc := 42) M.1 47 dX1_meets_42 rfl (fun c3 => ?_) (fun c3 => ?_)
      · replace hf := o_pos c3 hf
        refine j_iinc (pc := 47) M.1 [(3, .int (a.1 + 1)), (0, .ref o), (1, .int x1), (2, .int x2)] dX1_meets_47 3 rfl (congrArg _ kc_iconst_1) rfl rfl ?_
        refine j_goto (pc := 50) M.1 2 dX1_meets_50 rfl ?_
        refine j_sub [1, 2, 3, 0] (show lv_pick _ _ = [(0, .ref o), (1, .int x1), (2, .int x2), (3, .int (a.1 + 1))] from rfl) ?_
        have hy := hR _ hf
        exact hy
      · replace hf := o_neg c3 hf
        refine j_iconst (pc := 45) M.1 dX1_meets_45 kc_iconst_1 ?_
        exact jm_zret (pc := 46) M dX1_meets_46 rfl hf
noncomputable def m_meets (F : Nat) (x1 x2 : Int32) (σ : MS) : Option (Int32 × MS) :=
  lp (m_meets_B2 F x1 x2) F (0, σ)
theorem met_meets {l : Launch} {G : gG} {o F : Nat} {x1 x2 : Int32} {σ : MS} {res : Int32 × MS} (hf : m_meets F x1 x2 σ = some res) : MetMi l G yX1_meets cX1_meets 4 (some .boolean) 3 o [.int x1, .int x2] σ res := by
  refine metMi_of (by decide) rfl rfl (fun γ hγ M => ?_)
  subst hγ
  show J γ (MW G o σ) 0 0 0 [(0, .ref o), (1, .int x1), (2, .int x2)] []
  unfold m_meets at hf
  refine j_iconst (pc := 0) M.1 dX1_meets_0 kc_iconst_0 ?_
  refine j_istore_n (pc := 1) M.1 [(3, .int 0), (0, .ref o), (1, .int x1), (2, .int x2)] dX1_meets_1 rfl rfl ?_
  refine j_sub [1, 2, 3, 0] (show lv_pick _ _ = [(0, .ref o), (1, .int x1), (2, .int x2), (3, .int 0)] from rfl) ?_
  refine lp_W (km_meets_B2 M x1 x2) F (0, σ) hf
end
theorem dX1_place_0 : decode cX1_place 0 = .ok (.iload_n 1, 1) := by decide +kernel
theorem dX1_place_1 : decode cX1_place 1 = .ok (.iconst 0, 1) := by decide +kernel
theorem dX1_place_2 : decode cX1_place 2 = .ok (.iconst 2, 1) := by decide +kernel
theorem dX1_place_3 : decode cX1_place 3 = .ok (.invokestatic 278, 3) := by decide +kernel
theorem dX1_place_6 : decode cX1_place 6 = .ok (.ifCond .eq 21, 3) := by decide +kernel
theorem dX1_place_9 : decode cX1_place 9 = .ok (.aload_n 0, 1) := by decide +kernel
theorem dX1_place_10 : decode cX1_place 10 = .ok (.iload_n 2, 1) := by decide +kernel
theorem dX1_place_11 : decode cX1_place 11 = .ok (.iload_n 3, 1) := by decide +kernel
theorem dX1_place_12 : decode cX1_place 12 = .ok (.invokevirtual 298, 3) := by decide +kernel
theorem dX1_place_15 : decode cX1_place 15 = .ok (.ifCond .eq 12, 3) := by decide +kernel
theorem dX1_place_18 : decode cX1_place 18 = .ok (.aload_n 0, 1) := by decide +kernel
theorem dX1_place_19 : decode cX1_place 19 = .ok (.getfield 282, 3) := by decide +kernel
theorem dX1_place_22 : decode cX1_place 22 = .ok (.bipush 30, 2) := by decide +kernel
theorem dX1_place_24 : decode cX1_place 24 = .ok (.if_icmp .ne 5, 3) := by decide +kernel
theorem dX1_place_27 : decode cX1_place 27 = .ok (.iconst (-1), 1) := by decide +kernel
theorem dX1_place_28 : decode cX1_place 28 = .ok (.ireturn, 1) := by decide +kernel
theorem dX1_place_29 : decode cX1_place 29 = .ok (.iconst 0, 1) := by decide +kernel
theorem dX1_place_30 : decode cX1_place 30 = .ok (.istore 4, 2) := by decide +kernel
theorem dX1_place_32 : decode cX1_place 32 = .ok (.iload 4, 2) := by decide +kernel
theorem dX1_place_34 : decode cX1_place 34 = .ok (.aload_n 0, 1) := by decide +kernel
theorem dX1_place_35 : decode cX1_place 35 = .ok (.getfield 272, 3) := by decide +kernel
theorem dX1_place_38 : decode cX1_place 38 = .ok (.aload_n 0, 1) := by decide +kernel
theorem dX1_place_39 : decode cX1_place 39 = .ok (.getfield 275, 3) := by decide +kernel
theorem dX1_place_42 : decode cX1_place 42 = .ok (.imul, 1) := by decide +kernel
theorem dX1_place_43 : decode cX1_place 43 = .ok (.if_icmp .ge 33, 3) := by decide +kernel
theorem dX1_place_46 : decode cX1_place 46 = .ok (.aload_n 0, 1) := by decide +kernel
theorem dX1_place_47 : decode cX1_place 47 = .ok (.iload 4, 2) := by decide +kernel
theorem dX1_place_49 : decode cX1_place 49 = .ok (.iload_n 2, 1) := by decide +kernel
theorem dX1_place_50 : decode cX1_place 50 = .ok (.iload_n 3, 1) := by decide +kernel
theorem dX1_place_51 : decode cX1_place 51 = .ok (.invokevirtual 302, 3) := by decide +kernel
theorem dX1_place_54 : decode cX1_place 54 = .ok (.ifCond .eq 16, 3) := by decide +kernel
theorem dX1_place_57 : decode cX1_place 57 = .ok (.aload_n 0, 1) := by decide +kernel
theorem dX1_place_58 : decode cX1_place 58 = .ok (.getfield 13, 3) := by decide +kernel
theorem dX1_place_61 : decode cX1_place 61 = .ok (.iload 4, 2) := by decide +kernel
theorem dX1_place_63 : decode cX1_place 63 = .ok (.iaload, 1) := by decide +kernel
theorem dX1_place_64 : decode cX1_place 64 = .ok (.iconst (-1), 1) := by decide +kernel
theorem dX1_place_65 : decode cX1_place 65 = .ok (.if_icmp .eq 5, 3) := by decide +kernel
theorem dX1_place_68 : decode cX1_place 68 = .ok (.iconst (-1), 1) := by decide +kernel
theorem dX1_place_69 : decode cX1_place 69 = .ok (.ireturn, 1) := by decide +kernel
theorem dX1_place_70 : decode cX1_place 70 = .ok (.iinc 4 1, 3) := by decide +kernel
theorem dX1_place_73 : decode cX1_place 73 = .ok (.goto (-41), 3) := by decide +kernel
theorem dX1_place_76 : decode cX1_place 76 = .ok (.iconst 0, 1) := by decide +kernel
theorem dX1_place_77 : decode cX1_place 77 = .ok (.istore 4, 2) := by decide +kernel
theorem dX1_place_79 : decode cX1_place 79 = .ok (.iload 4, 2) := by decide +kernel
theorem dX1_place_81 : decode cX1_place 81 = .ok (.aload_n 0, 1) := by decide +kernel
theorem dX1_place_82 : decode cX1_place 82 = .ok (.getfield 272, 3) := by decide +kernel
theorem dX1_place_85 : decode cX1_place 85 = .ok (.aload_n 0, 1) := by decide +kernel
theorem dX1_place_86 : decode cX1_place 86 = .ok (.getfield 275, 3) := by decide +kernel
theorem dX1_place_89 : decode cX1_place 89 = .ok (.imul, 1) := by decide +kernel
theorem dX1_place_90 : decode cX1_place 90 = .ok (.if_icmp .ge 31, 3) := by decide +kernel
theorem dX1_place_93 : decode cX1_place 93 = .ok (.aload_n 0, 1) := by decide +kernel
theorem dX1_place_94 : decode cX1_place 94 = .ok (.iload 4, 2) := by decide +kernel
theorem dX1_place_96 : decode cX1_place 96 = .ok (.iload_n 2, 1) := by decide +kernel
theorem dX1_place_97 : decode cX1_place 97 = .ok (.iload_n 3, 1) := by decide +kernel
theorem dX1_place_98 : decode cX1_place 98 = .ok (.invokevirtual 302, 3) := by decide +kernel
theorem dX1_place_101 : decode cX1_place 101 = .ok (.ifCond .eq 14, 3) := by decide +kernel
theorem dX1_place_104 : decode cX1_place 104 = .ok (.aload_n 0, 1) := by decide +kernel
theorem dX1_place_105 : decode cX1_place 105 = .ok (.getfield 13, 3) := by decide +kernel
theorem dX1_place_108 : decode cX1_place 108 = .ok (.iload 4, 2) := by decide +kernel
theorem dX1_place_110 : decode cX1_place 110 = .ok (.aload_n 0, 1) := by decide +kernel
theorem dX1_place_111 : decode cX1_place 111 = .ok (.getfield 282, 3) := by decide +kernel
theorem dX1_place_114 : decode cX1_place 114 = .ok (.iastore, 1) := by decide +kernel
theorem dX1_place_115 : decode cX1_place 115 = .ok (.iinc 4 1, 3) := by decide +kernel
theorem dX1_place_118 : decode cX1_place 118 = .ok (.goto (-39), 3) := by decide +kernel
theorem dX1_place_121 : decode cX1_place 121 = .ok (.aload_n 0, 1) := by decide +kernel
theorem dX1_place_122 : decode cX1_place 122 = .ok (.getfield 16, 3) := by decide +kernel
theorem dX1_place_125 : decode cX1_place 125 = .ok (.aload_n 0, 1) := by decide +kernel
theorem dX1_place_126 : decode cX1_place 126 = .ok (.getfield 282, 3) := by decide +kernel
theorem dX1_place_129 : decode cX1_place 129 = .ok (.iload_n 1, 1) := by decide +kernel
theorem dX1_place_130 : decode cX1_place 130 = .ok (.iastore, 1) := by decide +kernel
theorem dX1_place_131 : decode cX1_place 131 = .ok (.aload_n 0, 1) := by decide +kernel
theorem dX1_place_132 : decode cX1_place 132 = .ok (.getfield 19, 3) := by decide +kernel
theorem dX1_place_135 : decode cX1_place 135 = .ok (.aload_n 0, 1) := by decide +kernel
theorem dX1_place_136 : decode cX1_place 136 = .ok (.getfield 282, 3) := by decide +kernel
theorem dX1_place_139 : decode cX1_place 139 = .ok (.iload_n 2, 1) := by decide +kernel
theorem dX1_place_140 : decode cX1_place 140 = .ok (.iastore, 1) := by decide +kernel
theorem dX1_place_141 : decode cX1_place 141 = .ok (.aload_n 0, 1) := by decide +kernel
theorem dX1_place_142 : decode cX1_place 142 = .ok (.getfield 22, 3) := by decide +kernel
theorem dX1_place_145 : decode cX1_place 145 = .ok (.aload_n 0, 1) := by decide +kernel
theorem dX1_place_146 : decode cX1_place 146 = .ok (.getfield 282, 3) := by decide +kernel
theorem dX1_place_149 : decode cX1_place 149 = .ok (.iload_n 3, 1) := by decide +kernel
theorem dX1_place_150 : decode cX1_place 150 = .ok (.iastore, 1) := by decide +kernel
theorem dX1_place_151 : decode cX1_place 151 = .ok (.aload_n 0, 1) := by decide +kernel
theorem dX1_place_152 : decode cX1_place 152 = .ok (.aload_n 0, 1) := by decide +kernel
theorem dX1_place_153 : decode cX1_place 153 = .ok (.getfield 282, 3) := by decide +kernel
theorem dX1_place_156 : decode cX1_place 156 = .ok (.iconst 1, 1) := by decide +kernel
theorem dX1_place_157 : decode cX1_place 157 = .ok (.iadd, 1) := by decide +kernel
theorem dX1_place_158 : decode cX1_place 158 = .ok (.putfield 282, 3) := by decide +kernel
theorem dX1_place_161 : decode cX1_place 161 = .ok (.aload_n 0, 1) := by decide +kernel
theorem dX1_place_162 : decode cX1_place 162 = .ok (.getfield 282, 3) := by decide +kernel
theorem dX1_place_165 : decode cX1_place 165 = .ok (.iconst 1, 1) := by decide +kernel
theorem dX1_place_166 : decode cX1_place 166 = .ok (.isub, 1) := by decide +kernel
theorem dX1_place_167 : decode cX1_place 167 = .ok (.ireturn, 1) := by decide +kernel
section
variable {res : Int32 × MS}
noncomputable def m_place_B32 (F : Nat) (K76 : Int32 × MS → Option (Int32 × MS)) (x1 x2 x3 : Int32) (R : Int32 × MS → Option (Int32 × MS)) (a : Int32 × MS) : Option (Int32 × MS) :=
  if ((a.2.1 0) * (a.2.1 1)) ≤ a.1 then (K76 (a.1, a.2)) else ((m_isIn F a.1 x2 x3 a.2).bind (fun r1 => if r1.1 = 0 then (R (a.1 + 1, r1.2)) else (if okI a.1 100 = true then if (r1.2.2 1 a.1.toNatClampNeg) = ((-1)) then (R (a.1 + 1, r1.2)) else (some ((-1), r1.2)) else none)))
theorem km_place_B32 (M : MC γ cX1_place 5 G o 3 (some .int) (mQi G o res)) (x1 x2 x3 : Int32) (K76 : Int32 × MS → Option (Int32 × MS)) (hK76 : ∀ a, K76 a = some res → J γ (MW G o a.2) 0 0 76 [(0, .ref o), (1, .int x1), (2, .int x2), (3, .int x3)] []) : ∀ R : Int32 × MS → Option (Int32 × MS), (∀ a, R a = some res → J γ (MW G o a.2) 0 0 32 [(0, .ref o), (1, .int x1), (2, .int x2), (3, .int x3), (4, .int a.1)] []) → ∀ a, m_place_B32 F K76 x1 x2 x3 R a = some res → J γ (MW G o a.2) 0 0 32 [(0, .ref o), (1, .int x1), (2, .int x2), (3, .int x3), (4, .int a.1)] [] := by
  intro R hR a hf
  unfold m_place_B32 at hf
  refine j_iload (pc := 32) M.1 dX1_place_32 4 rfl ?_
  refine j_aload_n (pc := 34) M.1 dX1_place_34 0 rfl ?_
  refine jm_getS (pc := 35) M fm_272 dX1_place_35 ?_
  refine j_aload_n (pc := 38) M.1 dX1_place_38 0 rfl ?_
  refine jm_getS (pc := 39) M fm_275 dX1_place_39 ?_
  refine j_imul (pc := 42) M.1 dX1_place_42 ?_
  refine j_icmp_ge (pc := 43) M.1 76 dX1_place_43 rfl (fun c1 => ?_) (fun c1 => ?_)
  · replace hf := o_pos c1 hf
    refine j_sub [0, 1, 2, 3] (show lv_pick _ _ = [(0, .ref o), (1, .int x1), (2, .int x2), (3, .int x3)] from rfl) ?_
    have hy := hK76 _ hf
    exact hy
  · replace hf := o_neg c1 hf
    refine j_aload_n (pc := 46) M.1 dX1_place_46 0 rfl ?_
    refine j_iload (pc := 47) M.1 dX1_place_47 4 rfl ?_
    refine j_iload_n (pc := 49) M.1 dX1_place_49 2 rfl ?_
    refine j_iload_n (pc := 50) M.1 dX1_place_50 3 rfl ?_
    obtain ⟨r1, g1, hf⟩ := o_bind hf
    refine jm_calli (pc := 51) (As := [.int a.1, .int x2, .int x3]) (rest := []) M cm_302 (met_isIn g1) rfl rfl rfl rfl dX1_place_51 ?_
    refine j_if_eq (pc := 54) M.1 70 dX1_place_54 rfl (fun c2 => ?_) (fun c2 => ?_)
    · replace hf := o_pos c2 hf
      refine j_iinc (pc := 70) M.1 [(4, .int (a.1 + 1)), (0, .ref o), (1, .int x1), (2, .int x2), (3, .int x3)] dX1_place_70 4 rfl (congrArg _ kc_iconst_1) rfl rfl ?_
      refine j_goto (pc := 73) M.1 32 dX1_place_73 rfl ?_
      refine j_sub [1, 2, 3, 4, 0] (show lv_pick _ _ = [(0, .ref o), (1, .int x1), (2, .int x2), (3, .int x3), (4, .int (a.1 + 1))] from rfl) ?_
      have hy := hR _ hf
      exact hy
    · replace hf := o_neg c2 hf
      refine j_aload_n (pc := 57) M.1 dX1_place_57 0 rfl ?_
      refine jm_getA (pc := 58) M fa_13 dX1_place_58 ?_
      refine j_iload (pc := 61) M.1 dX1_place_61 4 rfl ?_
      obtain ⟨b1, hf⟩ := o_need hf
      refine jm_iald (pc := 63) M ax_1 b1 dX1_place_63 ?_
      refine j_iconst (pc := 64) M.1 dX1_place_64 kc_iconst_m1 ?_
      refine j_icmp_eq (pc := 65) M.1 70 dX1_place_65 rfl (fun c3 => ?_) (fun c3 => ?_)
      · replace hf := o_pos c3 hf
        refine j_iinc (pc := 70) M.1 [(4, .int (a.1 + 1)), (0, .ref o), (1, .int x1), (2, .int x2), (3, .int x3)] dX1_place_70 4 rfl (congrArg _ kc_iconst_1) rfl rfl ?_
        refine j_goto (pc := 73) M.1 32 dX1_place_73 rfl ?_
        refine j_sub [1, 2, 3, 4, 0] (show lv_pick _ _ = [(0, .ref o), (1, .int x1), (2, .int x2), (3, .int x3), (4, .int (a.1 + 1))] from rfl) ?_
        have hy := hR _ hf
        exact hy
      · replace hf := o_neg c3 hf
        refine j_iconst (pc := 68) M.1 dX1_place_68 kc_iconst_m1 ?_
        exact jm_iret (pc := 69) M dX1_place_69 hf
noncomputable def m_place_B79 (F : Nat) (K121 : Int32 × MS → Option (Int32 × MS)) (x1 x2 x3 : Int32) (R : Int32 × MS → Option (Int32 × MS)) (a : Int32 × MS) : Option (Int32 × MS) :=
  if ((a.2.1 0) * (a.2.1 1)) ≤ a.1 then (K121 (a.1, a.2)) else ((m_isIn F a.1 x2 x3 a.2).bind (fun r1 => if r1.1 = 0 then (R (a.1 + 1, r1.2)) else (if okI a.1 100 = true then nx (sA r1.2 1 a.1.toNatClampNeg (r1.2.1 3)) (fun σ1 => R (a.1 + 1, σ1)) else none)))
theorem km_place_B79 (M : MC γ cX1_place 5 G o 3 (some .int) (mQi G o res)) (x1 x2 x3 : Int32) (K121 : Int32 × MS → Option (Int32 × MS)) (hK121 : ∀ a, K121 a = some res → J γ (MW G o a.2) 0 0 121 [(0, .ref o), (1, .int x1), (2, .int x2), (3, .int x3)] []) : ∀ R : Int32 × MS → Option (Int32 × MS), (∀ a, R a = some res → J γ (MW G o a.2) 0 0 79 [(0, .ref o), (1, .int x1), (2, .int x2), (3, .int x3), (4, .int a.1)] []) → ∀ a, m_place_B79 F K121 x1 x2 x3 R a = some res → J γ (MW G o a.2) 0 0 79 [(0, .ref o), (1, .int x1), (2, .int x2), (3, .int x3), (4, .int a.1)] [] := by
  intro R hR a hf
  unfold m_place_B79 at hf
  refine j_iload (pc := 79) M.1 dX1_place_79 4 rfl ?_
  refine j_aload_n (pc := 81) M.1 dX1_place_81 0 rfl ?_
  refine jm_getS (pc := 82) M fm_272 dX1_place_82 ?_
  refine j_aload_n (pc := 85) M.1 dX1_place_85 0 rfl ?_
  refine jm_getS (pc := 86) M fm_275 dX1_place_86 ?_
  refine j_imul (pc := 89) M.1 dX1_place_89 ?_
  refine j_icmp_ge (pc := 90) M.1 121 dX1_place_90 rfl (fun c1 => ?_) (fun c1 => ?_)
  · replace hf := o_pos c1 hf
    refine j_sub [0, 1, 2, 3] (show lv_pick _ _ = [(0, .ref o), (1, .int x1), (2, .int x2), (3, .int x3)] from rfl) ?_
    have hy := hK121 _ hf
    exact hy
  · replace hf := o_neg c1 hf
    refine j_aload_n (pc := 93) M.1 dX1_place_93 0 rfl ?_
    refine j_iload (pc := 94) M.1 dX1_place_94 4 rfl ?_
    refine j_iload_n (pc := 96) M.1 dX1_place_96 2 rfl ?_
    refine j_iload_n (pc := 97) M.1 dX1_place_97 3 rfl ?_
    obtain ⟨r1, g1, hf⟩ := o_bind hf
    refine jm_calli (pc := 98) (As := [.int a.1, .int x2, .int x3]) (rest := []) M cm_302 (met_isIn g1) rfl rfl rfl rfl dX1_place_98 ?_
    refine j_if_eq (pc := 101) M.1 115 dX1_place_101 rfl (fun c2 => ?_) (fun c2 => ?_)
    · replace hf := o_pos c2 hf
      refine j_iinc (pc := 115) M.1 [(4, .int (a.1 + 1)), (0, .ref o), (1, .int x1), (2, .int x2), (3, .int x3)] dX1_place_115 4 rfl (congrArg _ kc_iconst_1) rfl rfl ?_
      refine j_goto (pc := 118) M.1 79 dX1_place_118 rfl ?_
      refine j_sub [1, 2, 3, 4, 0] (show lv_pick _ _ = [(0, .ref o), (1, .int x1), (2, .int x2), (3, .int x3), (4, .int (a.1 + 1))] from rfl) ?_
      have hy := hR _ hf
      exact hy
    · replace hf := o_neg c2 hf
      refine j_aload_n (pc := 104) M.1 dX1_place_104 0 rfl ?_
      refine jm_getA (pc := 105) M fa_13 dX1_place_105 ?_
      refine j_iload (pc := 108) M.1 dX1_place_108 4 rfl ?_
      refine j_aload_n (pc := 110) M.1 dX1_place_110 0 rfl ?_
      refine jm_getS (pc := 111) M fm_282 dX1_place_111 ?_
      obtain ⟨b1, hf⟩ := o_need hf
      obtain ⟨σ1, e1, hf⟩ := o_nx hf
      refine jm_iast (pc := 114) M ax_1 b1 dX1_place_114 e1 ?_
      refine j_iinc (pc := 115) M.1 [(4, .int (a.1 + 1)), (0, .ref o), (1, .int x1), (2, .int x2), (3, .int x3)] dX1_place_115 4 rfl (congrArg _ kc_iconst_1) rfl rfl ?_
      refine j_goto (pc := 118) M.1 79 dX1_place_118 rfl ?_
      refine j_sub [1, 2, 3, 4, 0] (show lv_pick _ _ = [(0, .ref o), (1, .int x1), (2, .int x2), (3, .int x3), (4, .int (a.1 + 1))] from rfl) ?_
      have hy := hR _ hf
      exact hy
noncomputable def m_place (F : Nat) (x1 x2 x3 : Int32) (σ : MS) : Option (Int32 × MS) :=
  (m_in F x1 0 2).bind (fun r1 => if r1 = 0 then (some ((-1), σ)) else ((m_isRectangle F x2 x3 σ).bind (fun r2 => if r2.1 = 0 then (some ((-1), r2.2)) else (if (r2.2.1 3) = 30 then (some ((-1), r2.2)) else (lp (m_place_B32 F (fun a1 => lp (m_place_B79 F (fun a2 => if okI (a2.2.1 3) 30 = true then nx (sA a2.2 2 (a2.2.1 3).toNatClampNeg x1) (fun σ1 => if okI (σ1.1 3) 30 = true then nx (sA σ1 3 (σ1.1 3).toNatClampNeg x2) (fun σ2 => if okI (σ2.1 3) 30 = true then nx (sA σ2 4 (σ2.1 3).toNatClampNeg x3) (fun σ3 => nx (sS σ3 3 ((σ3.1 3) + 1)) (fun σ4 => some ((σ4.1 3) - 1, σ4))) else none) else none) else none) x1 x2 x3) F (0, a1.2)) x1 x2 x3) F (0, r2.2))))))
theorem met_place {l : Launch} {G : gG} {o F : Nat} {x1 x2 x3 : Int32} {σ : MS} {res : Int32 × MS} (hf : m_place F x1 x2 x3 σ = some res) : MetMi l G yX1_place cX1_place 5 (some .int) 3 o [.int x1, .int x2, .int x3] σ res := by
  refine metMi_of (by decide) rfl rfl (fun γ hγ M => ?_)
  subst hγ
  show J γ (MW G o σ) 0 0 0 [(0, .ref o), (1, .int x1), (2, .int x2), (3, .int x3)] []
  unfold m_place at hf
  refine j_iload_n (pc := 0) M.1 dX1_place_0 1 rfl ?_
  refine j_iconst (pc := 1) M.1 dX1_place_1 kc_iconst_0 ?_
  refine j_iconst (pc := 2) M.1 dX1_place_2 kc_iconst_2 ?_
  obtain ⟨r1, g1, hf⟩ := o_bind hf
  refine jm_calls (pc := 3) (As := [.int x1, .int 0, .int 2]) (rest := []) M cs_X1_278 (met_in g1) rfl rfl rfl rfl dX1_place_3 ?_
  refine j_if_eq (pc := 6) M.1 27 dX1_place_6 rfl (fun c1 => ?_) (fun c1 => ?_)
  · replace hf := o_pos c1 hf
    refine j_iconst (pc := 27) M.1 dX1_place_27 kc_iconst_m1 ?_
    exact jm_iret (pc := 28) M dX1_place_28 hf
  · replace hf := o_neg c1 hf
    refine j_aload_n (pc := 9) M.1 dX1_place_9 0 rfl ?_
    refine j_iload_n (pc := 10) M.1 dX1_place_10 2 rfl ?_
    refine j_iload_n (pc := 11) M.1 dX1_place_11 3 rfl ?_
    obtain ⟨r2, g2, hf⟩ := o_bind hf
    refine jm_calli (pc := 12) (As := [.int x2, .int x3]) (rest := []) M cm_298 (met_isRectangle g2) rfl rfl rfl rfl dX1_place_12 ?_
    refine j_if_eq (pc := 15) M.1 27 dX1_place_15 rfl (fun c2 => ?_) (fun c2 => ?_)
    · replace hf := o_pos c2 hf
      refine j_iconst (pc := 27) M.1 dX1_place_27 kc_iconst_m1 ?_
      exact jm_iret (pc := 28) M dX1_place_28 hf
    · replace hf := o_neg c2 hf
      refine j_aload_n (pc := 18) M.1 dX1_place_18 0 rfl ?_
      refine jm_getS (pc := 19) M fm_282 dX1_place_19 ?_
      refine j_bipush (pc := 22) M.1 dX1_place_22 kc_bipush_30 ?_
      refine j_icmp_ne (pc := 24) M.1 29 dX1_place_24 rfl (fun c3 => ?_) (fun c3 => ?_)
      · replace hf := o_neg c3 hf
        refine j_iconst (pc := 29) M.1 dX1_place_29 kc_iconst_0 ?_
        refine j_istore (pc := 30) M.1 [(4, .int 0), (0, .ref o), (1, .int x1), (2, .int x2), (3, .int x3)] dX1_place_30 rfl rfl ?_
        refine j_sub [1, 2, 3, 4, 0] (show lv_pick _ _ = [(0, .ref o), (1, .int x1), (2, .int x2), (3, .int x3), (4, .int 0)] from rfl) ?_
        refine lp_W (km_place_B32 M x1 x2 x3 _ ?_) F (0, r2.2) hf
        · intro a1 hf
          refine j_iconst (pc := 76) M.1 dX1_place_76 kc_iconst_0 ?_
          refine j_istore (pc := 77) M.1 [(4, .int 0), (0, .ref o), (1, .int x1), (2, .int x2), (3, .int x3)] dX1_place_77 rfl rfl ?_
          refine j_sub [1, 2, 3, 4, 0] (show lv_pick _ _ = [(0, .ref o), (1, .int x1), (2, .int x2), (3, .int x3), (4, .int 0)] from rfl) ?_
          refine lp_W (km_place_B79 M x1 x2 x3 _ ?_) F (0, a1.2) hf
          · intro a2 hf
            refine j_aload_n (pc := 121) M.1 dX1_place_121 0 rfl ?_
            refine jm_getA (pc := 122) M fa_16 dX1_place_122 ?_
            refine j_aload_n (pc := 125) M.1 dX1_place_125 0 rfl ?_
            refine jm_getS (pc := 126) M fm_282 dX1_place_126 ?_
            refine j_iload_n (pc := 129) M.1 dX1_place_129 1 rfl ?_
            obtain ⟨b1, hf⟩ := o_need hf
            obtain ⟨σ1, e1, hf⟩ := o_nx hf
            refine jm_iast (pc := 130) M ax_2 b1 dX1_place_130 e1 ?_
            refine j_aload_n (pc := 131) M.1 dX1_place_131 0 rfl ?_
            refine jm_getA (pc := 132) M fa_19 dX1_place_132 ?_
            refine j_aload_n (pc := 135) M.1 dX1_place_135 0 rfl ?_
            refine jm_getS (pc := 136) M fm_282 dX1_place_136 ?_
            refine j_iload_n (pc := 139) M.1 dX1_place_139 2 rfl ?_
            obtain ⟨b2, hf⟩ := o_need hf
            obtain ⟨σ2, e2, hf⟩ := o_nx hf
            refine jm_iast (pc := 140) M ax_3 b2 dX1_place_140 e2 ?_
            refine j_aload_n (pc := 141) M.1 dX1_place_141 0 rfl ?_
            refine jm_getA (pc := 142) M fa_22 dX1_place_142 ?_
            refine j_aload_n (pc := 145) M.1 dX1_place_145 0 rfl ?_
            refine jm_getS (pc := 146) M fm_282 dX1_place_146 ?_
            refine j_iload_n (pc := 149) M.1 dX1_place_149 3 rfl ?_
            obtain ⟨b3, hf⟩ := o_need hf
            obtain ⟨σ3, e3, hf⟩ := o_nx hf
            refine jm_iast (pc := 150) M ax_4 b3 dX1_place_150 e3 ?_
            refine j_aload_n (pc := 151) M.1 dX1_place_151 0 rfl ?_
            refine j_aload_n (pc := 152) M.1 dX1_place_152 0 rfl ?_
            refine jm_getS (pc := 153) M fm_282 dX1_place_153 ?_
            refine j_iconst (pc := 156) M.1 dX1_place_156 kc_iconst_1 ?_
            refine j_iadd (pc := 157) M.1 dX1_place_157 ?_
            obtain ⟨σ4, e4, hf⟩ := o_nx hf
            refine jm_put (pc := 158) M fm_282 dX1_place_158 e4 ?_
            refine j_aload_n (pc := 161) M.1 dX1_place_161 0 rfl ?_
            refine jm_getS (pc := 162) M fm_282 dX1_place_162 ?_
            refine j_iconst (pc := 165) M.1 dX1_place_165 kc_iconst_1 ?_
            refine j_isub (pc := 166) M.1 dX1_place_166 ?_
            exact jm_iret (pc := 167) M dX1_place_167 hf
      · replace hf := o_pos c3 hf
        refine j_iconst (pc := 27) M.1 dX1_place_27 kc_iconst_m1 ?_
        exact jm_iret (pc := 28) M dX1_place_28 hf
end
theorem dX1_readsNumber_0 : decode cX1_readsNumber 0 = .ok (.aload_n 0, 1) := by decide +kernel
theorem dX1_readsNumber_1 : decode cX1_readsNumber 1 = .ok (.getfield 348, 3) := by decide +kernel
theorem dX1_readsNumber_4 : decode cX1_readsNumber 4 = .ok (.istore_n 2, 1) := by decide +kernel
theorem dX1_readsNumber_5 : decode cX1_readsNumber 5 = .ok (.aload_n 0, 1) := by decide +kernel
theorem dX1_readsNumber_6 : decode cX1_readsNumber 6 = .ok (.iconst 0, 1) := by decide +kernel
theorem dX1_readsNumber_7 : decode cX1_readsNumber 7 = .ok (.putfield 364, 3) := by decide +kernel
theorem dX1_readsNumber_10 : decode cX1_readsNumber 10 = .ok (.aload_n 0, 1) := by decide +kernel
theorem dX1_readsNumber_11 : decode cX1_readsNumber 11 = .ok (.invokevirtual 367, 3) := by decide +kernel
theorem dX1_readsNumber_14 : decode cX1_readsNumber 14 = .ok (.ifCond .ne 13, 3) := by decide +kernel
theorem dX1_readsNumber_17 : decode cX1_readsNumber 17 = .ok (.aload_n 0, 1) := by decide +kernel
theorem dX1_readsNumber_18 : decode cX1_readsNumber 18 = .ok (.iconst 1, 1) := by decide +kernel
theorem dX1_readsNumber_19 : decode cX1_readsNumber 19 = .ok (.aload_n 0, 1) := by decide +kernel
theorem dX1_readsNumber_20 : decode cX1_readsNumber 20 = .ok (.getfield 348, 3) := by decide +kernel
theorem dX1_readsNumber_23 : decode cX1_readsNumber 23 = .ok (.invokevirtual 361, 3) := by decide +kernel
theorem dX1_readsNumber_26 : decode cX1_readsNumber 26 = .ok (.ireturn, 1) := by decide +kernel
theorem dX1_readsNumber_27 : decode cX1_readsNumber 27 = .ok (.aload_n 0, 1) := by decide +kernel
theorem dX1_readsNumber_28 : decode cX1_readsNumber 28 = .ok (.invokevirtual 367, 3) := by decide +kernel
theorem dX1_readsNumber_31 : decode cX1_readsNumber 31 = .ok (.ifCond .eq 55, 3) := by decide +kernel
theorem dX1_readsNumber_34 : decode cX1_readsNumber 34 = .ok (.aload_n 0, 1) := by decide +kernel
theorem dX1_readsNumber_35 : decode cX1_readsNumber 35 = .ok (.getfield 348, 3) := by decide +kernel
theorem dX1_readsNumber_38 : decode cX1_readsNumber 38 = .ok (.iload_n 2, 1) := by decide +kernel
theorem dX1_readsNumber_39 : decode cX1_readsNumber 39 = .ok (.iconst 5, 1) := by decide +kernel
theorem dX1_readsNumber_40 : decode cX1_readsNumber 40 = .ok (.iadd, 1) := by decide +kernel
theorem dX1_readsNumber_41 : decode cX1_readsNumber 41 = .ok (.if_icmp .ne 13, 3) := by decide +kernel
theorem dX1_readsNumber_44 : decode cX1_readsNumber 44 = .ok (.aload_n 0, 1) := by decide +kernel
theorem dX1_readsNumber_45 : decode cX1_readsNumber 45 = .ok (.iconst 2, 1) := by decide +kernel
theorem dX1_readsNumber_46 : decode cX1_readsNumber 46 = .ok (.aload_n 0, 1) := by decide +kernel
theorem dX1_readsNumber_47 : decode cX1_readsNumber 47 = .ok (.getfield 348, 3) := by decide +kernel
theorem dX1_readsNumber_50 : decode cX1_readsNumber 50 = .ok (.invokevirtual 361, 3) := by decide +kernel
theorem dX1_readsNumber_53 : decode cX1_readsNumber 53 = .ok (.ireturn, 1) := by decide +kernel
theorem dX1_readsNumber_54 : decode cX1_readsNumber 54 = .ok (.aload_n 0, 1) := by decide +kernel
theorem dX1_readsNumber_55 : decode cX1_readsNumber 55 = .ok (.bipush 10, 2) := by decide +kernel
theorem dX1_readsNumber_57 : decode cX1_readsNumber 57 = .ok (.aload_n 0, 1) := by decide +kernel
theorem dX1_readsNumber_58 : decode cX1_readsNumber 58 = .ok (.getfield 364, 3) := by decide +kernel
theorem dX1_readsNumber_61 : decode cX1_readsNumber 61 = .ok (.imul, 1) := by decide +kernel
theorem dX1_readsNumber_62 : decode cX1_readsNumber 62 = .ok (.aload_n 0, 1) := by decide +kernel
theorem dX1_readsNumber_63 : decode cX1_readsNumber 63 = .ok (.invokevirtual 354, 3) := by decide +kernel
theorem dX1_readsNumber_66 : decode cX1_readsNumber 66 = .ok (.iadd, 1) := by decide +kernel
theorem dX1_readsNumber_67 : decode cX1_readsNumber 67 = .ok (.bipush 48, 2) := by decide +kernel
theorem dX1_readsNumber_69 : decode cX1_readsNumber 69 = .ok (.isub, 1) := by decide +kernel
theorem dX1_readsNumber_70 : decode cX1_readsNumber 70 = .ok (.putfield 364, 3) := by decide +kernel
theorem dX1_readsNumber_73 : decode cX1_readsNumber 73 = .ok (.aload_n 0, 1) := by decide +kernel
theorem dX1_readsNumber_74 : decode cX1_readsNumber 74 = .ok (.aload_n 0, 1) := by decide +kernel
theorem dX1_readsNumber_75 : decode cX1_readsNumber 75 = .ok (.getfield 348, 3) := by decide +kernel
theorem dX1_readsNumber_78 : decode cX1_readsNumber 78 = .ok (.iconst 1, 1) := by decide +kernel
theorem dX1_readsNumber_79 : decode cX1_readsNumber 79 = .ok (.iadd, 1) := by decide +kernel
theorem dX1_readsNumber_80 : decode cX1_readsNumber 80 = .ok (.putfield 348, 3) := by decide +kernel
theorem dX1_readsNumber_83 : decode cX1_readsNumber 83 = .ok (.goto (-56), 3) := by decide +kernel
theorem dX1_readsNumber_86 : decode cX1_readsNumber 86 = .ok (.aload_n 0, 1) := by decide +kernel
theorem dX1_readsNumber_87 : decode cX1_readsNumber 87 = .ok (.getfield 364, 3) := by decide +kernel
theorem dX1_readsNumber_90 : decode cX1_readsNumber 90 = .ok (.iload_n 1, 1) := by decide +kernel
theorem dX1_readsNumber_91 : decode cX1_readsNumber 91 = .ok (.if_icmp .le 12, 3) := by decide +kernel
theorem dX1_readsNumber_94 : decode cX1_readsNumber 94 = .ok (.aload_n 0, 1) := by decide +kernel
theorem dX1_readsNumber_95 : decode cX1_readsNumber 95 = .ok (.iconst 3, 1) := by decide +kernel
theorem dX1_readsNumber_96 : decode cX1_readsNumber 96 = .ok (.iload_n 2, 1) := by decide +kernel
theorem dX1_readsNumber_97 : decode cX1_readsNumber 97 = .ok (.invokevirtual 361, 3) := by decide +kernel
theorem dX1_readsNumber_100 : decode cX1_readsNumber 100 = .ok (.ifCond .eq 7, 3) := by decide +kernel
theorem dX1_readsNumber_103 : decode cX1_readsNumber 103 = .ok (.iconst 1, 1) := by decide +kernel
theorem dX1_readsNumber_104 : decode cX1_readsNumber 104 = .ok (.goto 4, 3) := by decide +kernel
theorem dX1_readsNumber_107 : decode cX1_readsNumber 107 = .ok (.iconst 0, 1) := by decide +kernel
theorem dX1_readsNumber_108 : decode cX1_readsNumber 108 = .ok (.ireturn, 1) := by decide +kernel
section
variable {res : Int32 × MS}
noncomputable def m_readsNumber_B27 (F : Nat) (K44 : MS → Option (Int32 × MS)) (K86 : MS → Option (Int32 × MS)) (x1 x2 : Int32) (R : MS → Option (Int32 × MS)) (a : MS) : Option (Int32 × MS) :=
  (m_isDigit F a).bind (fun r1 => if r1.1 = 0 then (K86 r1.2) else (if (r1.2.1 29) = (x2 + 5) then (K44 r1.2) else ((m_byteHere F r1.2).bind (fun r2 => nx (sS r2.2 32 (((10 * (r1.2.1 32)) + r2.1) - 48)) (fun σ1 => nx (sS σ1 29 ((σ1.1 29) + 1)) (fun σ2 => R σ2))))))
theorem km_readsNumber_B27 (M : MC γ cX1_readsNumber 3 G o 3 (some .boolean) (mQi G o res)) (x1 x2 : Int32) (K44 : MS → Option (Int32 × MS)) (hK44 : ∀ a, K44 a = some res → J γ (MW G o a) 0 0 44 [(0, .ref o)] []) (K86 : MS → Option (Int32 × MS)) (hK86 : ∀ a, K86 a = some res → J γ (MW G o a) 0 0 86 [(0, .ref o), (1, .int x1), (2, .int x2)] []) : ∀ R : MS → Option (Int32 × MS), (∀ a, R a = some res → J γ (MW G o a) 0 0 27 [(0, .ref o), (1, .int x1), (2, .int x2)] []) → ∀ a, m_readsNumber_B27 F K44 K86 x1 x2 R a = some res → J γ (MW G o a) 0 0 27 [(0, .ref o), (1, .int x1), (2, .int x2)] [] := by
  intro R hR a hf
  unfold m_readsNumber_B27 at hf
  refine j_aload_n (pc := 27) M.1 dX1_readsNumber_27 0 rfl ?_
  obtain ⟨r1, g1, hf⟩ := o_bind hf
  refine jm_calli (pc := 28) (As := []) (rest := []) M cm_367 (met_isDigit g1) rfl rfl rfl rfl dX1_readsNumber_28 ?_
  refine j_if_eq (pc := 31) M.1 86 dX1_readsNumber_31 rfl (fun c1 => ?_) (fun c1 => ?_)
  · replace hf := o_pos c1 hf
    have hy := hK86 _ hf
    exact hy
  · replace hf := o_neg c1 hf
    refine j_aload_n (pc := 34) M.1 dX1_readsNumber_34 0 rfl ?_
    refine jm_getS (pc := 35) M fm_348 dX1_readsNumber_35 ?_
    refine j_iload_n (pc := 38) M.1 dX1_readsNumber_38 2 rfl ?_
    refine j_iconst (pc := 39) M.1 dX1_readsNumber_39 kc_iconst_5 ?_
    refine j_iadd (pc := 40) M.1 dX1_readsNumber_40 ?_
    refine j_icmp_ne (pc := 41) M.1 54 dX1_readsNumber_41 rfl (fun c2 => ?_) (fun c2 => ?_)
    · replace hf := o_neg c2 hf
      refine j_aload_n (pc := 54) M.1 dX1_readsNumber_54 0 rfl ?_
      refine j_bipush (pc := 55) M.1 dX1_readsNumber_55 kc_bipush_10 ?_
      refine j_aload_n (pc := 57) M.1 dX1_readsNumber_57 0 rfl ?_
      refine jm_getS (pc := 58) M fm_364 dX1_readsNumber_58 ?_
      refine j_imul (pc := 61) M.1 dX1_readsNumber_61 ?_
      refine j_aload_n (pc := 62) M.1 dX1_readsNumber_62 0 rfl ?_
      obtain ⟨r2, g2, hf⟩ := o_bind hf
      refine jm_calli (pc := 63) (As := []) (rest := [.int (10 * (r1.2.1 32)), .ref o]) M cm_354 (met_byteHere g2) rfl rfl rfl rfl dX1_readsNumber_63 ?_
      refine j_iadd (pc := 66) M.1 dX1_readsNumber_66 ?_
      refine j_bipush (pc := 67) M.1 dX1_readsNumber_67 kc_bipush_48 ?_
      refine j_isub (pc := 69) M.1 dX1_readsNumber_69 ?_
      obtain ⟨σ1, e1, hf⟩ := o_nx hf
      refine jm_put (pc := 70) M fm_364 dX1_readsNumber_70 e1 ?_
      refine j_aload_n (pc := 73) M.1 dX1_readsNumber_73 0 rfl ?_
      refine j_aload_n (pc := 74) M.1 dX1_readsNumber_74 0 rfl ?_
      refine jm_getS (pc := 75) M fm_348 dX1_readsNumber_75 ?_
      refine j_iconst (pc := 78) M.1 dX1_readsNumber_78 kc_iconst_1 ?_
      refine j_iadd (pc := 79) M.1 dX1_readsNumber_79 ?_
      obtain ⟨σ2, e2, hf⟩ := o_nx hf
      refine jm_put (pc := 80) M fm_348 dX1_readsNumber_80 e2 ?_
      refine j_goto (pc := 83) M.1 27 dX1_readsNumber_83 rfl ?_
      have hy := hR _ hf
      exact hy
    · replace hf := o_pos c2 hf
      refine j_sub [0] (show lv_pick _ _ = [(0, .ref o)] from rfl) ?_
      have hy := hK44 _ hf
      exact hy
noncomputable def m_readsNumber (F : Nat) (x1 : Int32) (σ : MS) : Option (Int32 × MS) :=
  nx (sS σ 32 0) (fun σ1 => (m_isDigit F σ1).bind (fun r1 => if r1.1 = 0 then ((m_wrong F 1 (r1.2.1 29) r1.2).bind (fun r4 => if okB r4.1 = true then some (r4.1, r4.2) else none)) else (lp (m_readsNumber_B27 F (fun a1 => (m_wrong F 2 (a1.1 29) a1).bind (fun r2 => if okB r2.1 = true then some (r2.1, r2.2) else none)) (fun a2 => if (a2.1 32) ≤ x1 then (some (1, a2)) else ((m_wrong F 3 (σ.1 29) a2).bind (fun r3 => if r3.1 = 0 then (some (0, r3.2)) else (some (1, r3.2))))) x1 (σ.1 29)) F r1.2)))
theorem met_readsNumber {l : Launch} {G : gG} {o F : Nat} {x1 : Int32} {σ : MS} {res : Int32 × MS} (hf : m_readsNumber F x1 σ = some res) : MetMi l G yX1_readsNumber cX1_readsNumber 3 (some .boolean) 3 o [.int x1] σ res := by
  refine metMi_of (by decide) rfl rfl (fun γ hγ M => ?_)
  subst hγ
  show J γ (MW G o σ) 0 0 0 [(0, .ref o), (1, .int x1)] []
  unfold m_readsNumber at hf
  refine j_aload_n (pc := 0) M.1 dX1_readsNumber_0 0 rfl ?_
  refine jm_getS (pc := 1) M fm_348 dX1_readsNumber_1 ?_
  refine j_istore_n (pc := 4) M.1 [(2, .int (σ.1 29)), (0, .ref o), (1, .int x1)] dX1_readsNumber_4 rfl rfl ?_
  refine j_aload_n (pc := 5) M.1 dX1_readsNumber_5 1 rfl ?_
  refine j_iconst (pc := 6) M.1 dX1_readsNumber_6 kc_iconst_0 ?_
  obtain ⟨σ1, e1, hf⟩ := o_nx hf
  refine jm_put (pc := 7) M fm_364 dX1_readsNumber_7 e1 ?_
  refine j_aload_n (pc := 10) M.1 dX1_readsNumber_10 1 rfl ?_
  obtain ⟨r1, g1, hf⟩ := o_bind hf
  refine jm_calli (pc := 11) (As := []) (rest := []) M cm_367 (met_isDigit g1) rfl rfl rfl rfl dX1_readsNumber_11 ?_
  refine j_if_ne (pc := 14) M.1 27 dX1_readsNumber_14 rfl (fun c1 => ?_) (fun c1 => ?_)
  · replace hf := o_neg c1 hf
    refine j_sub [1, 2, 0] (show lv_pick _ _ = [(0, .ref o), (1, .int x1), (2, .int (σ.1 29))] from rfl) ?_
    refine lp_W (km_readsNumber_B27 M x1 (σ.1 29) _ ?_ _ ?_) F r1.2 hf
    · intro a1 hf
      refine j_aload_n (pc := 44) M.1 dX1_readsNumber_44 0 rfl ?_
      refine j_iconst (pc := 45) M.1 dX1_readsNumber_45 kc_iconst_2 ?_
      refine j_aload_n (pc := 46) M.1 dX1_readsNumber_46 0 rfl ?_
      refine jm_getS (pc := 47) M fm_348 dX1_readsNumber_47 ?_
      obtain ⟨r2, g2, hf⟩ := o_bind hf
      refine jm_calli (pc := 50) (As := [.int 2, .int (a1.1 29)]) (rest := []) M cm_361 (met_wrong g2) rfl rfl rfl rfl dX1_readsNumber_50 ?_
      obtain ⟨b1, hf⟩ := o_need hf
      exact jm_zret (pc := 53) M dX1_readsNumber_53 b1 hf
    · intro a2 hf
      refine j_aload_n (pc := 86) M.1 dX1_readsNumber_86 0 rfl ?_
      refine jm_getS (pc := 87) M fm_364 dX1_readsNumber_87 ?_
      refine j_iload_n (pc := 90) M.1 dX1_readsNumber_90 1 rfl ?_
      refine j_icmp_le (pc := 91) M.1 103 dX1_readsNumber_91 rfl (fun c2 => ?_) (fun c2 => ?_)
      · replace hf := o_pos c2 hf
        refine j_iconst (pc := 103) M.1 dX1_readsNumber_103 kc_iconst_1 ?_
        refine j_goto (pc := 104) M.1 108 dX1_readsNumber_104 rfl ?_
        exact jm_zret (pc := 108) M dX1_readsNumber_108 rfl hf
      · replace hf := o_neg c2 hf
        refine j_aload_n (pc := 94) M.1 dX1_readsNumber_94 0 rfl ?_
        refine j_iconst (pc := 95) M.1 dX1_readsNumber_95 kc_iconst_3 ?_
        refine j_iload_n (pc := 96) M.1 dX1_readsNumber_96 2 rfl ?_
        obtain ⟨r3, g3, hf⟩ := o_bind hf
        refine jm_calli (pc := 97) (As := [.int 3, .int (σ.1 29)]) (rest := []) M cm_361 (met_wrong g3) rfl rfl rfl rfl dX1_readsNumber_97 ?_
        refine j_if_eq (pc := 100) M.1 107 dX1_readsNumber_100 rfl (fun c3 => ?_) (fun c3 => ?_)
        · replace hf := o_pos c3 hf
          refine j_iconst (pc := 107) M.1 dX1_readsNumber_107 kc_iconst_0 ?_
          exact jm_zret (pc := 108) M dX1_readsNumber_108 rfl hf
        · replace hf := o_neg c3 hf
          refine j_iconst (pc := 103) M.1 dX1_readsNumber_103 kc_iconst_1 ?_
          refine j_goto (pc := 104) M.1 108 dX1_readsNumber_104 rfl ?_
          exact jm_zret (pc := 108) M dX1_readsNumber_108 rfl hf
  · replace hf := o_pos c1 hf
    refine j_aload_n (pc := 17) M.1 dX1_readsNumber_17 1 rfl ?_
    refine j_iconst (pc := 18) M.1 dX1_readsNumber_18 kc_iconst_1 ?_
    refine j_aload_n (pc := 19) M.1 dX1_readsNumber_19 1 rfl ?_
    refine jm_getS (pc := 20) M fm_348 dX1_readsNumber_20 ?_
    obtain ⟨r4, g4, hf⟩ := o_bind hf
    refine jm_calli (pc := 23) (As := [.int 1, .int (r1.2.1 29)]) (rest := []) M cm_361 (met_wrong g4) rfl rfl rfl rfl dX1_readsNumber_23 ?_
    obtain ⟨b2, hf⟩ := o_need hf
    exact jm_zret (pc := 26) M dX1_readsNumber_26 b2 hf
end
theorem dX1_strikes_0 : decode cX1_strikes 0 = .ok (.iconst 0, 1) := by decide +kernel
theorem dX1_strikes_1 : decode cX1_strikes 1 = .ok (.istore_n 2, 1) := by decide +kernel
theorem dX1_strikes_2 : decode cX1_strikes 2 = .ok (.iload_n 2, 1) := by decide +kernel
theorem dX1_strikes_3 : decode cX1_strikes 3 = .ok (.bipush 10, 2) := by decide +kernel
theorem dX1_strikes_5 : decode cX1_strikes 5 = .ok (.aload_n 0, 1) := by decide +kernel
theorem dX1_strikes_6 : decode cX1_strikes 6 = .ok (.getfield 441, 3) := by decide +kernel
theorem dX1_strikes_9 : decode cX1_strikes 9 = .ok (.imul, 1) := by decide +kernel
theorem dX1_strikes_10 : decode cX1_strikes 10 = .ok (.if_icmp .ge 16, 3) := by decide +kernel
theorem dX1_strikes_13 : decode cX1_strikes 13 = .ok (.aload_n 0, 1) := by decide +kernel
theorem dX1_strikes_14 : decode cX1_strikes 14 = .ok (.getfield 122, 3) := by decide +kernel
theorem dX1_strikes_17 : decode cX1_strikes 17 = .ok (.iload_n 2, 1) := by decide +kernel
theorem dX1_strikes_18 : decode cX1_strikes 18 = .ok (.iconst 0, 1) := by decide +kernel
theorem dX1_strikes_19 : decode cX1_strikes 19 = .ok (.bastore, 1) := by decide +kernel
theorem dX1_strikes_20 : decode cX1_strikes 20 = .ok (.iinc 2 1, 3) := by decide +kernel
theorem dX1_strikes_23 : decode cX1_strikes 23 = .ok (.goto (-21), 3) := by decide +kernel
theorem dX1_strikes_26 : decode cX1_strikes 26 = .ok (.aload_n 0, 1) := by decide +kernel
theorem dX1_strikes_27 : decode cX1_strikes 27 = .ok (.getfield 441, 3) := by decide +kernel
theorem dX1_strikes_30 : decode cX1_strikes 30 = .ok (.iconst 1, 1) := by decide +kernel
theorem dX1_strikes_31 : decode cX1_strikes 31 = .ok (.isub, 1) := by decide +kernel
theorem dX1_strikes_32 : decode cX1_strikes 32 = .ok (.istore_n 2, 1) := by decide +kernel
theorem dX1_strikes_33 : decode cX1_strikes 33 = .ok (.iload_n 2, 1) := by decide +kernel
theorem dX1_strikes_34 : decode cX1_strikes 34 = .ok (.ifCond .lt 116, 3) := by decide +kernel
theorem dX1_strikes_37 : decode cX1_strikes 37 = .ok (.iconst 0, 1) := by decide +kernel
theorem dX1_strikes_38 : decode cX1_strikes 38 = .ok (.istore_n 3, 1) := by decide +kernel
theorem dX1_strikes_39 : decode cX1_strikes 39 = .ok (.iload_n 3, 1) := by decide +kernel
theorem dX1_strikes_40 : decode cX1_strikes 40 = .ok (.aload_n 0, 1) := by decide +kernel
theorem dX1_strikes_41 : decode cX1_strikes 41 = .ok (.getfield 104, 3) := by decide +kernel
theorem dX1_strikes_44 : decode cX1_strikes 44 = .ok (.iload_n 2, 1) := by decide +kernel
theorem dX1_strikes_45 : decode cX1_strikes 45 = .ok (.iaload, 1) := by decide +kernel
theorem dX1_strikes_46 : decode cX1_strikes 46 = .ok (.if_icmp .ge 98, 3) := by decide +kernel
theorem dX1_strikes_49 : decode cX1_strikes 49 = .ok (.aload_n 0, 1) := by decide +kernel
theorem dX1_strikes_50 : decode cX1_strikes 50 = .ok (.iload_n 2, 1) := by decide +kernel
theorem dX1_strikes_51 : decode cX1_strikes 51 = .ok (.iload_n 1, 1) := by decide +kernel
theorem dX1_strikes_52 : decode cX1_strikes 52 = .ok (.invokevirtual 447, 3) := by decide +kernel
theorem dX1_strikes_55 : decode cX1_strikes 55 = .ok (.ifCond .eq 89, 3) := by decide +kernel
theorem dX1_strikes_58 : decode cX1_strikes 58 = .ok (.bipush 10, 2) := by decide +kernel
theorem dX1_strikes_60 : decode cX1_strikes 60 = .ok (.iload_n 2, 1) := by decide +kernel
theorem dX1_strikes_61 : decode cX1_strikes 61 = .ok (.imul, 1) := by decide +kernel
theorem dX1_strikes_62 : decode cX1_strikes 62 = .ok (.iload_n 3, 1) := by decide +kernel
theorem dX1_strikes_63 : decode cX1_strikes 63 = .ok (.iadd, 1) := by decide +kernel
theorem dX1_strikes_64 : decode cX1_strikes 64 = .ok (.istore 4, 2) := by decide +kernel
theorem dX1_strikes_66 : decode cX1_strikes 66 = .ok (.aload_n 0, 1) := by decide +kernel
theorem dX1_strikes_67 : decode cX1_strikes 67 = .ok (.getfield 107, 3) := by decide +kernel
theorem dX1_strikes_70 : decode cX1_strikes 70 = .ok (.iload 4, 2) := by decide +kernel
theorem dX1_strikes_72 : decode cX1_strikes 72 = .ok (.iaload, 1) := by decide +kernel
theorem dX1_strikes_73 : decode cX1_strikes 73 = .ok (.bipush 120, 2) := by decide +kernel
theorem dX1_strikes_75 : decode cX1_strikes 75 = .ok (.if_icmp .ne 63, 3) := by decide +kernel
theorem dX1_strikes_78 : decode cX1_strikes 78 = .ok (.aload_n 0, 1) := by decide +kernel
theorem dX1_strikes_79 : decode cX1_strikes 79 = .ok (.getfield 122, 3) := by decide +kernel
theorem dX1_strikes_82 : decode cX1_strikes 82 = .ok (.iload 4, 2) := by decide +kernel
theorem dX1_strikes_84 : decode cX1_strikes 84 = .ok (.baload, 1) := by decide +kernel
theorem dX1_strikes_85 : decode cX1_strikes 85 = .ok (.ifCond .ne 53, 3) := by decide +kernel
theorem dX1_strikes_88 : decode cX1_strikes 88 = .ok (.aload_n 0, 1) := by decide +kernel
theorem dX1_strikes_89 : decode cX1_strikes 89 = .ok (.getfield 116, 3) := by decide +kernel
theorem dX1_strikes_92 : decode cX1_strikes 92 = .ok (.iload 4, 2) := by decide +kernel
theorem dX1_strikes_94 : decode cX1_strikes 94 = .ok (.iaload, 1) := by decide +kernel
theorem dX1_strikes_95 : decode cX1_strikes 95 = .ok (.iload_n 2, 1) := by decide +kernel
theorem dX1_strikes_96 : decode cX1_strikes 96 = .ok (.if_icmp .ge 42, 3) := by decide +kernel
theorem dX1_strikes_99 : decode cX1_strikes 99 = .ok (.aload_n 0, 1) := by decide +kernel
theorem dX1_strikes_100 : decode cX1_strikes 100 = .ok (.aload_n 0, 1) := by decide +kernel
theorem dX1_strikes_101 : decode cX1_strikes 101 = .ok (.getfield 116, 3) := by decide +kernel
theorem dX1_strikes_104 : decode cX1_strikes 104 = .ok (.iload 4, 2) := by decide +kernel
theorem dX1_strikes_106 : decode cX1_strikes 106 = .ok (.iaload, 1) := by decide +kernel
theorem dX1_strikes_107 : decode cX1_strikes 107 = .ok (.iload_n 1, 1) := by decide +kernel
theorem dX1_strikes_108 : decode cX1_strikes 108 = .ok (.invokevirtual 447, 3) := by decide +kernel
theorem dX1_strikes_111 : decode cX1_strikes 111 = .ok (.ifCond .eq 27, 3) := by decide +kernel
theorem dX1_strikes_114 : decode cX1_strikes 114 = .ok (.aload_n 0, 1) := by decide +kernel
theorem dX1_strikes_115 : decode cX1_strikes 115 = .ok (.getfield 122, 3) := by decide +kernel
theorem dX1_strikes_118 : decode cX1_strikes 118 = .ok (.bipush 10, 2) := by decide +kernel
theorem dX1_strikes_120 : decode cX1_strikes 120 = .ok (.aload_n 0, 1) := by decide +kernel
theorem dX1_strikes_121 : decode cX1_strikes 121 = .ok (.getfield 116, 3) := by decide +kernel
theorem dX1_strikes_124 : decode cX1_strikes 124 = .ok (.iload 4, 2) := by decide +kernel
theorem dX1_strikes_126 : decode cX1_strikes 126 = .ok (.iaload, 1) := by decide +kernel
theorem dX1_strikes_127 : decode cX1_strikes 127 = .ok (.imul, 1) := by decide +kernel
theorem dX1_strikes_128 : decode cX1_strikes 128 = .ok (.aload_n 0, 1) := by decide +kernel
theorem dX1_strikes_129 : decode cX1_strikes 129 = .ok (.getfield 119, 3) := by decide +kernel
theorem dX1_strikes_132 : decode cX1_strikes 132 = .ok (.iload 4, 2) := by decide +kernel
theorem dX1_strikes_134 : decode cX1_strikes 134 = .ok (.iaload, 1) := by decide +kernel
theorem dX1_strikes_135 : decode cX1_strikes 135 = .ok (.iadd, 1) := by decide +kernel
theorem dX1_strikes_136 : decode cX1_strikes 136 = .ok (.iconst 1, 1) := by decide +kernel
theorem dX1_strikes_137 : decode cX1_strikes 137 = .ok (.bastore, 1) := by decide +kernel
theorem dX1_strikes_138 : decode cX1_strikes 138 = .ok (.iinc 3 1, 3) := by decide +kernel
theorem dX1_strikes_141 : decode cX1_strikes 141 = .ok (.goto (-102), 3) := by decide +kernel
theorem dX1_strikes_144 : decode cX1_strikes 144 = .ok (.iinc 2 (-1), 3) := by decide +kernel
theorem dX1_strikes_147 : decode cX1_strikes 147 = .ok (.goto (-114), 3) := by decide +kernel
theorem dX1_strikes_150 : decode cX1_strikes 150 = .ok (.return_, 1) := by decide +kernel
section
variable {res : Int32 × MS}
noncomputable def m_strikes_B2 (F : Nat) (K26 : Int32 × MS → Option (Int32 × MS)) (x1 : Int32) (R : Int32 × MS → Option (Int32 × MS)) (a : Int32 × MS) : Option (Int32 × MS) :=
  if (10 * (a.2.1 44)) ≤ a.1 then (K26 (a.1, a.2)) else (if okI a.1 200 = true then nx (sA a.2 37 a.1.toNatClampNeg (vp_nar .boolean 0)) (fun σ1 => R (a.1 + 1, σ1)) else none)
theorem km_strikes_B2 (M : MC γ cX1_strikes 5 G o 3 none (mQv G o res)) (x1 : Int32) (K26 : Int32 × MS → Option (Int32 × MS)) (hK26 : ∀ a, K26 a = some res → J γ (MW G o a.2) 0 0 26 [(0, .ref o), (1, .int x1)] []) : ∀ R : Int32 × MS → Option (Int32 × MS), (∀ a, R a = some res → J γ (MW G o a.2) 0 0 2 [(0, .ref o), (1, .int x1), (2, .int a.1)] []) → ∀ a, m_strikes_B2 F K26 x1 R a = some res → J γ (MW G o a.2) 0 0 2 [(0, .ref o), (1, .int x1), (2, .int a.1)] [] := by
  intro R hR a hf
  unfold m_strikes_B2 at hf
  refine j_iload_n (pc := 2) M.1 dX1_strikes_2 2 rfl ?_
  refine j_bipush (pc := 3) M.1 dX1_strikes_3 kc_bipush_10 ?_
  refine j_aload_n (pc := 5) M.1 dX1_strikes_5 0 rfl ?_
  refine jm_getS (pc := 6) M fm_441 dX1_strikes_6 ?_
  refine j_imul (pc := 9) M.1 dX1_strikes_9 ?_
  refine j_icmp_ge (pc := 10) M.1 26 dX1_strikes_10 rfl (fun c1 => ?_) (fun c1 => ?_)
  · replace hf := o_pos c1 hf
    refine j_sub [0, 1] (show lv_pick _ _ = [(0, .ref o), (1, .int x1)] from rfl) ?_
    have hy := hK26 _ hf
    exact hy
  · replace hf := o_neg c1 hf
    refine j_aload_n (pc := 13) M.1 dX1_strikes_13 0 rfl ?_
    refine jm_getA (pc := 14) M fa_122 dX1_strikes_14 ?_
    refine j_iload_n (pc := 17) M.1 dX1_strikes_17 2 rfl ?_
    refine j_iconst (pc := 18) M.1 dX1_strikes_18 kc_iconst_0 ?_
    obtain ⟨b1, hf⟩ := o_need hf
    obtain ⟨σ1, e1, hf⟩ := o_nx hf
    refine jm_zast (pc := 19) M ax_37 b1 dX1_strikes_19 e1 ?_
    refine j_iinc (pc := 20) M.1 [(2, .int (a.1 + 1)), (0, .ref o), (1, .int x1)] dX1_strikes_20 2 rfl (congrArg _ kc_iconst_1) rfl rfl ?_
    refine j_goto (pc := 23) M.1 2 dX1_strikes_23 rfl ?_
    refine j_sub [1, 2, 0] (show lv_pick _ _ = [(0, .ref o), (1, .int x1), (2, .int (a.1 + 1))] from rfl) ?_
    have hy := hR _ hf
    exact hy
noncomputable def m_strikes_B39 (F : Nat) (K144 : Int32 × MS → Option (Int32 × MS)) (x1 x2 : Int32) (R : Int32 × MS → Option (Int32 × MS)) (a : Int32 × MS) : Option (Int32 × MS) :=
  if okI x2 20 = true then if (a.2.2 31 x2.toNatClampNeg) ≤ a.1 then (K144 (a.1, a.2)) else ((m_isForce F x2 x1 a.2).bind (fun r1 => if r1.1 = 0 then (K144 (a.1, r1.2)) else (nx ((10 * x2) + a.1 : Int32) (fun y1 => if okI y1 200 = true then if (r1.2.2 32 y1.toNatClampNeg) = 120 then (if okI y1 200 = true then if (r1.2.2 37 y1.toNatClampNeg) = 0 then (if okI y1 200 = true then if x2 ≤ (r1.2.2 35 y1.toNatClampNeg) then (R (a.1 + 1, r1.2)) else (if okI y1 200 = true then (m_isForce F (r1.2.2 35 y1.toNatClampNeg) x1 r1.2).bind (fun r2 => if r2.1 = 0 then (R (a.1 + 1, r2.2)) else (if okI y1 200 = true then if okI y1 200 = true then if okI ((10 * (r2.2.2 35 y1.toNatClampNeg)) + (r2.2.2 36 y1.toNatClampNeg)) 200 = true then nx (sA r2.2 37 ((10 * (r2.2.2 35 y1.toNatClampNeg)) + (r2.2.2 36 y1.toNatClampNeg)).toNatClampNeg (vp_nar .boolean 1)) (fun σ1 => R (a.1 + 1, σ1)) else none else none else none)) else none) else none) else (R (a.1 + 1, r1.2)) else none) else (R (a.1 + 1, r1.2)) else none)))) else none
theorem km_strikes_B39 (M : MC γ cX1_strikes 5 G o 3 none (mQv G o res)) (x1 x2 : Int32) (K144 : Int32 × MS → Option (Int32 × MS)) (hK144 : ∀ a, K144 a = some res → J γ (MW G o a.2) 0 0 144 [(0, .ref o), (1, .int x1), (2, .int x2)] []) : ∀ R : Int32 × MS → Option (Int32 × MS), (∀ a, R a = some res → J γ (MW G o a.2) 0 0 39 [(0, .ref o), (1, .int x1), (2, .int x2), (3, .int a.1)] []) → ∀ a, m_strikes_B39 F K144 x1 x2 R a = some res → J γ (MW G o a.2) 0 0 39 [(0, .ref o), (1, .int x1), (2, .int x2), (3, .int a.1)] [] := by
  intro R hR a hf
  unfold m_strikes_B39 at hf
  refine j_iload_n (pc := 39) M.1 dX1_strikes_39 3 rfl ?_
  refine j_aload_n (pc := 40) M.1 dX1_strikes_40 0 rfl ?_
  refine jm_getA (pc := 41) M fa_104 dX1_strikes_41 ?_
  refine j_iload_n (pc := 44) M.1 dX1_strikes_44 2 rfl ?_
  obtain ⟨b1, hf⟩ := o_need hf
  refine jm_iald (pc := 45) M ax_31 b1 dX1_strikes_45 ?_
  refine j_icmp_ge (pc := 46) M.1 144 dX1_strikes_46 rfl (fun c1 => ?_) (fun c1 => ?_)
  · replace hf := o_pos c1 hf
    refine j_sub [0, 1, 2] (show lv_pick _ _ = [(0, .ref o), (1, .int x1), (2, .int x2)] from rfl) ?_
    have hy := hK144 _ hf
    exact hy
  · replace hf := o_neg c1 hf
    refine j_aload_n (pc := 49) M.1 dX1_strikes_49 0 rfl ?_
    refine j_iload_n (pc := 50) M.1 dX1_strikes_50 2 rfl ?_
    refine j_iload_n (pc := 51) M.1 dX1_strikes_51 1 rfl ?_
    obtain ⟨r1, g1, hf⟩ := o_bind hf
    refine jm_calli (pc := 52) (As := [.int x2, .int x1]) (rest := []) M cm_447 (met_isForce g1) rfl rfl rfl rfl dX1_strikes_52 ?_
    refine j_if_eq (pc := 55) M.1 144 dX1_strikes_55 rfl (fun c2 => ?_) (fun c2 => ?_)
    · replace hf := o_pos c2 hf
      refine j_sub [0, 1, 2] (show lv_pick _ _ = [(0, .ref o), (1, .int x1), (2, .int x2)] from rfl) ?_
      have hy := hK144 _ hf
      exact hy
    · replace hf := o_neg c2 hf
      refine j_bipush (pc := 58) M.1 dX1_strikes_58 kc_bipush_10 ?_
      refine j_iload_n (pc := 60) M.1 dX1_strikes_60 2 rfl ?_
      refine j_imul (pc := 61) M.1 dX1_strikes_61 ?_
      refine j_iload_n (pc := 62) M.1 dX1_strikes_62 3 rfl ?_
      refine j_iadd (pc := 63) M.1 dX1_strikes_63 ?_
      obtain ⟨y1, e1, hf⟩ := o_nx hf
      refine j_top e1 ?_
      refine j_istore (pc := 64) M.1 [(4, .int y1), (0, .ref o), (1, .int x1), (2, .int x2), (3, .int a.1)] dX1_strikes_64 rfl rfl ?_
      refine j_aload_n (pc := 66) M.1 dX1_strikes_66 1 rfl ?_
      refine jm_getA (pc := 67) M fa_107 dX1_strikes_67 ?_
      refine j_iload (pc := 70) M.1 dX1_strikes_70 0 rfl ?_
      obtain ⟨b2, hf⟩ := o_need hf
      refine jm_iald (pc := 72) M ax_32 b2 dX1_strikes_72 ?_
      refine j_bipush (pc := 73) M.1 dX1_strikes_73 kc_bipush_120 ?_
      refine j_icmp_ne (pc := 75) M.1 138 dX1_strikes_75 rfl (fun c3 => ?_) (fun c3 => ?_)
      · replace hf := o_neg c3 hf
        refine j_iinc (pc := 138) M.1 [(3, .int (a.1 + 1)), (4, .int y1), (0, .ref o), (1, .int x1), (2, .int x2)] dX1_strikes_138 4 rfl (congrArg _ kc_iconst_1) rfl rfl ?_
        refine j_goto (pc := 141) M.1 39 dX1_strikes_141 rfl ?_
        refine j_sub [2, 3, 4, 0] (show lv_pick _ _ = [(0, .ref o), (1, .int x1), (2, .int x2), (3, .int (a.1 + 1))] from rfl) ?_
        have hy := hR _ hf
        exact hy
      · replace hf := o_pos c3 hf
        refine j_aload_n (pc := 78) M.1 dX1_strikes_78 1 rfl ?_
        refine jm_getA (pc := 79) M fa_122 dX1_strikes_79 ?_
        refine j_iload (pc := 82) M.1 dX1_strikes_82 0 rfl ?_
        obtain ⟨b3, hf⟩ := o_need hf
        refine jm_zald (pc := 84) M ax_37 b3 dX1_strikes_84 ?_
        refine j_if_ne (pc := 85) M.1 138 dX1_strikes_85 rfl (fun c4 => ?_) (fun c4 => ?_)
        · replace hf := o_neg c4 hf
          refine j_iinc (pc := 138) M.1 [(3, .int (a.1 + 1)), (4, .int y1), (0, .ref o), (1, .int x1), (2, .int x2)] dX1_strikes_138 4 rfl (congrArg _ kc_iconst_1) rfl rfl ?_
          refine j_goto (pc := 141) M.1 39 dX1_strikes_141 rfl ?_
          refine j_sub [2, 3, 4, 0] (show lv_pick _ _ = [(0, .ref o), (1, .int x1), (2, .int x2), (3, .int (a.1 + 1))] from rfl) ?_
          have hy := hR _ hf
          exact hy
        · replace hf := o_pos c4 hf
          refine j_aload_n (pc := 88) M.1 dX1_strikes_88 1 rfl ?_
          refine jm_getA (pc := 89) M fa_116 dX1_strikes_89 ?_
          refine j_iload (pc := 92) M.1 dX1_strikes_92 0 rfl ?_
          obtain ⟨b4, hf⟩ := o_need hf
          refine jm_iald (pc := 94) M ax_35 b4 dX1_strikes_94 ?_
          refine j_iload_n (pc := 95) M.1 dX1_strikes_95 3 rfl ?_
          refine j_icmp_ge (pc := 96) M.1 138 dX1_strikes_96 rfl (fun c5 => ?_) (fun c5 => ?_)
          · replace hf := o_pos c5 hf
            refine j_iinc (pc := 138) M.1 [(3, .int (a.1 + 1)), (4, .int y1), (0, .ref o), (1, .int x1), (2, .int x2)] dX1_strikes_138 4 rfl (congrArg _ kc_iconst_1) rfl rfl ?_
            refine j_goto (pc := 141) M.1 39 dX1_strikes_141 rfl ?_
            refine j_sub [2, 3, 4, 0] (show lv_pick _ _ = [(0, .ref o), (1, .int x1), (2, .int x2), (3, .int (a.1 + 1))] from rfl) ?_
            have hy := hR _ hf
            exact hy
          · replace hf := o_neg c5 hf
            refine j_aload_n (pc := 99) M.1 dX1_strikes_99 1 rfl ?_
            refine j_aload_n (pc := 100) M.1 dX1_strikes_100 1 rfl ?_
            refine jm_getA (pc := 101) M fa_116 dX1_strikes_101 ?_
            refine j_iload (pc := 104) M.1 dX1_strikes_104 0 rfl ?_
            obtain ⟨b5, hf⟩ := o_need hf
            refine jm_iald (pc := 106) M ax_35 b5 dX1_strikes_106 ?_
            refine j_iload_n (pc := 107) M.1 dX1_strikes_107 2 rfl ?_
            obtain ⟨r2, g2, hf⟩ := o_bind hf
            refine jm_calli (pc := 108) (As := [.int (r1.2.2 35 y1.toNatClampNeg), .int x1]) (rest := []) M cm_447 (met_isForce g2) rfl rfl rfl rfl dX1_strikes_108 ?_
            refine j_if_eq (pc := 111) M.1 138 dX1_strikes_111 rfl (fun c6 => ?_) (fun c6 => ?_)
            · replace hf := o_pos c6 hf
              refine j_iinc (pc := 138) M.1 [(3, .int (a.1 + 1)), (4, .int y1), (0, .ref o), (1, .int x1), (2, .int x2)] dX1_strikes_138 4 rfl (congrArg _ kc_iconst_1) rfl rfl ?_
              refine j_goto (pc := 141) M.1 39 dX1_strikes_141 rfl ?_
              refine j_sub [2, 3, 4, 0] (show lv_pick _ _ = [(0, .ref o), (1, .int x1), (2, .int x2), (3, .int (a.1 + 1))] from rfl) ?_
              have hy := hR _ hf
              exact hy
            · replace hf := o_neg c6 hf
              refine j_aload_n (pc := 114) M.1 dX1_strikes_114 1 rfl ?_
              refine jm_getA (pc := 115) M fa_122 dX1_strikes_115 ?_
              refine j_bipush (pc := 118) M.1 dX1_strikes_118 kc_bipush_10 ?_
              refine j_aload_n (pc := 120) M.1 dX1_strikes_120 1 rfl ?_
              refine jm_getA (pc := 121) M fa_116 dX1_strikes_121 ?_
              refine j_iload (pc := 124) M.1 dX1_strikes_124 0 rfl ?_
              obtain ⟨b6, hf⟩ := o_need hf
              refine jm_iald (pc := 126) M ax_35 b6 dX1_strikes_126 ?_
              refine j_imul (pc := 127) M.1 dX1_strikes_127 ?_
              refine j_aload_n (pc := 128) M.1 dX1_strikes_128 1 rfl ?_
              refine jm_getA (pc := 129) M fa_119 dX1_strikes_129 ?_
              refine j_iload (pc := 132) M.1 dX1_strikes_132 0 rfl ?_
              obtain ⟨b7, hf⟩ := o_need hf
              refine jm_iald (pc := 134) M ax_36 b7 dX1_strikes_134 ?_
              refine j_iadd (pc := 135) M.1 dX1_strikes_135 ?_
              refine j_iconst (pc := 136) M.1 dX1_strikes_136 kc_iconst_1 ?_
              obtain ⟨b8, hf⟩ := o_need hf
              obtain ⟨σ1, e2, hf⟩ := o_nx hf
              refine jm_zast (pc := 137) M ax_37 b8 dX1_strikes_137 e2 ?_
              refine j_iinc (pc := 138) M.1 [(3, .int (a.1 + 1)), (4, .int y1), (0, .ref o), (1, .int x1), (2, .int x2)] dX1_strikes_138 4 rfl (congrArg _ kc_iconst_1) rfl rfl ?_
              refine j_goto (pc := 141) M.1 39 dX1_strikes_141 rfl ?_
              refine j_sub [2, 3, 4, 0] (show lv_pick _ _ = [(0, .ref o), (1, .int x1), (2, .int x2), (3, .int (a.1 + 1))] from rfl) ?_
              have hy := hR _ hf
              exact hy
noncomputable def m_strikes_B33 (F : Nat) (x1 : Int32) (R : Int32 × MS → Option (Int32 × MS)) (a : Int32 × MS) : Option (Int32 × MS) :=
  if a.1 < 0 then (some (0, a.2)) else (lp (m_strikes_B39 F (fun a1 => R (a.1 + (-1), a1.2)) x1 a.1) F (0, a.2))
theorem km_strikes_B33 (M : MC γ cX1_strikes 5 G o 3 none (mQv G o res)) (x1 : Int32) : ∀ R : Int32 × MS → Option (Int32 × MS), (∀ a, R a = some res → J γ (MW G o a.2) 0 0 33 [(0, .ref o), (1, .int x1), (2, .int a.1)] []) → ∀ a, m_strikes_B33 F x1 R a = some res → J γ (MW G o a.2) 0 0 33 [(0, .ref o), (1, .int x1), (2, .int a.1)] [] := by
  intro R hR a hf
  unfold m_strikes_B33 at hf
  refine j_iload_n (pc := 33) M.1 dX1_strikes_33 2 rfl ?_
  refine j_if_lt (pc := 34) M.1 150 dX1_strikes_34 rfl (fun c1 => ?_) (fun c1 => ?_)
  · replace hf := o_pos c1 hf
    exact jm_vret (pc := 150) M dX1_strikes_150 hf
  · replace hf := o_neg c1 hf
    refine j_iconst (pc := 37) M.1 dX1_strikes_37 kc_iconst_0 ?_
    refine j_istore_n (pc := 38) M.1 [(3, .int 0), (0, .ref o), (1, .int x1), (2, .int a.1)] dX1_strikes_38 rfl rfl ?_
    refine j_sub [1, 2, 3, 0] (show lv_pick _ _ = [(0, .ref o), (1, .int x1), (2, .int a.1), (3, .int 0)] from rfl) ?_
    refine lp_W (km_strikes_B39 M x1 a.1 _ ?_) F (0, a.2) hf
    · intro a1 hf
      refine j_iinc (pc := 144) M.1 [(2, .int (a.1 + (-1))), (0, .ref o), (1, .int x1)] dX1_strikes_144 2 rfl (congrArg _ kc_iconst_m1) rfl rfl ?_
      refine j_goto (pc := 147) M.1 33 dX1_strikes_147 rfl ?_
      refine j_sub [1, 2, 0] (show lv_pick _ _ = [(0, .ref o), (1, .int x1), (2, .int (a.1 + (-1)))] from rfl) ?_
      have hy := hR _ hf
      exact hy
noncomputable def m_strikes (F : Nat) (x1 : Int32) (σ : MS) : Option (Int32 × MS) :=
  lp (m_strikes_B2 F (fun a1 => nx ((a1.2.1 44) - 1 : Int32) (fun y1 => lp (m_strikes_B33 F x1) F (y1, a1.2))) x1) F (0, σ)
theorem met_strikes {l : Launch} {G : gG} {o F : Nat} {x1 : Int32} {σ : MS} {res : Int32 × MS} (hf : m_strikes F x1 σ = some res) : MetMv l G yX1_strikes cX1_strikes 5 3 o [.int x1] σ res := by
  refine metMv_of (by decide) rfl rfl (fun γ hγ M => ?_)
  subst hγ
  show J γ (MW G o σ) 0 0 0 [(0, .ref o), (1, .int x1)] []
  unfold m_strikes at hf
  refine j_iconst (pc := 0) M.1 dX1_strikes_0 kc_iconst_0 ?_
  refine j_istore_n (pc := 1) M.1 [(2, .int 0), (0, .ref o), (1, .int x1)] dX1_strikes_1 rfl rfl ?_
  refine j_sub [1, 2, 0] (show lv_pick _ _ = [(0, .ref o), (1, .int x1), (2, .int 0)] from rfl) ?_
  refine lp_W (km_strikes_B2 M x1 _ ?_) F (0, σ) hf
  · intro a1 hf
    refine j_aload_n (pc := 26) M.1 dX1_strikes_26 0 rfl ?_
    refine jm_getS (pc := 27) M fm_441 dX1_strikes_27 ?_
    refine j_iconst (pc := 30) M.1 dX1_strikes_30 kc_iconst_1 ?_
    refine j_isub (pc := 31) M.1 dX1_strikes_31 ?_
    obtain ⟨y1, e1, hf⟩ := o_nx hf
    refine j_top e1 ?_
    refine j_istore_n (pc := 32) M.1 [(2, .int y1), (0, .ref o), (1, .int x1)] dX1_strikes_32 rfl rfl ?_
    refine j_sub [1, 2, 0] (show lv_pick _ _ = [(0, .ref o), (1, .int x1), (2, .int y1)] from rfl) ?_
    refine lp_W (km_strikes_B33 M x1) F (y1, a1.2) hf
end
theorem dX1_way_0 : decode cX1_way 0 = .ok (.iload_n 1, 1) := by decide +kernel
theorem dX1_way_1 : decode cX1_way 1 = .ok (.ifCond .lt 18, 3) := by decide +kernel
theorem dX1_way_4 : decode cX1_way 4 = .ok (.iload_n 1, 1) := by decide +kernel
theorem dX1_way_5 : decode cX1_way 5 = .ok (.aload_n 0, 1) := by decide +kernel
theorem dX1_way_6 : decode cX1_way 6 = .ok (.getfield 288, 3) := by decide +kernel
theorem dX1_way_9 : decode cX1_way 9 = .ok (.if_icmp .ge 10, 3) := by decide +kernel
theorem dX1_way_12 : decode cX1_way 12 = .ok (.aload_n 0, 1) := by decide +kernel
theorem dX1_way_13 : decode cX1_way 13 = .ok (.invokevirtual 543, 3) := by decide +kernel
theorem dX1_way_16 : decode cX1_way 16 = .ok (.ifCond .ne 5, 3) := by decide +kernel
theorem dX1_way_19 : decode cX1_way 19 = .ok (.iconst (-1), 1) := by decide +kernel
theorem dX1_way_20 : decode cX1_way 20 = .ok (.ireturn, 1) := by decide +kernel
theorem dX1_way_21 : decode cX1_way 21 = .ok (.aload_n 0, 1) := by decide +kernel
theorem dX1_way_22 : decode cX1_way 22 = .ok (.getfield 226, 3) := by decide +kernel
theorem dX1_way_25 : decode cX1_way 25 = .ok (.aload_n 0, 1) := by decide +kernel
theorem dX1_way_26 : decode cX1_way 26 = .ok (.getfield 235, 3) := by decide +kernel
theorem dX1_way_29 : decode cX1_way 29 = .ok (.iload_n 1, 1) := by decide +kernel
theorem dX1_way_30 : decode cX1_way 30 = .ok (.iaload, 1) := by decide +kernel
theorem dX1_way_31 : decode cX1_way 31 = .ok (.iaload, 1) := by decide +kernel
theorem dX1_way_32 : decode cX1_way 32 = .ok (.istore_n 2, 1) := by decide +kernel
theorem dX1_way_33 : decode cX1_way 33 = .ok (.iconst 0, 1) := by decide +kernel
theorem dX1_way_34 : decode cX1_way 34 = .ok (.istore_n 3, 1) := by decide +kernel
theorem dX1_way_35 : decode cX1_way 35 = .ok (.iconst 0, 1) := by decide +kernel
theorem dX1_way_36 : decode cX1_way 36 = .ok (.istore 4, 2) := by decide +kernel
theorem dX1_way_38 : decode cX1_way 38 = .ok (.iload 4, 2) := by decide +kernel
theorem dX1_way_40 : decode cX1_way 40 = .ok (.bipush 8, 2) := by decide +kernel
theorem dX1_way_42 : decode cX1_way 42 = .ok (.if_icmp .ge 28, 3) := by decide +kernel
theorem dX1_way_45 : decode cX1_way 45 = .ok (.iload_n 3, 1) := by decide +kernel
theorem dX1_way_46 : decode cX1_way 46 = .ok (.aload_n 0, 1) := by decide +kernel
theorem dX1_way_47 : decode cX1_way 47 = .ok (.getfield 229, 3) := by decide +kernel
theorem dX1_way_50 : decode cX1_way 50 = .ok (.iload 4, 2) := by decide +kernel
theorem dX1_way_52 : decode cX1_way 52 = .ok (.iaload, 1) := by decide +kernel
theorem dX1_way_53 : decode cX1_way 53 = .ok (.iload_n 2, 1) := by decide +kernel
theorem dX1_way_54 : decode cX1_way 54 = .ok (.if_icmp .gt 7, 3) := by decide +kernel
theorem dX1_way_57 : decode cX1_way 57 = .ok (.iconst 1, 1) := by decide +kernel
theorem dX1_way_58 : decode cX1_way 58 = .ok (.goto 4, 3) := by decide +kernel
theorem dX1_way_61 : decode cX1_way 61 = .ok (.iconst 0, 1) := by decide +kernel
theorem dX1_way_62 : decode cX1_way 62 = .ok (.iadd, 1) := by decide +kernel
theorem dX1_way_63 : decode cX1_way 63 = .ok (.istore_n 3, 1) := by decide +kernel
theorem dX1_way_64 : decode cX1_way 64 = .ok (.iinc 4 1, 3) := by decide +kernel
theorem dX1_way_67 : decode cX1_way 67 = .ok (.goto (-29), 3) := by decide +kernel
theorem dX1_way_70 : decode cX1_way 70 = .ok (.iconst 0, 1) := by decide +kernel
theorem dX1_way_71 : decode cX1_way 71 = .ok (.istore 4, 2) := by decide +kernel
theorem dX1_way_73 : decode cX1_way 73 = .ok (.iload 4, 2) := by decide +kernel
theorem dX1_way_75 : decode cX1_way 75 = .ok (.aload_n 0, 1) := by decide +kernel
theorem dX1_way_76 : decode cX1_way 76 = .ok (.getfield 272, 3) := by decide +kernel
theorem dX1_way_79 : decode cX1_way 79 = .ok (.aload_n 0, 1) := by decide +kernel
theorem dX1_way_80 : decode cX1_way 80 = .ok (.getfield 275, 3) := by decide +kernel
theorem dX1_way_83 : decode cX1_way 83 = .ok (.imul, 1) := by decide +kernel
theorem dX1_way_84 : decode cX1_way 84 = .ok (.if_icmp .ge 32, 3) := by decide +kernel
theorem dX1_way_87 : decode cX1_way 87 = .ok (.aload_n 0, 1) := by decide +kernel
theorem dX1_way_88 : decode cX1_way 88 = .ok (.getfield 238, 3) := by decide +kernel
theorem dX1_way_91 : decode cX1_way 91 = .ok (.iload 4, 2) := by decide +kernel
theorem dX1_way_93 : decode cX1_way 93 = .ok (.iload 4, 2) := by decide +kernel
theorem dX1_way_95 : decode cX1_way 95 = .ok (.aload_n 0, 1) := by decide +kernel
theorem dX1_way_96 : decode cX1_way 96 = .ok (.getfield 232, 3) := by decide +kernel
theorem dX1_way_99 : decode cX1_way 99 = .ok (.iload_n 1, 1) := by decide +kernel
theorem dX1_way_100 : decode cX1_way 100 = .ok (.iaload, 1) := by decide +kernel
theorem dX1_way_101 : decode cX1_way 101 = .ok (.if_icmp .ne 7, 3) := by decide +kernel
theorem dX1_way_104 : decode cX1_way 104 = .ok (.iconst 0, 1) := by decide +kernel
theorem dX1_way_105 : decode cX1_way 105 = .ok (.goto 4, 3) := by decide +kernel
theorem dX1_way_108 : decode cX1_way 108 = .ok (.iconst (-1), 1) := by decide +kernel
theorem dX1_way_109 : decode cX1_way 109 = .ok (.iastore, 1) := by decide +kernel
theorem dX1_way_110 : decode cX1_way 110 = .ok (.iinc 4 1, 3) := by decide +kernel
theorem dX1_way_113 : decode cX1_way 113 = .ok (.goto (-40), 3) := by decide +kernel
theorem dX1_way_116 : decode cX1_way 116 = .ok (.aload_n 0, 1) := by decide +kernel
theorem dX1_way_117 : decode cX1_way 117 = .ok (.aload_n 0, 1) := by decide +kernel
theorem dX1_way_118 : decode cX1_way 118 = .ok (.getfield 232, 3) := by decide +kernel
theorem dX1_way_121 : decode cX1_way 121 = .ok (.iload_n 1, 1) := by decide +kernel
theorem dX1_way_122 : decode cX1_way 122 = .ok (.iaload, 1) := by decide +kernel
theorem dX1_way_123 : decode cX1_way 123 = .ok (.invokevirtual 546, 3) := by decide +kernel
theorem dX1_way_126 : decode cX1_way 126 = .ok (.ifCond .eq 5, 3) := by decide +kernel
theorem dX1_way_129 : decode cX1_way 129 = .ok (.iconst 0, 1) := by decide +kernel
theorem dX1_way_130 : decode cX1_way 130 = .ok (.ireturn, 1) := by decide +kernel
theorem dX1_way_131 : decode cX1_way 131 = .ok (.iconst 1, 1) := by decide +kernel
theorem dX1_way_132 : decode cX1_way 132 = .ok (.istore 4, 2) := by decide +kernel
theorem dX1_way_134 : decode cX1_way 134 = .ok (.iload 4, 2) := by decide +kernel
theorem dX1_way_136 : decode cX1_way 136 = .ok (.aload_n 0, 1) := by decide +kernel
theorem dX1_way_137 : decode cX1_way 137 = .ok (.getfield 272, 3) := by decide +kernel
theorem dX1_way_140 : decode cX1_way 140 = .ok (.aload_n 0, 1) := by decide +kernel
theorem dX1_way_141 : decode cX1_way 141 = .ok (.getfield 275, 3) := by decide +kernel
theorem dX1_way_144 : decode cX1_way 144 = .ok (.imul, 1) := by decide +kernel
theorem dX1_way_145 : decode cX1_way 145 = .ok (.if_icmp .ge 149, 3) := by decide +kernel
theorem dX1_way_148 : decode cX1_way 148 = .ok (.iconst 0, 1) := by decide +kernel
theorem dX1_way_149 : decode cX1_way 149 = .ok (.istore 5, 2) := by decide +kernel
theorem dX1_way_151 : decode cX1_way 151 = .ok (.iload 5, 2) := by decide +kernel
theorem dX1_way_153 : decode cX1_way 153 = .ok (.aload_n 0, 1) := by decide +kernel
theorem dX1_way_154 : decode cX1_way 154 = .ok (.getfield 272, 3) := by decide +kernel
theorem dX1_way_157 : decode cX1_way 157 = .ok (.aload_n 0, 1) := by decide +kernel
theorem dX1_way_158 : decode cX1_way 158 = .ok (.getfield 275, 3) := by decide +kernel
theorem dX1_way_161 : decode cX1_way 161 = .ok (.imul, 1) := by decide +kernel
theorem dX1_way_162 : decode cX1_way 162 = .ok (.if_icmp .ge 126, 3) := by decide +kernel
theorem dX1_way_165 : decode cX1_way 165 = .ok (.aload_n 0, 1) := by decide +kernel
theorem dX1_way_166 : decode cX1_way 166 = .ok (.getfield 238, 3) := by decide +kernel
theorem dX1_way_169 : decode cX1_way 169 = .ok (.iload 5, 2) := by decide +kernel
theorem dX1_way_171 : decode cX1_way 171 = .ok (.iaload, 1) := by decide +kernel
theorem dX1_way_172 : decode cX1_way 172 = .ok (.iconst (-1), 1) := by decide +kernel
theorem dX1_way_173 : decode cX1_way 173 = .ok (.if_icmp .ne 109, 3) := by decide +kernel
theorem dX1_way_176 : decode cX1_way 176 = .ok (.iload_n 3, 1) := by decide +kernel
theorem dX1_way_177 : decode cX1_way 177 = .ok (.aload_n 0, 1) := by decide +kernel
theorem dX1_way_178 : decode cX1_way 178 = .ok (.getfield 7, 3) := by decide +kernel
theorem dX1_way_181 : decode cX1_way 181 = .ok (.iload 5, 2) := by decide +kernel
theorem dX1_way_183 : decode cX1_way 183 = .ok (.iaload, 1) := by decide +kernel
theorem dX1_way_184 : decode cX1_way 184 = .ok (.if_icmp .lt 6, 3) := by decide +kernel
theorem dX1_way_187 : decode cX1_way 187 = .ok (.goto 95, 3) := by decide +kernel
theorem dX1_way_190 : decode cX1_way 190 = .ok (.iconst 0, 1) := by decide +kernel
theorem dX1_way_191 : decode cX1_way 191 = .ok (.istore 6, 2) := by decide +kernel
theorem dX1_way_193 : decode cX1_way 193 = .ok (.iload 6, 2) := by decide +kernel
theorem dX1_way_195 : decode cX1_way 195 = .ok (.aload_n 0, 1) := by decide +kernel
theorem dX1_way_196 : decode cX1_way 196 = .ok (.getfield 272, 3) := by decide +kernel
theorem dX1_way_199 : decode cX1_way 199 = .ok (.aload_n 0, 1) := by decide +kernel
theorem dX1_way_200 : decode cX1_way 200 = .ok (.getfield 275, 3) := by decide +kernel
theorem dX1_way_203 : decode cX1_way 203 = .ok (.imul, 1) := by decide +kernel
theorem dX1_way_204 : decode cX1_way 204 = .ok (.if_icmp .ge 54, 3) := by decide +kernel
theorem dX1_way_207 : decode cX1_way 207 = .ok (.aload_n 0, 1) := by decide +kernel
theorem dX1_way_208 : decode cX1_way 208 = .ok (.getfield 238, 3) := by decide +kernel
theorem dX1_way_211 : decode cX1_way 211 = .ok (.iload 5, 2) := by decide +kernel
theorem dX1_way_213 : decode cX1_way 213 = .ok (.iaload, 1) := by decide +kernel
theorem dX1_way_214 : decode cX1_way 214 = .ok (.iconst (-1), 1) := by decide +kernel
theorem dX1_way_215 : decode cX1_way 215 = .ok (.if_icmp .ne 43, 3) := by decide +kernel
theorem dX1_way_218 : decode cX1_way 218 = .ok (.aload_n 0, 1) := by decide +kernel
theorem dX1_way_219 : decode cX1_way 219 = .ok (.getfield 238, 3) := by decide +kernel
theorem dX1_way_222 : decode cX1_way 222 = .ok (.iload 6, 2) := by decide +kernel
theorem dX1_way_224 : decode cX1_way 224 = .ok (.iaload, 1) := by decide +kernel
theorem dX1_way_225 : decode cX1_way 225 = .ok (.iload 4, 2) := by decide +kernel
theorem dX1_way_227 : decode cX1_way 227 = .ok (.iconst 1, 1) := by decide +kernel
theorem dX1_way_228 : decode cX1_way 228 = .ok (.isub, 1) := by decide +kernel
theorem dX1_way_229 : decode cX1_way 229 = .ok (.if_icmp .ne 23, 3) := by decide +kernel
theorem dX1_way_232 : decode cX1_way 232 = .ok (.aload_n 0, 1) := by decide +kernel
theorem dX1_way_233 : decode cX1_way 233 = .ok (.iload 6, 2) := by decide +kernel
theorem dX1_way_235 : decode cX1_way 235 = .ok (.iload 5, 2) := by decide +kernel
theorem dX1_way_237 : decode cX1_way 237 = .ok (.invokevirtual 549, 3) := by decide +kernel
theorem dX1_way_240 : decode cX1_way 240 = .ok (.ifCond .eq 12, 3) := by decide +kernel
theorem dX1_way_243 : decode cX1_way 243 = .ok (.aload_n 0, 1) := by decide +kernel
theorem dX1_way_244 : decode cX1_way 244 = .ok (.getfield 238, 3) := by decide +kernel
theorem dX1_way_247 : decode cX1_way 247 = .ok (.iload 5, 2) := by decide +kernel
theorem dX1_way_249 : decode cX1_way 249 = .ok (.iload 4, 2) := by decide +kernel
theorem dX1_way_251 : decode cX1_way 251 = .ok (.iastore, 1) := by decide +kernel
theorem dX1_way_252 : decode cX1_way 252 = .ok (.iinc 6 1, 3) := by decide +kernel
theorem dX1_way_255 : decode cX1_way 255 = .ok (.goto (-62), 3) := by decide +kernel
theorem dX1_way_258 : decode cX1_way 258 = .ok (.aload_n 0, 1) := by decide +kernel
theorem dX1_way_259 : decode cX1_way 259 = .ok (.getfield 238, 3) := by decide +kernel
theorem dX1_way_262 : decode cX1_way 262 = .ok (.iload 5, 2) := by decide +kernel
theorem dX1_way_264 : decode cX1_way 264 = .ok (.iaload, 1) := by decide +kernel
theorem dX1_way_265 : decode cX1_way 265 = .ok (.iload 4, 2) := by decide +kernel
theorem dX1_way_267 : decode cX1_way 267 = .ok (.if_icmp .ne 15, 3) := by decide +kernel
theorem dX1_way_270 : decode cX1_way 270 = .ok (.aload_n 0, 1) := by decide +kernel
theorem dX1_way_271 : decode cX1_way 271 = .ok (.iload 5, 2) := by decide +kernel
theorem dX1_way_273 : decode cX1_way 273 = .ok (.invokevirtual 546, 3) := by decide +kernel
theorem dX1_way_276 : decode cX1_way 276 = .ok (.ifCond .eq 6, 3) := by decide +kernel
theorem dX1_way_279 : decode cX1_way 279 = .ok (.iload 4, 2) := by decide +kernel
theorem dX1_way_281 : decode cX1_way 281 = .ok (.ireturn, 1) := by decide +kernel
theorem dX1_way_282 : decode cX1_way 282 = .ok (.iinc 5 1, 3) := by decide +kernel
theorem dX1_way_285 : decode cX1_way 285 = .ok (.goto (-134), 3) := by decide +kernel
theorem dX1_way_288 : decode cX1_way 288 = .ok (.iinc 4 1, 3) := by decide +kernel
theorem dX1_way_291 : decode cX1_way 291 = .ok (.goto (-157), 3) := by decide +kernel
theorem dX1_way_294 : decode cX1_way 294 = .ok (.bipush (-2), 2) := by decide +kernel
theorem dX1_way_296 : decode cX1_way 296 = .ok (.ireturn, 1) := by decide +kernel
section
variable {res : Int32 × MS}
noncomputable def m_way_B38 (F : Nat) (K70 : Int32 × Int32 × MS → Option (Int32 × MS)) (x1 x2 : Int32) (R : Int32 × Int32 × MS → Option (Int32 × MS)) (a : Int32 × Int32 × MS) : Option (Int32 × MS) :=
  if 8 ≤ a.2.1 then (K70 (a.1, a.2.1, a.2.2)) else (if okI a.2.1 8 = true then if x2 < (a.2.2.2 71 a.2.1.toNatClampNeg) then (R (a.1 + 0, a.2.1 + 1, a.2.2)) else (R (a.1 + 1, a.2.1 + 1, a.2.2)) else none)
theorem km_way_B38 (M : MC γ cX1_way 7 G o 3 (some .int) (mQi G o res)) (x1 x2 : Int32) (K70 : Int32 × Int32 × MS → Option (Int32 × MS)) (hK70 : ∀ a, K70 a = some res → J γ (MW G o a.2.2) 0 0 70 [(0, .ref o), (1, .int x1), (3, .int a.1)] []) : ∀ R : Int32 × Int32 × MS → Option (Int32 × MS), (∀ a, R a = some res → J γ (MW G o a.2.2) 0 0 38 [(0, .ref o), (1, .int x1), (2, .int x2), (3, .int a.1), (4, .int a.2.1)] []) → ∀ a, m_way_B38 F K70 x1 x2 R a = some res → J γ (MW G o a.2.2) 0 0 38 [(0, .ref o), (1, .int x1), (2, .int x2), (3, .int a.1), (4, .int a.2.1)] [] := by
  intro R hR a hf
  unfold m_way_B38 at hf
  refine j_iload (pc := 38) M.1 dX1_way_38 4 rfl ?_
  refine j_bipush (pc := 40) M.1 dX1_way_40 kc_bipush_8 ?_
  refine j_icmp_ge (pc := 42) M.1 70 dX1_way_42 rfl (fun c1 => ?_) (fun c1 => ?_)
  · replace hf := o_pos c1 hf
    refine j_sub [0, 1, 3] (show lv_pick _ _ = [(0, .ref o), (1, .int x1), (3, .int a.1)] from rfl) ?_
    have hy := hK70 _ hf
    exact hy
  · replace hf := o_neg c1 hf
    refine j_iload_n (pc := 45) M.1 dX1_way_45 3 rfl ?_
    refine j_aload_n (pc := 46) M.1 dX1_way_46 0 rfl ?_
    refine jm_getA (pc := 47) M fa_229 dX1_way_47 ?_
    refine j_iload (pc := 50) M.1 dX1_way_50 4 rfl ?_
    obtain ⟨b1, hf⟩ := o_need hf
    refine jm_iald (pc := 52) M ax_71 b1 dX1_way_52 ?_
    refine j_iload_n (pc := 53) M.1 dX1_way_53 2 rfl ?_
    refine j_icmp_gt (pc := 54) M.1 61 dX1_way_54 rfl (fun c2 => ?_) (fun c2 => ?_)
    · replace hf := o_pos c2 hf
      refine j_iconst (pc := 61) M.1 dX1_way_61 kc_iconst_0 ?_
      refine j_iadd (pc := 62) M.1 dX1_way_62 ?_
      refine j_istore_n (pc := 63) M.1 [(3, .int (a.1 + 0)), (0, .ref o), (1, .int x1), (2, .int x2), (4, .int a.2.1)] dX1_way_63 rfl rfl ?_
      refine j_iinc (pc := 64) M.1 [(4, .int (a.2.1 + 1)), (3, .int (a.1 + 0)), (0, .ref o), (1, .int x1), (2, .int x2)] dX1_way_64 4 rfl (congrArg _ kc_iconst_1) rfl rfl ?_
      refine j_goto (pc := 67) M.1 38 dX1_way_67 rfl ?_
      refine j_sub [2, 3, 4, 1, 0] (show lv_pick _ _ = [(0, .ref o), (1, .int x1), (2, .int x2), (3, .int (a.1 + 0)), (4, .int (a.2.1 + 1))] from rfl) ?_
      have hy := hR _ hf
      exact hy
    · replace hf := o_neg c2 hf
      refine j_iconst (pc := 57) M.1 dX1_way_57 kc_iconst_1 ?_
      refine j_goto (pc := 58) M.1 62 dX1_way_58 rfl ?_
      refine j_iadd (pc := 62) M.1 dX1_way_62 ?_
      refine j_istore_n (pc := 63) M.1 [(3, .int (a.1 + 1)), (0, .ref o), (1, .int x1), (2, .int x2), (4, .int a.2.1)] dX1_way_63 rfl rfl ?_
      refine j_iinc (pc := 64) M.1 [(4, .int (a.2.1 + 1)), (3, .int (a.1 + 1)), (0, .ref o), (1, .int x1), (2, .int x2)] dX1_way_64 4 rfl (congrArg _ kc_iconst_1) rfl rfl ?_
      refine j_goto (pc := 67) M.1 38 dX1_way_67 rfl ?_
      refine j_sub [2, 3, 4, 1, 0] (show lv_pick _ _ = [(0, .ref o), (1, .int x1), (2, .int x2), (3, .int (a.1 + 1)), (4, .int (a.2.1 + 1))] from rfl) ?_
      have hy := hR _ hf
      exact hy
noncomputable def m_way_B73 (F : Nat) (K116 : Int32 × MS → Option (Int32 × MS)) (x1 x3 : Int32) (R : Int32 × MS → Option (Int32 × MS)) (a : Int32 × MS) : Option (Int32 × MS) :=
  if ((a.2.1 0) * (a.2.1 1)) ≤ a.1 then (K116 (a.1, a.2)) else (if okI x1 40 = true then if a.1 = (a.2.2 72 x1.toNatClampNeg) then (if okI a.1 100 = true then nx (sA a.2 74 a.1.toNatClampNeg 0) (fun σ2 => R (a.1 + 1, σ2)) else none) else (if okI a.1 100 = true then nx (sA a.2 74 a.1.toNatClampNeg ((-1))) (fun σ1 => R (a.1 + 1, σ1)) else none) else none)
theorem km_way_B73 (M : MC γ cX1_way 7 G o 3 (some .int) (mQi G o res)) (x1 x3 : Int32) (K116 : Int32 × MS → Option (Int32 × MS)) (hK116 : ∀ a, K116 a = some res → J γ (MW G o a.2) 0 0 116 [(0, .ref o), (1, .int x1), (3, .int x3)] []) : ∀ R : Int32 × MS → Option (Int32 × MS), (∀ a, R a = some res → J γ (MW G o a.2) 0 0 73 [(0, .ref o), (1, .int x1), (3, .int x3), (4, .int a.1)] []) → ∀ a, m_way_B73 F K116 x1 x3 R a = some res → J γ (MW G o a.2) 0 0 73 [(0, .ref o), (1, .int x1), (3, .int x3), (4, .int a.1)] [] := by
  intro R hR a hf
  unfold m_way_B73 at hf
  refine j_iload (pc := 73) M.1 dX1_way_73 3 rfl ?_
  refine j_aload_n (pc := 75) M.1 dX1_way_75 0 rfl ?_
  refine jm_getS (pc := 76) M fm_272 dX1_way_76 ?_
  refine j_aload_n (pc := 79) M.1 dX1_way_79 0 rfl ?_
  refine jm_getS (pc := 80) M fm_275 dX1_way_80 ?_
  refine j_imul (pc := 83) M.1 dX1_way_83 ?_
  refine j_icmp_ge (pc := 84) M.1 116 dX1_way_84 rfl (fun c1 => ?_) (fun c1 => ?_)
  · replace hf := o_pos c1 hf
    refine j_sub [0, 1, 2] (show lv_pick _ _ = [(0, .ref o), (1, .int x1), (3, .int x3)] from rfl) ?_
    have hy := hK116 _ hf
    exact hy
  · replace hf := o_neg c1 hf
    refine j_aload_n (pc := 87) M.1 dX1_way_87 0 rfl ?_
    refine jm_getA (pc := 88) M fa_238 dX1_way_88 ?_
    refine j_iload (pc := 91) M.1 dX1_way_91 3 rfl ?_
    refine j_iload (pc := 93) M.1 dX1_way_93 3 rfl ?_
    refine j_aload_n (pc := 95) M.1 dX1_way_95 0 rfl ?_
    refine jm_getA (pc := 96) M fa_232 dX1_way_96 ?_
    refine j_iload_n (pc := 99) M.1 dX1_way_99 1 rfl ?_
    obtain ⟨b1, hf⟩ := o_need hf
    refine jm_iald (pc := 100) M ax_72 b1 dX1_way_100 ?_
    refine j_icmp_ne (pc := 101) M.1 108 dX1_way_101 rfl (fun c2 => ?_) (fun c2 => ?_)
    · replace hf := o_neg c2 hf
      refine j_iconst (pc := 108) M.1 dX1_way_108 kc_iconst_m1 ?_
      obtain ⟨b2, hf⟩ := o_need hf
      obtain ⟨σ1, e1, hf⟩ := o_nx hf
      refine jm_iast (pc := 109) M ax_74 b2 dX1_way_109 e1 ?_
      refine j_iinc (pc := 110) M.1 [(4, .int (a.1 + 1)), (0, .ref o), (1, .int x1), (3, .int x3)] dX1_way_110 3 rfl (congrArg _ kc_iconst_1) rfl rfl ?_
      refine j_goto (pc := 113) M.1 73 dX1_way_113 rfl ?_
      refine j_sub [1, 2, 3, 0] (show lv_pick _ _ = [(0, .ref o), (1, .int x1), (3, .int x3), (4, .int (a.1 + 1))] from rfl) ?_
      have hy := hR _ hf
      exact hy
    · replace hf := o_pos c2 hf
      refine j_iconst (pc := 104) M.1 dX1_way_104 kc_iconst_0 ?_
      refine j_goto (pc := 105) M.1 109 dX1_way_105 rfl ?_
      obtain ⟨b3, hf⟩ := o_need hf
      obtain ⟨σ2, e2, hf⟩ := o_nx hf
      refine jm_iast (pc := 109) M ax_74 b3 dX1_way_109 e2 ?_
      refine j_iinc (pc := 110) M.1 [(4, .int (a.1 + 1)), (0, .ref o), (1, .int x1), (3, .int x3)] dX1_way_110 3 rfl (congrArg _ kc_iconst_1) rfl rfl ?_
      refine j_goto (pc := 113) M.1 73 dX1_way_113 rfl ?_
      refine j_sub [1, 2, 3, 0] (show lv_pick _ _ = [(0, .ref o), (1, .int x1), (3, .int x3), (4, .int (a.1 + 1))] from rfl) ?_
      have hy := hR _ hf
      exact hy
noncomputable def m_way_B193 (F : Nat) (K258 : Int32 × MS → Option (Int32 × MS)) (x3 x4 x5 : Int32) (R : Int32 × MS → Option (Int32 × MS)) (a : Int32 × MS) : Option (Int32 × MS) :=
  if ((a.2.1 0) * (a.2.1 1)) ≤ a.1 then (K258 (a.1, a.2)) else (if okI x5 100 = true then if (a.2.2 74 x5.toNatClampNeg) = ((-1)) then (if okI a.1 100 = true then if (a.2.2 74 a.1.toNatClampNeg) = (x4 - 1) then ((m_areBeside F a.1 x5 a.2).bind (fun r1 => if r1.1 = 0 then (R (a.1 + 1, r1.2)) else (if okI x5 100 = true then nx (sA r1.2 74 x5.toNatClampNeg x4) (fun σ1 => R (a.1 + 1, σ1)) else none))) else (R (a.1 + 1, a.2)) else none) else (K258 (a.1, a.2)) else none)
theorem km_way_B193 (M : MC γ cX1_way 7 G o 3 (some .int) (mQi G o res)) (x3 x4 x5 : Int32) (K258 : Int32 × MS → Option (Int32 × MS)) (hK258 : ∀ a, K258 a = some res → J γ (MW G o a.2) 0 0 258 [(0, .ref o), (3, .int x3), (4, .int x4), (5, .int x5)] []) : ∀ R : Int32 × MS → Option (Int32 × MS), (∀ a, R a = some res → J γ (MW G o a.2) 0 0 193 [(0, .ref o), (3, .int x3), (4, .int x4), (5, .int x5), (6, .int a.1)] []) → ∀ a, m_way_B193 F K258 x3 x4 x5 R a = some res → J γ (MW G o a.2) 0 0 193 [(0, .ref o), (3, .int x3), (4, .int x4), (5, .int x5), (6, .int a.1)] [] := by
  intro R hR a hf
  unfold m_way_B193 at hf
  refine j_iload (pc := 193) M.1 dX1_way_193 4 rfl ?_
  refine j_aload_n (pc := 195) M.1 dX1_way_195 0 rfl ?_
  refine jm_getS (pc := 196) M fm_272 dX1_way_196 ?_
  refine j_aload_n (pc := 199) M.1 dX1_way_199 0 rfl ?_
  refine jm_getS (pc := 200) M fm_275 dX1_way_200 ?_
  refine j_imul (pc := 203) M.1 dX1_way_203 ?_
  refine j_icmp_ge (pc := 204) M.1 258 dX1_way_204 rfl (fun c1 => ?_) (fun c1 => ?_)
  · replace hf := o_pos c1 hf
    refine j_sub [0, 1, 2, 3] (show lv_pick _ _ = [(0, .ref o), (3, .int x3), (4, .int x4), (5, .int x5)] from rfl) ?_
    have hy := hK258 _ hf
    exact hy
  · replace hf := o_neg c1 hf
    refine j_aload_n (pc := 207) M.1 dX1_way_207 0 rfl ?_
    refine jm_getA (pc := 208) M fa_238 dX1_way_208 ?_
    refine j_iload (pc := 211) M.1 dX1_way_211 3 rfl ?_
    obtain ⟨b1, hf⟩ := o_need hf
    refine jm_iald (pc := 213) M ax_74 b1 dX1_way_213 ?_
    refine j_iconst (pc := 214) M.1 dX1_way_214 kc_iconst_m1 ?_
    refine j_icmp_ne (pc := 215) M.1 258 dX1_way_215 rfl (fun c2 => ?_) (fun c2 => ?_)
    · replace hf := o_neg c2 hf
      refine j_sub [0, 1, 2, 3] (show lv_pick _ _ = [(0, .ref o), (3, .int x3), (4, .int x4), (5, .int x5)] from rfl) ?_
      have hy := hK258 _ hf
      exact hy
    · replace hf := o_pos c2 hf
      refine j_aload_n (pc := 218) M.1 dX1_way_218 0 rfl ?_
      refine jm_getA (pc := 219) M fa_238 dX1_way_219 ?_
      refine j_iload (pc := 222) M.1 dX1_way_222 4 rfl ?_
      obtain ⟨b2, hf⟩ := o_need hf
      refine jm_iald (pc := 224) M ax_74 b2 dX1_way_224 ?_
      refine j_iload (pc := 225) M.1 dX1_way_225 2 rfl ?_
      refine j_iconst (pc := 227) M.1 dX1_way_227 kc_iconst_1 ?_
      refine j_isub (pc := 228) M.1 dX1_way_228 ?_
      refine j_icmp_ne (pc := 229) M.1 252 dX1_way_229 rfl (fun c3 => ?_) (fun c3 => ?_)
      · replace hf := o_neg c3 hf
        refine j_iinc (pc := 252) M.1 [(6, .int (a.1 + 1)), (0, .ref o), (3, .int x3), (4, .int x4), (5, .int x5)] dX1_way_252 4 rfl (congrArg _ kc_iconst_1) rfl rfl ?_
        refine j_goto (pc := 255) M.1 193 dX1_way_255 rfl ?_
        refine j_sub [1, 2, 3, 4, 0] (show lv_pick _ _ = [(0, .ref o), (3, .int x3), (4, .int x4), (5, .int x5), (6, .int (a.1 + 1))] from rfl) ?_
        have hy := hR _ hf
        exact hy
      · replace hf := o_pos c3 hf
        refine j_aload_n (pc := 232) M.1 dX1_way_232 0 rfl ?_
        refine j_iload (pc := 233) M.1 dX1_way_233 4 rfl ?_
        refine j_iload (pc := 235) M.1 dX1_way_235 3 rfl ?_
        obtain ⟨r1, g1, hf⟩ := o_bind hf
        refine jm_calli (pc := 237) (As := [.int a.1, .int x5]) (rest := []) M cm_549 (met_areBeside g1) rfl rfl rfl rfl dX1_way_237 ?_
        refine j_if_eq (pc := 240) M.1 252 dX1_way_240 rfl (fun c4 => ?_) (fun c4 => ?_)
        · replace hf := o_pos c4 hf
          refine j_iinc (pc := 252) M.1 [(6, .int (a.1 + 1)), (0, .ref o), (3, .int x3), (4, .int x4), (5, .int x5)] dX1_way_252 4 rfl (congrArg _ kc_iconst_1) rfl rfl ?_
          refine j_goto (pc := 255) M.1 193 dX1_way_255 rfl ?_
          refine j_sub [1, 2, 3, 4, 0] (show lv_pick _ _ = [(0, .ref o), (3, .int x3), (4, .int x4), (5, .int x5), (6, .int (a.1 + 1))] from rfl) ?_
          have hy := hR _ hf
          exact hy
        · replace hf := o_neg c4 hf
          refine j_aload_n (pc := 243) M.1 dX1_way_243 0 rfl ?_
          refine jm_getA (pc := 244) M fa_238 dX1_way_244 ?_
          refine j_iload (pc := 247) M.1 dX1_way_247 3 rfl ?_
          refine j_iload (pc := 249) M.1 dX1_way_249 2 rfl ?_
          obtain ⟨b3, hf⟩ := o_need hf
          obtain ⟨σ1, e1, hf⟩ := o_nx hf
          refine jm_iast (pc := 251) M ax_74 b3 dX1_way_251 e1 ?_
          refine j_iinc (pc := 252) M.1 [(6, .int (a.1 + 1)), (0, .ref o), (3, .int x3), (4, .int x4), (5, .int x5)] dX1_way_252 4 rfl (congrArg _ kc_iconst_1) rfl rfl ?_
          refine j_goto (pc := 255) M.1 193 dX1_way_255 rfl ?_
          refine j_sub [1, 2, 3, 4, 0] (show lv_pick _ _ = [(0, .ref o), (3, .int x3), (4, .int x4), (5, .int x5), (6, .int (a.1 + 1))] from rfl) ?_
          have hy := hR _ hf
          exact hy
noncomputable def m_way_258 (F : Nat) (K288 : Int32 × MS → Option (Int32 × MS)) (R : Int32 × MS → Option (Int32 × MS)) (x3 x4 x5 : Int32) (σ : MS) : Option (Int32 × MS) :=
  if okI x5 100 = true then if (σ.2 74 x5.toNatClampNeg) = x4 then ((m_isBorder F x5 σ).bind (fun r1 => if r1.1 = 0 then (R (x5 + 1, r1.2)) else (some (x4, r1.2)))) else (R (x5 + 1, σ)) else none
theorem km_way_258 (M : MC γ cX1_way 7 G o 3 (some .int) (mQi G o res)) (x3 x4 x5 : Int32) (K288 : Int32 × MS → Option (Int32 × MS)) (hK288 : ∀ a, K288 a = some res → J γ (MW G o a.2) 0 0 288 [(0, .ref o), (3, .int x3), (4, .int x4)] []) (R : Int32 × MS → Option (Int32 × MS)) (hR : ∀ a, R a = some res → J γ (MW G o a.2) 0 0 151 [(0, .ref o), (3, .int x3), (4, .int x4), (5, .int a.1)] []) (σ : MS) (hf : m_way_258 F K288 R x3 x4 x5 σ = some res) : J γ (MW G o σ) 0 0 258 [(0, .ref o), (3, .int x3), (4, .int x4), (5, .int x5)] [] := by
  unfold m_way_258 at hf
  refine j_aload_n (pc := 258) M.1 dX1_way_258 0 rfl ?_
  refine jm_getA (pc := 259) M fa_238 dX1_way_259 ?_
  refine j_iload (pc := 262) M.1 dX1_way_262 3 rfl ?_
  obtain ⟨b1, hf⟩ := o_need hf
  refine jm_iald (pc := 264) M ax_74 b1 dX1_way_264 ?_
  refine j_iload (pc := 265) M.1 dX1_way_265 2 rfl ?_
  refine j_icmp_ne (pc := 267) M.1 282 dX1_way_267 rfl (fun c1 => ?_) (fun c1 => ?_)
  · replace hf := o_neg c1 hf
    refine j_iinc (pc := 282) M.1 [(5, .int (x5 + 1)), (0, .ref o), (3, .int x3), (4, .int x4)] dX1_way_282 3 rfl (congrArg _ kc_iconst_1) rfl rfl ?_
    refine j_goto (pc := 285) M.1 151 dX1_way_285 rfl ?_
    refine j_sub [1, 2, 3, 0] (show lv_pick _ _ = [(0, .ref o), (3, .int x3), (4, .int x4), (5, .int (x5 + 1))] from rfl) ?_
    have hy := hR _ hf
    exact hy
  · replace hf := o_pos c1 hf
    refine j_aload_n (pc := 270) M.1 dX1_way_270 0 rfl ?_
    refine j_iload (pc := 271) M.1 dX1_way_271 3 rfl ?_
    obtain ⟨r1, g1, hf⟩ := o_bind hf
    refine jm_calli (pc := 273) (As := [.int x5]) (rest := []) M cm_546 (met_isBorder g1) rfl rfl rfl rfl dX1_way_273 ?_
    refine j_if_eq (pc := 276) M.1 282 dX1_way_276 rfl (fun c2 => ?_) (fun c2 => ?_)
    · replace hf := o_pos c2 hf
      refine j_iinc (pc := 282) M.1 [(5, .int (x5 + 1)), (0, .ref o), (3, .int x3), (4, .int x4)] dX1_way_282 3 rfl (congrArg _ kc_iconst_1) rfl rfl ?_
      refine j_goto (pc := 285) M.1 151 dX1_way_285 rfl ?_
      refine j_sub [1, 2, 3, 0] (show lv_pick _ _ = [(0, .ref o), (3, .int x3), (4, .int x4), (5, .int (x5 + 1))] from rfl) ?_
      have hy := hR _ hf
      exact hy
    · replace hf := o_neg c2 hf
      refine j_iload (pc := 279) M.1 dX1_way_279 2 rfl ?_
      exact jm_iret (pc := 281) M dX1_way_281 hf
noncomputable def m_way_B151 (F : Nat) (K288 : Int32 × MS → Option (Int32 × MS)) (x3 x4 : Int32) (R : Int32 × MS → Option (Int32 × MS)) (a : Int32 × MS) : Option (Int32 × MS) :=
  if ((a.2.1 0) * (a.2.1 1)) ≤ a.1 then (K288 (a.1, a.2)) else (if okI a.1 100 = true then if (a.2.2 74 a.1.toNatClampNeg) = ((-1)) then (if okI a.1 100 = true then if x3 < (a.2.2 0 a.1.toNatClampNeg) then (lp (m_way_B193 F (fun a1 => m_way_258 F K288 R x3 x4 a.1 a1.2) x3 x4 a.1) F (0, a.2)) else (R (a.1 + 1, a.2)) else none) else (R (a.1 + 1, a.2)) else none)
theorem km_way_B151 (M : MC γ cX1_way 7 G o 3 (some .int) (mQi G o res)) (x3 x4 : Int32) (K288 : Int32 × MS → Option (Int32 × MS)) (hK288 : ∀ a, K288 a = some res → J γ (MW G o a.2) 0 0 288 [(0, .ref o), (3, .int x3), (4, .int x4)] []) : ∀ R : Int32 × MS → Option (Int32 × MS), (∀ a, R a = some res → J γ (MW G o a.2) 0 0 151 [(0, .ref o), (3, .int x3), (4, .int x4), (5, .int a.1)] []) → ∀ a, m_way_B151 F K288 x3 x4 R a = some res → J γ (MW G o a.2) 0 0 151 [(0, .ref o), (3, .int x3), (4, .int x4), (5, .int a.1)] [] := by
  intro R hR a hf
  unfold m_way_B151 at hf
  refine j_iload (pc := 151) M.1 dX1_way_151 3 rfl ?_
  refine j_aload_n (pc := 153) M.1 dX1_way_153 0 rfl ?_
  refine jm_getS (pc := 154) M fm_272 dX1_way_154 ?_
  refine j_aload_n (pc := 157) M.1 dX1_way_157 0 rfl ?_
  refine jm_getS (pc := 158) M fm_275 dX1_way_158 ?_
  refine j_imul (pc := 161) M.1 dX1_way_161 ?_
  refine j_icmp_ge (pc := 162) M.1 288 dX1_way_162 rfl (fun c1 => ?_) (fun c1 => ?_)
  · replace hf := o_pos c1 hf
    refine j_sub [0, 1, 2] (show lv_pick _ _ = [(0, .ref o), (3, .int x3), (4, .int x4)] from rfl) ?_
    have hy := hK288 _ hf
    exact hy
  · replace hf := o_neg c1 hf
    refine j_aload_n (pc := 165) M.1 dX1_way_165 0 rfl ?_
    refine jm_getA (pc := 166) M fa_238 dX1_way_166 ?_
    refine j_iload (pc := 169) M.1 dX1_way_169 3 rfl ?_
    obtain ⟨b1, hf⟩ := o_need hf
    refine jm_iald (pc := 171) M ax_74 b1 dX1_way_171 ?_
    refine j_iconst (pc := 172) M.1 dX1_way_172 kc_iconst_m1 ?_
    refine j_icmp_ne (pc := 173) M.1 282 dX1_way_173 rfl (fun c2 => ?_) (fun c2 => ?_)
    · replace hf := o_neg c2 hf
      refine j_iinc (pc := 282) M.1 [(5, .int (a.1 + 1)), (0, .ref o), (3, .int x3), (4, .int x4)] dX1_way_282 3 rfl (congrArg _ kc_iconst_1) rfl rfl ?_
      refine j_goto (pc := 285) M.1 151 dX1_way_285 rfl ?_
      refine j_sub [1, 2, 3, 0] (show lv_pick _ _ = [(0, .ref o), (3, .int x3), (4, .int x4), (5, .int (a.1 + 1))] from rfl) ?_
      have hy := hR _ hf
      exact hy
    · replace hf := o_pos c2 hf
      refine j_iload_n (pc := 176) M.1 dX1_way_176 1 rfl ?_
      refine j_aload_n (pc := 177) M.1 dX1_way_177 0 rfl ?_
      refine jm_getA (pc := 178) M fa_7 dX1_way_178 ?_
      refine j_iload (pc := 181) M.1 dX1_way_181 3 rfl ?_
      obtain ⟨b2, hf⟩ := o_need hf
      refine jm_iald (pc := 183) M ax_0 b2 dX1_way_183 ?_
      refine j_icmp_lt (pc := 184) M.1 190 dX1_way_184 rfl (fun c3 => ?_) (fun c3 => ?_)
      · replace hf := o_pos c3 hf
        refine j_iconst (pc := 190) M.1 dX1_way_190 kc_iconst_0 ?_
        refine j_istore (pc := 191) M.1 [(6, .int 0), (0, .ref o), (3, .int x3), (4, .int x4), (5, .int a.1)] dX1_way_191 rfl rfl ?_
        refine j_sub [1, 2, 3, 4, 0] (show lv_pick _ _ = [(0, .ref o), (3, .int x3), (4, .int x4), (5, .int a.1), (6, .int 0)] from rfl) ?_
        refine lp_W (km_way_B193 M x3 x4 a.1 _ ?_) F (0, a.2) hf
        · intro a1 hf
          exact km_way_258 M x3 x4 a.1 K288 hK288 R hR a1.2 hf
      · replace hf := o_neg c3 hf
        refine j_goto (pc := 187) M.1 282 dX1_way_187 rfl ?_
        refine j_iinc (pc := 282) M.1 [(5, .int (a.1 + 1)), (0, .ref o), (3, .int x3), (4, .int x4)] dX1_way_282 3 rfl (congrArg _ kc_iconst_1) rfl rfl ?_
        refine j_goto (pc := 285) M.1 151 dX1_way_285 rfl ?_
        refine j_sub [1, 2, 3, 0] (show lv_pick _ _ = [(0, .ref o), (3, .int x3), (4, .int x4), (5, .int (a.1 + 1))] from rfl) ?_
        have hy := hR _ hf
        exact hy
noncomputable def m_way_B134 (F : Nat) (x3 : Int32) (R : Int32 × MS → Option (Int32 × MS)) (a : Int32 × MS) : Option (Int32 × MS) :=
  if ((a.2.1 0) * (a.2.1 1)) ≤ a.1 then (some ((-2), a.2)) else (lp (m_way_B151 F (fun a1 => R (a.1 + 1, a1.2)) x3 a.1) F (0, a.2))
theorem km_way_B134 (M : MC γ cX1_way 7 G o 3 (some .int) (mQi G o res)) (x3 : Int32) : ∀ R : Int32 × MS → Option (Int32 × MS), (∀ a, R a = some res → J γ (MW G o a.2) 0 0 134 [(0, .ref o), (3, .int x3), (4, .int a.1)] []) → ∀ a, m_way_B134 F x3 R a = some res → J γ (MW G o a.2) 0 0 134 [(0, .ref o), (3, .int x3), (4, .int a.1)] [] := by
  intro R hR a hf
  unfold m_way_B134 at hf
  refine j_iload (pc := 134) M.1 dX1_way_134 2 rfl ?_
  refine j_aload_n (pc := 136) M.1 dX1_way_136 0 rfl ?_
  refine jm_getS (pc := 137) M fm_272 dX1_way_137 ?_
  refine j_aload_n (pc := 140) M.1 dX1_way_140 0 rfl ?_
  refine jm_getS (pc := 141) M fm_275 dX1_way_141 ?_
  refine j_imul (pc := 144) M.1 dX1_way_144 ?_
  refine j_icmp_ge (pc := 145) M.1 294 dX1_way_145 rfl (fun c1 => ?_) (fun c1 => ?_)
  · replace hf := o_pos c1 hf
    refine j_bipush (pc := 294) M.1 dX1_way_294 kc_bipush_m2 ?_
    exact jm_iret (pc := 296) M dX1_way_296 hf
  · replace hf := o_neg c1 hf
    refine j_iconst (pc := 148) M.1 dX1_way_148 kc_iconst_0 ?_
    refine j_istore (pc := 149) M.1 [(5, .int 0), (0, .ref o), (3, .int x3), (4, .int a.1)] dX1_way_149 rfl rfl ?_
    refine j_sub [1, 2, 3, 0] (show lv_pick _ _ = [(0, .ref o), (3, .int x3), (4, .int a.1), (5, .int 0)] from rfl) ?_
    refine lp_W (km_way_B151 M x3 a.1 _ ?_) F (0, a.2) hf
    · intro a1 hf
      refine j_iinc (pc := 288) M.1 [(4, .int (a.1 + 1)), (0, .ref o), (3, .int x3)] dX1_way_288 2 rfl (congrArg _ kc_iconst_1) rfl rfl ?_
      refine j_goto (pc := 291) M.1 134 dX1_way_291 rfl ?_
      refine j_sub [1, 2, 0] (show lv_pick _ _ = [(0, .ref o), (3, .int x3), (4, .int (a.1 + 1))] from rfl) ?_
      have hy := hR _ hf
      exact hy
noncomputable def m_way (F : Nat) (x1 : Int32) (σ : MS) : Option (Int32 × MS) :=
  if x1 < 0 then (some ((-1), σ)) else (if (σ.1 90) ≤ x1 then (some ((-1), σ)) else ((m_hours F σ).bind (fun r1 => if r1.1 = 0 then (some ((-1), r1.2)) else (if okI x1 40 = true then if okI (r1.2.2 73 x1.toNatClampNeg) 8 = true then nx (r1.2.2 70 (r1.2.2 73 x1.toNatClampNeg).toNatClampNeg : Int32) (fun y1 => lp (m_way_B38 F (fun a1 => lp (m_way_B73 F (fun a2 => if okI x1 40 = true then (m_isBorder F (a2.2.2 72 x1.toNatClampNeg) a2.2).bind (fun r2 => if r2.1 = 0 then (lp (m_way_B134 F a1.1) F (1, r2.2)) else (some (0, r2.2))) else none) x1 a1.1) F (0, a1.2.2)) x1 y1) F (0, 0, r1.2)) else none else none))))
theorem met_way {l : Launch} {G : gG} {o F : Nat} {x1 : Int32} {σ : MS} {res : Int32 × MS} (hf : m_way F x1 σ = some res) : MetMi l G yX1_way cX1_way 7 (some .int) 3 o [.int x1] σ res := by
  refine metMi_of (by decide) rfl rfl (fun γ hγ M => ?_)
  subst hγ
  show J γ (MW G o σ) 0 0 0 [(0, .ref o), (1, .int x1)] []
  unfold m_way at hf
  refine j_iload_n (pc := 0) M.1 dX1_way_0 1 rfl ?_
  refine j_if_lt (pc := 1) M.1 19 dX1_way_1 rfl (fun c1 => ?_) (fun c1 => ?_)
  · replace hf := o_pos c1 hf
    refine j_iconst (pc := 19) M.1 dX1_way_19 kc_iconst_m1 ?_
    exact jm_iret (pc := 20) M dX1_way_20 hf
  · replace hf := o_neg c1 hf
    refine j_iload_n (pc := 4) M.1 dX1_way_4 1 rfl ?_
    refine j_aload_n (pc := 5) M.1 dX1_way_5 0 rfl ?_
    refine jm_getS (pc := 6) M fm_288 dX1_way_6 ?_
    refine j_icmp_ge (pc := 9) M.1 19 dX1_way_9 rfl (fun c2 => ?_) (fun c2 => ?_)
    · replace hf := o_pos c2 hf
      refine j_iconst (pc := 19) M.1 dX1_way_19 kc_iconst_m1 ?_
      exact jm_iret (pc := 20) M dX1_way_20 hf
    · replace hf := o_neg c2 hf
      refine j_aload_n (pc := 12) M.1 dX1_way_12 0 rfl ?_
      obtain ⟨r1, g1, hf⟩ := o_bind hf
      refine jm_calli (pc := 13) (As := []) (rest := []) M cm_543 (met_hours g1) rfl rfl rfl rfl dX1_way_13 ?_
      refine j_if_ne (pc := 16) M.1 21 dX1_way_16 rfl (fun c3 => ?_) (fun c3 => ?_)
      · replace hf := o_neg c3 hf
        refine j_aload_n (pc := 21) M.1 dX1_way_21 0 rfl ?_
        refine jm_getA (pc := 22) M fa_226 dX1_way_22 ?_
        refine j_aload_n (pc := 25) M.1 dX1_way_25 0 rfl ?_
        refine jm_getA (pc := 26) M fa_235 dX1_way_26 ?_
        refine j_iload_n (pc := 29) M.1 dX1_way_29 1 rfl ?_
        obtain ⟨b1, hf⟩ := o_need hf
        refine jm_iald (pc := 30) M ax_73 b1 dX1_way_30 ?_
        obtain ⟨b2, hf⟩ := o_need hf
        refine jm_iald (pc := 31) M ax_70 b2 dX1_way_31 ?_
        obtain ⟨y1, e1, hf⟩ := o_nx hf
        refine j_top e1 ?_
        refine j_istore_n (pc := 32) M.1 [(2, .int y1), (0, .ref o), (1, .int x1)] dX1_way_32 rfl rfl ?_
        refine j_iconst (pc := 33) M.1 dX1_way_33 kc_iconst_0 ?_
        refine j_istore_n (pc := 34) M.1 [(3, .int 0), (2, .int y1), (0, .ref o), (1, .int x1)] dX1_way_34 rfl rfl ?_
        refine j_iconst (pc := 35) M.1 dX1_way_35 kc_iconst_0 ?_
        refine j_istore (pc := 36) M.1 [(4, .int 0), (3, .int 0), (2, .int y1), (0, .ref o), (1, .int x1)] dX1_way_36 rfl rfl ?_
        refine j_sub [3, 4, 2, 1, 0] (show lv_pick _ _ = [(0, .ref o), (1, .int x1), (2, .int y1), (3, .int 0), (4, .int 0)] from rfl) ?_
        refine lp_W (km_way_B38 M x1 y1 _ ?_) F (0, 0, r1.2) hf
        · intro a1 hf
          refine j_iconst (pc := 70) M.1 dX1_way_70 kc_iconst_0 ?_
          refine j_istore (pc := 71) M.1 [(4, .int 0), (0, .ref o), (1, .int x1), (3, .int a1.1)] dX1_way_71 rfl rfl ?_
          refine j_sub [1, 2, 3, 0] (show lv_pick _ _ = [(0, .ref o), (1, .int x1), (3, .int a1.1), (4, .int 0)] from rfl) ?_
          refine lp_W (km_way_B73 M x1 a1.1 _ ?_) F (0, a1.2.2) hf
          · intro a2 hf
            refine j_aload_n (pc := 116) M.1 dX1_way_116 0 rfl ?_
            refine j_aload_n (pc := 117) M.1 dX1_way_117 0 rfl ?_
            refine jm_getA (pc := 118) M fa_232 dX1_way_118 ?_
            refine j_iload_n (pc := 121) M.1 dX1_way_121 1 rfl ?_
            obtain ⟨b3, hf⟩ := o_need hf
            refine jm_iald (pc := 122) M ax_72 b3 dX1_way_122 ?_
            obtain ⟨r2, g2, hf⟩ := o_bind hf
            refine jm_calli (pc := 123) (As := [.int (a2.2.2 72 x1.toNatClampNeg)]) (rest := []) M cm_546 (met_isBorder g2) rfl rfl rfl rfl dX1_way_123 ?_
            refine j_if_eq (pc := 126) M.1 131 dX1_way_126 rfl (fun c4 => ?_) (fun c4 => ?_)
            · replace hf := o_pos c4 hf
              refine j_iconst (pc := 131) M.1 dX1_way_131 kc_iconst_1 ?_
              refine j_istore (pc := 132) M.1 [(4, .int 1), (0, .ref o), (1, .int x1), (3, .int a1.1)] dX1_way_132 rfl rfl ?_
              refine j_sub [1, 3, 0] (show lv_pick _ _ = [(0, .ref o), (3, .int a1.1), (4, .int 1)] from rfl) ?_
              refine lp_W (km_way_B134 M a1.1) F (1, r2.2) hf
            · replace hf := o_neg c4 hf
              refine j_iconst (pc := 129) M.1 dX1_way_129 kc_iconst_0 ?_
              exact jm_iret (pc := 130) M dX1_way_130 hf
      · replace hf := o_pos c3 hf
        refine j_iconst (pc := 19) M.1 dX1_way_19 kc_iconst_m1 ?_
        exact jm_iret (pc := 20) M dX1_way_20 hf
end
theorem dX1_groundOf_0 : decode cX1_groundOf 0 = .ok (.iconst 0, 1) := by decide +kernel
theorem dX1_groundOf_1 : decode cX1_groundOf 1 = .ok (.istore 5, 2) := by decide +kernel
theorem dX1_groundOf_3 : decode cX1_groundOf 3 = .ok (.aload_n 0, 1) := by decide +kernel
theorem dX1_groundOf_4 : decode cX1_groundOf 4 = .ok (.iconst (-1), 1) := by decide +kernel
theorem dX1_groundOf_5 : decode cX1_groundOf 5 = .ok (.putfield 311, 3) := by decide +kernel
theorem dX1_groundOf_8 : decode cX1_groundOf 8 = .ok (.iconst (-1), 1) := by decide +kernel
theorem dX1_groundOf_9 : decode cX1_groundOf 9 = .ok (.istore 6, 2) := by decide +kernel
theorem dX1_groundOf_11 : decode cX1_groundOf 11 = .ok (.iconst (-1), 1) := by decide +kernel
theorem dX1_groundOf_12 : decode cX1_groundOf 12 = .ok (.istore 7, 2) := by decide +kernel
theorem dX1_groundOf_14 : decode cX1_groundOf 14 = .ok (.iconst 1, 1) := by decide +kernel
theorem dX1_groundOf_15 : decode cX1_groundOf 15 = .ok (.istore 8, 2) := by decide +kernel
theorem dX1_groundOf_17 : decode cX1_groundOf 17 = .ok (.iload 8, 2) := by decide +kernel
theorem dX1_groundOf_19 : decode cX1_groundOf 19 = .ok (.ifCond .eq 246, 3) := by decide +kernel
theorem dX1_groundOf_22 : decode cX1_groundOf 22 = .ok (.iconst (-1), 1) := by decide +kernel
theorem dX1_groundOf_23 : decode cX1_groundOf 23 = .ok (.istore 9, 2) := by decide +kernel
theorem dX1_groundOf_25 : decode cX1_groundOf 25 = .ok (.iconst 0, 1) := by decide +kernel
theorem dX1_groundOf_26 : decode cX1_groundOf 26 = .ok (.istore 10, 2) := by decide +kernel
theorem dX1_groundOf_28 : decode cX1_groundOf 28 = .ok (.iload 10, 2) := by decide +kernel
theorem dX1_groundOf_30 : decode cX1_groundOf 30 = .ok (.aload_n 0, 1) := by decide +kernel
theorem dX1_groundOf_31 : decode cX1_groundOf 31 = .ok (.getfield 285, 3) := by decide +kernel
theorem dX1_groundOf_34 : decode cX1_groundOf 34 = .ok (.if_icmp .ge 115, 3) := by decide +kernel
theorem dX1_groundOf_37 : decode cX1_groundOf 37 = .ok (.aload_n 0, 1) := by decide +kernel
theorem dX1_groundOf_38 : decode cX1_groundOf 38 = .ok (.iload 10, 2) := by decide +kernel
theorem dX1_groundOf_40 : decode cX1_groundOf 40 = .ok (.iload 4, 2) := by decide +kernel
theorem dX1_groundOf_42 : decode cX1_groundOf 42 = .ok (.invokevirtual 314, 3) := by decide +kernel
theorem dX1_groundOf_45 : decode cX1_groundOf 45 = .ok (.ifCond .eq 98, 3) := by decide +kernel
theorem dX1_groundOf_48 : decode cX1_groundOf 48 = .ok (.aload_n 0, 1) := by decide +kernel
theorem dX1_groundOf_49 : decode cX1_groundOf 49 = .ok (.iload 10, 2) := by decide +kernel
theorem dX1_groundOf_51 : decode cX1_groundOf 51 = .ok (.iload_n 1, 1) := by decide +kernel
theorem dX1_groundOf_52 : decode cX1_groundOf 52 = .ok (.iload_n 2, 1) := by decide +kernel
theorem dX1_groundOf_53 : decode cX1_groundOf 53 = .ok (.invokevirtual 317, 3) := by decide +kernel
theorem dX1_groundOf_56 : decode cX1_groundOf 56 = .ok (.ifCond .eq 87, 3) := by decide +kernel
theorem dX1_groundOf_59 : decode cX1_groundOf 59 = .ok (.aload_n 0, 1) := by decide +kernel
theorem dX1_groundOf_60 : decode cX1_groundOf 60 = .ok (.getfield 43, 3) := by decide +kernel
theorem dX1_groundOf_63 : decode cX1_groundOf 63 = .ok (.iload 10, 2) := by decide +kernel
theorem dX1_groundOf_65 : decode cX1_groundOf 65 = .ok (.iaload, 1) := by decide +kernel
theorem dX1_groundOf_66 : decode cX1_groundOf 66 = .ok (.iload_n 3, 1) := by decide +kernel
theorem dX1_groundOf_67 : decode cX1_groundOf 67 = .ok (.if_icmp .le 6, 3) := by decide +kernel
theorem dX1_groundOf_70 : decode cX1_groundOf 70 = .ok (.goto 73, 3) := by decide +kernel
theorem dX1_groundOf_73 : decode cX1_groundOf 73 = .ok (.aload_n 0, 1) := by decide +kernel
theorem dX1_groundOf_74 : decode cX1_groundOf 74 = .ok (.getfield 43, 3) := by decide +kernel
theorem dX1_groundOf_77 : decode cX1_groundOf 77 = .ok (.iload 10, 2) := by decide +kernel
theorem dX1_groundOf_79 : decode cX1_groundOf 79 = .ok (.iaload, 1) := by decide +kernel
theorem dX1_groundOf_80 : decode cX1_groundOf 80 = .ok (.iload 6, 2) := by decide +kernel
theorem dX1_groundOf_82 : decode cX1_groundOf 82 = .ok (.if_icmp .gt 22, 3) := by decide +kernel
theorem dX1_groundOf_85 : decode cX1_groundOf 85 = .ok (.aload_n 0, 1) := by decide +kernel
theorem dX1_groundOf_86 : decode cX1_groundOf 86 = .ok (.getfield 43, 3) := by decide +kernel
theorem dX1_groundOf_89 : decode cX1_groundOf 89 = .ok (.iload 10, 2) := by decide +kernel
theorem dX1_groundOf_91 : decode cX1_groundOf 91 = .ok (.iaload, 1) := by decide +kernel
theorem dX1_groundOf_92 : decode cX1_groundOf 92 = .ok (.iload 6, 2) := by decide +kernel
theorem dX1_groundOf_94 : decode cX1_groundOf 94 = .ok (.if_icmp .ne 14, 3) := by decide +kernel
theorem dX1_groundOf_97 : decode cX1_groundOf 97 = .ok (.iload 10, 2) := by decide +kernel
theorem dX1_groundOf_99 : decode cX1_groundOf 99 = .ok (.iload 7, 2) := by decide +kernel
theorem dX1_groundOf_101 : decode cX1_groundOf 101 = .ok (.if_icmp .le 7, 3) := by decide +kernel
theorem dX1_groundOf_104 : decode cX1_groundOf 104 = .ok (.iconst 1, 1) := by decide +kernel
theorem dX1_groundOf_105 : decode cX1_groundOf 105 = .ok (.goto 4, 3) := by decide +kernel
theorem dX1_groundOf_108 : decode cX1_groundOf 108 = .ok (.iconst 0, 1) := by decide +kernel
theorem dX1_groundOf_109 : decode cX1_groundOf 109 = .ok (.istore 11, 2) := by decide +kernel
theorem dX1_groundOf_111 : decode cX1_groundOf 111 = .ok (.iload 11, 2) := by decide +kernel
theorem dX1_groundOf_113 : decode cX1_groundOf 113 = .ok (.ifCond .eq 30, 3) := by decide +kernel
theorem dX1_groundOf_116 : decode cX1_groundOf 116 = .ok (.iload 9, 2) := by decide +kernel
theorem dX1_groundOf_118 : decode cX1_groundOf 118 = .ok (.iconst (-1), 1) := by decide +kernel
theorem dX1_groundOf_119 : decode cX1_groundOf 119 = .ok (.if_icmp .eq 20, 3) := by decide +kernel
theorem dX1_groundOf_122 : decode cX1_groundOf 122 = .ok (.aload_n 0, 1) := by decide +kernel
theorem dX1_groundOf_123 : decode cX1_groundOf 123 = .ok (.getfield 43, 3) := by decide +kernel
theorem dX1_groundOf_126 : decode cX1_groundOf 126 = .ok (.iload 10, 2) := by decide +kernel
theorem dX1_groundOf_128 : decode cX1_groundOf 128 = .ok (.iaload, 1) := by decide +kernel
theorem dX1_groundOf_129 : decode cX1_groundOf 129 = .ok (.aload_n 0, 1) := by decide +kernel
theorem dX1_groundOf_130 : decode cX1_groundOf 130 = .ok (.getfield 43, 3) := by decide +kernel
theorem dX1_groundOf_133 : decode cX1_groundOf 133 = .ok (.iload 9, 2) := by decide +kernel
theorem dX1_groundOf_135 : decode cX1_groundOf 135 = .ok (.iaload, 1) := by decide +kernel
theorem dX1_groundOf_136 : decode cX1_groundOf 136 = .ok (.if_icmp .ge 7, 3) := by decide +kernel
theorem dX1_groundOf_139 : decode cX1_groundOf 139 = .ok (.iload 10, 2) := by decide +kernel
theorem dX1_groundOf_141 : decode cX1_groundOf 141 = .ok (.istore 9, 2) := by decide +kernel
theorem dX1_groundOf_143 : decode cX1_groundOf 143 = .ok (.iinc 10 1, 3) := by decide +kernel
theorem dX1_groundOf_146 : decode cX1_groundOf 146 = .ok (.goto (-118), 3) := by decide +kernel
theorem dX1_groundOf_149 : decode cX1_groundOf 149 = .ok (.iload 9, 2) := by decide +kernel
theorem dX1_groundOf_151 : decode cX1_groundOf 151 = .ok (.iconst (-1), 1) := by decide +kernel
theorem dX1_groundOf_152 : decode cX1_groundOf 152 = .ok (.if_icmp .eq 7, 3) := by decide +kernel
theorem dX1_groundOf_155 : decode cX1_groundOf 155 = .ok (.iconst 1, 1) := by decide +kernel
theorem dX1_groundOf_156 : decode cX1_groundOf 156 = .ok (.goto 4, 3) := by decide +kernel
theorem dX1_groundOf_159 : decode cX1_groundOf 159 = .ok (.iconst 0, 1) := by decide +kernel
theorem dX1_groundOf_160 : decode cX1_groundOf 160 = .ok (.istore 8, 2) := by decide +kernel
theorem dX1_groundOf_162 : decode cX1_groundOf 162 = .ok (.iload 8, 2) := by decide +kernel
theorem dX1_groundOf_164 : decode cX1_groundOf 164 = .ok (.ifCond .ne 6, 3) := by decide +kernel
theorem dX1_groundOf_167 : decode cX1_groundOf 167 = .ok (.goto (-150), 3) := by decide +kernel
theorem dX1_groundOf_170 : decode cX1_groundOf 170 = .ok (.iload 9, 2) := by decide +kernel
theorem dX1_groundOf_172 : decode cX1_groundOf 172 = .ok (.istore 7, 2) := by decide +kernel
theorem dX1_groundOf_174 : decode cX1_groundOf 174 = .ok (.aload_n 0, 1) := by decide +kernel
theorem dX1_groundOf_175 : decode cX1_groundOf 175 = .ok (.getfield 43, 3) := by decide +kernel
theorem dX1_groundOf_178 : decode cX1_groundOf 178 = .ok (.iload 9, 2) := by decide +kernel
theorem dX1_groundOf_180 : decode cX1_groundOf 180 = .ok (.iaload, 1) := by decide +kernel
theorem dX1_groundOf_181 : decode cX1_groundOf 181 = .ok (.istore 6, 2) := by decide +kernel
theorem dX1_groundOf_183 : decode cX1_groundOf 183 = .ok (.aload_n 0, 1) := by decide +kernel
theorem dX1_groundOf_184 : decode cX1_groundOf 184 = .ok (.getfield 28, 3) := by decide +kernel
theorem dX1_groundOf_187 : decode cX1_groundOf 187 = .ok (.iload 9, 2) := by decide +kernel
theorem dX1_groundOf_189 : decode cX1_groundOf 189 = .ok (.iaload, 1) := by decide +kernel
theorem dX1_groundOf_190 : decode cX1_groundOf 190 = .ok (.istore 10, 2) := by decide +kernel
theorem dX1_groundOf_192 : decode cX1_groundOf 192 = .ok (.iload 5, 2) := by decide +kernel
theorem dX1_groundOf_194 : decode cX1_groundOf 194 = .ok (.ifCond .ne 15, 3) := by decide +kernel
theorem dX1_groundOf_197 : decode cX1_groundOf 197 = .ok (.iload 10, 2) := by decide +kernel
theorem dX1_groundOf_199 : decode cX1_groundOf 199 = .ok (.iconst 2, 1) := by decide +kernel
theorem dX1_groundOf_200 : decode cX1_groundOf 200 = .ok (.if_icmp .eq 9, 3) := by decide +kernel
theorem dX1_groundOf_203 : decode cX1_groundOf 203 = .ok (.aload_n 0, 1) := by decide +kernel
theorem dX1_groundOf_204 : decode cX1_groundOf 204 = .ok (.iload 9, 2) := by decide +kernel
theorem dX1_groundOf_206 : decode cX1_groundOf 206 = .ok (.putfield 311, 3) := by decide +kernel
theorem dX1_groundOf_209 : decode cX1_groundOf 209 = .ok (.iload 10, 2) := by decide +kernel
theorem dX1_groundOf_211 : decode cX1_groundOf 211 = .ok (.ifCond .ne 9, 3) := by decide +kernel
theorem dX1_groundOf_214 : decode cX1_groundOf 214 = .ok (.iconst 2, 1) := by decide +kernel
theorem dX1_groundOf_215 : decode cX1_groundOf 215 = .ok (.istore 5, 2) := by decide +kernel
theorem dX1_groundOf_217 : decode cX1_groundOf 217 = .ok (.goto 45, 3) := by decide +kernel
theorem dX1_groundOf_220 : decode cX1_groundOf 220 = .ok (.iload 10, 2) := by decide +kernel
theorem dX1_groundOf_222 : decode cX1_groundOf 222 = .ok (.iconst 1, 1) := by decide +kernel
theorem dX1_groundOf_223 : decode cX1_groundOf 223 = .ok (.if_icmp .ne 19, 3) := by decide +kernel
theorem dX1_groundOf_226 : decode cX1_groundOf 226 = .ok (.iload 5, 2) := by decide +kernel
theorem dX1_groundOf_228 : decode cX1_groundOf 228 = .ok (.ifCond .ne 7, 3) := by decide +kernel
theorem dX1_groundOf_231 : decode cX1_groundOf 231 = .ok (.iconst 1, 1) := by decide +kernel
theorem dX1_groundOf_232 : decode cX1_groundOf 232 = .ok (.goto 5, 3) := by decide +kernel
theorem dX1_groundOf_235 : decode cX1_groundOf 235 = .ok (.iload 5, 2) := by decide +kernel
theorem dX1_groundOf_237 : decode cX1_groundOf 237 = .ok (.istore 5, 2) := by decide +kernel
theorem dX1_groundOf_239 : decode cX1_groundOf 239 = .ok (.goto 23, 3) := by decide +kernel
theorem dX1_groundOf_242 : decode cX1_groundOf 242 = .ok (.iload 5, 2) := by decide +kernel
theorem dX1_groundOf_244 : decode cX1_groundOf 244 = .ok (.iconst 1, 1) := by decide +kernel
theorem dX1_groundOf_245 : decode cX1_groundOf 245 = .ok (.if_icmp .eq 9, 3) := by decide +kernel
theorem dX1_groundOf_248 : decode cX1_groundOf 248 = .ok (.iload 5, 2) := by decide +kernel
theorem dX1_groundOf_250 : decode cX1_groundOf 250 = .ok (.iconst 2, 1) := by decide +kernel
theorem dX1_groundOf_251 : decode cX1_groundOf 251 = .ok (.if_icmp .ne 7, 3) := by decide +kernel
theorem dX1_groundOf_254 : decode cX1_groundOf 254 = .ok (.iconst 3, 1) := by decide +kernel
theorem dX1_groundOf_255 : decode cX1_groundOf 255 = .ok (.goto 5, 3) := by decide +kernel
theorem dX1_groundOf_258 : decode cX1_groundOf 258 = .ok (.iload 5, 2) := by decide +kernel
theorem dX1_groundOf_260 : decode cX1_groundOf 260 = .ok (.istore 5, 2) := by decide +kernel
theorem dX1_groundOf_262 : decode cX1_groundOf 262 = .ok (.goto (-245), 3) := by decide +kernel
theorem dX1_groundOf_265 : decode cX1_groundOf 265 = .ok (.iload 5, 2) := by decide +kernel
theorem dX1_groundOf_267 : decode cX1_groundOf 267 = .ok (.ireturn, 1) := by decide +kernel
section
variable {res : Int32 × MS}
noncomputable def m_groundOf_109 (F : Nat) (K149 : Int32 × Int32 × MS → Option (Int32 × MS)) (R : Int32 × Int32 × MS → Option (Int32 × MS)) (x1 x2 x3 x4 x5 x6 x7 x9 x10 s0 : Int32) (σ : MS) : Option (Int32 × MS) :=
  if s0 = 0 then (R (x9, x10 + 1, σ)) else (if x9 = ((-1)) then (R (x10, x10 + 1, σ)) else (if okI x10 100 = true then if okI x9 100 = true then if (σ.2 11 x9.toNatClampNeg) ≤ (σ.2 11 x10.toNatClampNeg) then (R (x9, x10 + 1, σ)) else (R (x10, x10 + 1, σ)) else none else none))
theorem km_groundOf_109 (M : MC γ cX1_groundOf 12 G o 4 (some .int) (mQi G o res)) (x1 x2 x3 x4 x5 x6 x7 x9 x10 s0 : Int32) (K149 : Int32 × Int32 × MS → Option (Int32 × MS)) (hK149 : ∀ a, K149 a = some res → J γ (MW G o a.2.2) 0 0 149 [(0, .ref o), (1, .int x1), (2, .int x2), (3, .int x3), (4, .int x4), (5, .int x5), (6, .int x6), (7, .int x7), (9, .int a.1)] []) (R : Int32 × Int32 × MS → Option (Int32 × MS)) (hR : ∀ a, R a = some res → J γ (MW G o a.2.2) 0 0 28 [(0, .ref o), (1, .int x1), (2, .int x2), (3, .int x3), (4, .int x4), (5, .int x5), (6, .int x6), (7, .int x7), (9, .int a.1), (10, .int a.2.1)] []) (σ : MS) (hf : m_groundOf_109 F K149 R x1 x2 x3 x4 x5 x6 x7 x9 x10 s0 σ = some res) : J γ (MW G o σ) 0 0 109 [(0, .ref o), (1, .int x1), (2, .int x2), (3, .int x3), (4, .int x4), (5, .int x5), (6, .int x6), (7, .int x7), (9, .int x9), (10, .int x10)] [.int s0] := by
  unfold m_groundOf_109 at hf
  refine j_istore (pc := 109) M.1 [(11, .int s0), (0, .ref o), (1, .int x1), (2, .int x2), (3, .int x3), (4, .int x4), (5, .int x5), (6, .int x6), (7, .int x7), (9, .int x9), (10, .int x10)] dX1_groundOf_109 rfl rfl ?_
  refine j_iload (pc := 111) M.1 dX1_groundOf_111 0 rfl ?_
  refine j_if_eq (pc := 113) M.1 143 dX1_groundOf_113 rfl (fun c1 => ?_) (fun c1 => ?_)
  · replace hf := o_pos c1 hf
    refine j_iinc (pc := 143) M.1 [(10, .int (x10 + 1)), (11, .int s0), (0, .ref o), (1, .int x1), (2, .int x2), (3, .int x3), (4, .int x4), (5, .int x5), (6, .int x6), (7, .int x7), (9, .int x9)] dX1_groundOf_143 10 rfl (congrArg _ kc_iconst_1) rfl rfl ?_
    refine j_goto (pc := 146) M.1 28 dX1_groundOf_146 rfl ?_
    refine j_sub [2, 3, 4, 5, 6, 7, 8, 9, 10, 0] (show lv_pick _ _ = [(0, .ref o), (1, .int x1), (2, .int x2), (3, .int x3), (4, .int x4), (5, .int x5), (6, .int x6), (7, .int x7), (9, .int x9), (10, .int (x10 + 1))] from rfl) ?_
    have hy := hR _ hf
    exact hy
  · replace hf := o_neg c1 hf
    refine j_iload (pc := 116) M.1 dX1_groundOf_116 9 rfl ?_
    refine j_iconst (pc := 118) M.1 dX1_groundOf_118 kc_iconst_m1 ?_
    refine j_icmp_eq (pc := 119) M.1 139 dX1_groundOf_119 rfl (fun c2 => ?_) (fun c2 => ?_)
    · replace hf := o_pos c2 hf
      refine j_iload (pc := 139) M.1 dX1_groundOf_139 10 rfl ?_
      refine j_istore (pc := 141) M.1 [(9, .int x10), (11, .int s0), (0, .ref o), (1, .int x1), (2, .int x2), (3, .int x3), (4, .int x4), (5, .int x5), (6, .int x6), (7, .int x7), (10, .int x10)] dX1_groundOf_141 rfl rfl ?_
      refine j_iinc (pc := 143) M.1 [(10, .int (x10 + 1)), (9, .int x10), (11, .int s0), (0, .ref o), (1, .int x1), (2, .int x2), (3, .int x3), (4, .int x4), (5, .int x5), (6, .int x6), (7, .int x7)] dX1_groundOf_143 10 rfl (congrArg _ kc_iconst_1) rfl rfl ?_
      refine j_goto (pc := 146) M.1 28 dX1_groundOf_146 rfl ?_
      refine j_sub [3, 4, 5, 6, 7, 8, 9, 10, 1, 0] (show lv_pick _ _ = [(0, .ref o), (1, .int x1), (2, .int x2), (3, .int x3), (4, .int x4), (5, .int x5), (6, .int x6), (7, .int x7), (9, .int x10), (10, .int (x10 + 1))] from rfl) ?_
      have hy := hR _ hf
      exact hy
    · replace hf := o_neg c2 hf
      refine j_aload_n (pc := 122) M.1 dX1_groundOf_122 1 rfl ?_
      refine jm_getA (pc := 123) M fa_43 dX1_groundOf_123 ?_
      refine j_iload (pc := 126) M.1 dX1_groundOf_126 10 rfl ?_
      obtain ⟨b1, hf⟩ := o_need hf
      refine jm_iald (pc := 128) M ax_11 b1 dX1_groundOf_128 ?_
      refine j_aload_n (pc := 129) M.1 dX1_groundOf_129 1 rfl ?_
      refine jm_getA (pc := 130) M fa_43 dX1_groundOf_130 ?_
      refine j_iload (pc := 133) M.1 dX1_groundOf_133 9 rfl ?_
      obtain ⟨b2, hf⟩ := o_need hf
      refine jm_iald (pc := 135) M ax_11 b2 dX1_groundOf_135 ?_
      refine j_icmp_ge (pc := 136) M.1 143 dX1_groundOf_136 rfl (fun c3 => ?_) (fun c3 => ?_)
      · replace hf := o_pos c3 hf
        refine j_iinc (pc := 143) M.1 [(10, .int (x10 + 1)), (11, .int s0), (0, .ref o), (1, .int x1), (2, .int x2), (3, .int x3), (4, .int x4), (5, .int x5), (6, .int x6), (7, .int x7), (9, .int x9)] dX1_groundOf_143 10 rfl (congrArg _ kc_iconst_1) rfl rfl ?_
        refine j_goto (pc := 146) M.1 28 dX1_groundOf_146 rfl ?_
        refine j_sub [2, 3, 4, 5, 6, 7, 8, 9, 10, 0] (show lv_pick _ _ = [(0, .ref o), (1, .int x1), (2, .int x2), (3, .int x3), (4, .int x4), (5, .int x5), (6, .int x6), (7, .int x7), (9, .int x9), (10, .int (x10 + 1))] from rfl) ?_
        have hy := hR _ hf
        exact hy
      · replace hf := o_neg c3 hf
        refine j_iload (pc := 139) M.1 dX1_groundOf_139 10 rfl ?_
        refine j_istore (pc := 141) M.1 [(9, .int x10), (11, .int s0), (0, .ref o), (1, .int x1), (2, .int x2), (3, .int x3), (4, .int x4), (5, .int x5), (6, .int x6), (7, .int x7), (10, .int x10)] dX1_groundOf_141 rfl rfl ?_
        refine j_iinc (pc := 143) M.1 [(10, .int (x10 + 1)), (9, .int x10), (11, .int s0), (0, .ref o), (1, .int x1), (2, .int x2), (3, .int x3), (4, .int x4), (5, .int x5), (6, .int x6), (7, .int x7)] dX1_groundOf_143 10 rfl (congrArg _ kc_iconst_1) rfl rfl ?_
        refine j_goto (pc := 146) M.1 28 dX1_groundOf_146 rfl ?_
        refine j_sub [3, 4, 5, 6, 7, 8, 9, 10, 1, 0] (show lv_pick _ _ = [(0, .ref o), (1, .int x1), (2, .int x2), (3, .int x3), (4, .int x4), (5, .int x5), (6, .int x6), (7, .int x7), (9, .int x10), (10, .int (x10 + 1))] from rfl) ?_
        have hy := hR _ hf
        exact hy
noncomputable def m_groundOf_B28 (F : Nat) (K149 : Int32 × Int32 × MS → Option (Int32 × MS)) (x1 x2 x3 x4 x5 x6 x7 : Int32) (R : Int32 × Int32 × MS → Option (Int32 × MS)) (a : Int32 × Int32 × MS) : Option (Int32 × MS) :=
  if (a.2.2.1 4) ≤ a.2.1 then (K149 (a.1, a.2.1, a.2.2)) else ((m_isKnown F a.2.1 x4 a.2.2).bind (fun r1 => if r1.1 = 0 then (R (a.1, a.2.1 + 1, r1.2)) else ((m_has F a.2.1 x1 x2 r1.2).bind (fun r2 => if r2.1 = 0 then (R (a.1, a.2.1 + 1, r2.2)) else (if okI a.2.1 100 = true then if (r2.2.2 11 a.2.1.toNatClampNeg) ≤ x3 then (if okI a.2.1 100 = true then if x6 < (r2.2.2 11 a.2.1.toNatClampNeg) then (m_groundOf_109 F K149 R x1 x2 x3 x4 x5 x6 x7 a.1 a.2.1 1 r2.2) else (if okI a.2.1 100 = true then if (r2.2.2 11 a.2.1.toNatClampNeg) = x6 then (if a.2.1 ≤ x7 then (m_groundOf_109 F K149 R x1 x2 x3 x4 x5 x6 x7 a.1 a.2.1 0 r2.2) else (m_groundOf_109 F K149 R x1 x2 x3 x4 x5 x6 x7 a.1 a.2.1 1 r2.2)) else (m_groundOf_109 F K149 R x1 x2 x3 x4 x5 x6 x7 a.1 a.2.1 0 r2.2) else none) else none) else (R (a.1, a.2.1 + 1, r2.2)) else none)))))
theorem km_groundOf_B28 (M : MC γ cX1_groundOf 12 G o 4 (some .int) (mQi G o res)) (x1 x2 x3 x4 x5 x6 x7 : Int32) (K149 : Int32 × Int32 × MS → Option (Int32 × MS)) (hK149 : ∀ a, K149 a = some res → J γ (MW G o a.2.2) 0 0 149 [(0, .ref o), (1, .int x1), (2, .int x2), (3, .int x3), (4, .int x4), (5, .int x5), (6, .int x6), (7, .int x7), (9, .int a.1)] []) : ∀ R : Int32 × Int32 × MS → Option (Int32 × MS), (∀ a, R a = some res → J γ (MW G o a.2.2) 0 0 28 [(0, .ref o), (1, .int x1), (2, .int x2), (3, .int x3), (4, .int x4), (5, .int x5), (6, .int x6), (7, .int x7), (9, .int a.1), (10, .int a.2.1)] []) → ∀ a, m_groundOf_B28 F K149 x1 x2 x3 x4 x5 x6 x7 R a = some res → J γ (MW G o a.2.2) 0 0 28 [(0, .ref o), (1, .int x1), (2, .int x2), (3, .int x3), (4, .int x4), (5, .int x5), (6, .int x6), (7, .int x7), (9, .int a.1), (10, .int a.2.1)] [] := by
  intro R hR a hf
  unfold m_groundOf_B28 at hf
  refine j_iload (pc := 28) M.1 dX1_groundOf_28 9 rfl ?_
  refine j_aload_n (pc := 30) M.1 dX1_groundOf_30 0 rfl ?_
  refine jm_getS (pc := 31) M fm_285 dX1_groundOf_31 ?_
  refine j_icmp_ge (pc := 34) M.1 149 dX1_groundOf_34 rfl (fun c1 => ?_) (fun c1 => ?_)
  · replace hf := o_pos c1 hf
    refine j_sub [0, 1, 2, 3, 4, 5, 6, 7, 8] (show lv_pick _ _ = [(0, .ref o), (1, .int x1), (2, .int x2), (3, .int x3), (4, .int x4), (5, .int x5), (6, .int x6), (7, .int x7), (9, .int a.1)] from rfl) ?_
    have hy := hK149 _ hf
    exact hy
  · replace hf := o_neg c1 hf
    refine j_aload_n (pc := 37) M.1 dX1_groundOf_37 0 rfl ?_
    refine j_iload (pc := 38) M.1 dX1_groundOf_38 9 rfl ?_
    refine j_iload (pc := 40) M.1 dX1_groundOf_40 4 rfl ?_
    obtain ⟨r1, g1, hf⟩ := o_bind hf
    refine jm_calli (pc := 42) (As := [.int a.2.1, .int x4]) (rest := []) M cm_314 (met_isKnown g1) rfl rfl rfl rfl dX1_groundOf_42 ?_
    refine j_if_eq (pc := 45) M.1 143 dX1_groundOf_45 rfl (fun c2 => ?_) (fun c2 => ?_)
    · replace hf := o_pos c2 hf
      refine j_iinc (pc := 143) M.1 [(10, .int (a.2.1 + 1)), (0, .ref o), (1, .int x1), (2, .int x2), (3, .int x3), (4, .int x4), (5, .int x5), (6, .int x6), (7, .int x7), (9, .int a.1)] dX1_groundOf_143 9 rfl (congrArg _ kc_iconst_1) rfl rfl ?_
      refine j_goto (pc := 146) M.1 28 dX1_groundOf_146 rfl ?_
      refine j_sub [1, 2, 3, 4, 5, 6, 7, 8, 9, 0] (show lv_pick _ _ = [(0, .ref o), (1, .int x1), (2, .int x2), (3, .int x3), (4, .int x4), (5, .int x5), (6, .int x6), (7, .int x7), (9, .int a.1), (10, .int (a.2.1 + 1))] from rfl) ?_
      have hy := hR _ hf
      exact hy
    · replace hf := o_neg c2 hf
      refine j_aload_n (pc := 48) M.1 dX1_groundOf_48 0 rfl ?_
      refine j_iload (pc := 49) M.1 dX1_groundOf_49 9 rfl ?_
      refine j_iload_n (pc := 51) M.1 dX1_groundOf_51 1 rfl ?_
      refine j_iload_n (pc := 52) M.1 dX1_groundOf_52 2 rfl ?_
      obtain ⟨r2, g2, hf⟩ := o_bind hf
      refine jm_calli (pc := 53) (As := [.int a.2.1, .int x1, .int x2]) (rest := []) M cm_317 (met_has g2) rfl rfl rfl rfl dX1_groundOf_53 ?_
      refine j_if_eq (pc := 56) M.1 143 dX1_groundOf_56 rfl (fun c3 => ?_) (fun c3 => ?_)
      · replace hf := o_pos c3 hf
        refine j_iinc (pc := 143) M.1 [(10, .int (a.2.1 + 1)), (0, .ref o), (1, .int x1), (2, .int x2), (3, .int x3), (4, .int x4), (5, .int x5), (6, .int x6), (7, .int x7), (9, .int a.1)] dX1_groundOf_143 9 rfl (congrArg _ kc_iconst_1) rfl rfl ?_
        refine j_goto (pc := 146) M.1 28 dX1_groundOf_146 rfl ?_
        refine j_sub [1, 2, 3, 4, 5, 6, 7, 8, 9, 0] (show lv_pick _ _ = [(0, .ref o), (1, .int x1), (2, .int x2), (3, .int x3), (4, .int x4), (5, .int x5), (6, .int x6), (7, .int x7), (9, .int a.1), (10, .int (a.2.1 + 1))] from rfl) ?_
        have hy := hR _ hf
        exact hy
      · replace hf := o_neg c3 hf
        refine j_aload_n (pc := 59) M.1 dX1_groundOf_59 0 rfl ?_
        refine jm_getA (pc := 60) M fa_43 dX1_groundOf_60 ?_
        refine j_iload (pc := 63) M.1 dX1_groundOf_63 9 rfl ?_
        obtain ⟨b1, hf⟩ := o_need hf
        refine jm_iald (pc := 65) M ax_11 b1 dX1_groundOf_65 ?_
        refine j_iload_n (pc := 66) M.1 dX1_groundOf_66 3 rfl ?_
        refine j_icmp_le (pc := 67) M.1 73 dX1_groundOf_67 rfl (fun c4 => ?_) (fun c4 => ?_)
        · replace hf := o_pos c4 hf
          refine j_aload_n (pc := 73) M.1 dX1_groundOf_73 0 rfl ?_
          refine jm_getA (pc := 74) M fa_43 dX1_groundOf_74 ?_
          refine j_iload (pc := 77) M.1 dX1_groundOf_77 9 rfl ?_
          obtain ⟨b2, hf⟩ := o_need hf
          refine jm_iald (pc := 79) M ax_11 b2 dX1_groundOf_79 ?_
          refine j_iload (pc := 80) M.1 dX1_groundOf_80 6 rfl ?_
          refine j_icmp_gt (pc := 82) M.1 104 dX1_groundOf_82 rfl (fun c5 => ?_) (fun c5 => ?_)
          · replace hf := o_pos c5 hf
            refine j_iconst (pc := 104) M.1 dX1_groundOf_104 kc_iconst_1 ?_
            refine j_goto (pc := 105) M.1 109 dX1_groundOf_105 rfl ?_
            exact km_groundOf_109 M x1 x2 x3 x4 x5 x6 x7 a.1 a.2.1 1 K149 hK149 R hR r2.2 hf
          · replace hf := o_neg c5 hf
            refine j_aload_n (pc := 85) M.1 dX1_groundOf_85 0 rfl ?_
            refine jm_getA (pc := 86) M fa_43 dX1_groundOf_86 ?_
            refine j_iload (pc := 89) M.1 dX1_groundOf_89 9 rfl ?_
            obtain ⟨b3, hf⟩ := o_need hf
            refine jm_iald (pc := 91) M ax_11 b3 dX1_groundOf_91 ?_
            refine j_iload (pc := 92) M.1 dX1_groundOf_92 6 rfl ?_
            refine j_icmp_ne (pc := 94) M.1 108 dX1_groundOf_94 rfl (fun c6 => ?_) (fun c6 => ?_)
            · replace hf := o_neg c6 hf
              refine j_iconst (pc := 108) M.1 dX1_groundOf_108 kc_iconst_0 ?_
              exact km_groundOf_109 M x1 x2 x3 x4 x5 x6 x7 a.1 a.2.1 0 K149 hK149 R hR r2.2 hf
            · replace hf := o_pos c6 hf
              refine j_iload (pc := 97) M.1 dX1_groundOf_97 9 rfl ?_
              refine j_iload (pc := 99) M.1 dX1_groundOf_99 7 rfl ?_
              refine j_icmp_le (pc := 101) M.1 108 dX1_groundOf_101 rfl (fun c7 => ?_) (fun c7 => ?_)
              · replace hf := o_pos c7 hf
                refine j_iconst (pc := 108) M.1 dX1_groundOf_108 kc_iconst_0 ?_
                exact km_groundOf_109 M x1 x2 x3 x4 x5 x6 x7 a.1 a.2.1 0 K149 hK149 R hR r2.2 hf
              · replace hf := o_neg c7 hf
                refine j_iconst (pc := 104) M.1 dX1_groundOf_104 kc_iconst_1 ?_
                refine j_goto (pc := 105) M.1 109 dX1_groundOf_105 rfl ?_
                exact km_groundOf_109 M x1 x2 x3 x4 x5 x6 x7 a.1 a.2.1 1 K149 hK149 R hR r2.2 hf
        · replace hf := o_neg c4 hf
          refine j_goto (pc := 70) M.1 143 dX1_groundOf_70 rfl ?_
          refine j_iinc (pc := 143) M.1 [(10, .int (a.2.1 + 1)), (0, .ref o), (1, .int x1), (2, .int x2), (3, .int x3), (4, .int x4), (5, .int x5), (6, .int x6), (7, .int x7), (9, .int a.1)] dX1_groundOf_143 9 rfl (congrArg _ kc_iconst_1) rfl rfl ?_
          refine j_goto (pc := 146) M.1 28 dX1_groundOf_146 rfl ?_
          refine j_sub [1, 2, 3, 4, 5, 6, 7, 8, 9, 0] (show lv_pick _ _ = [(0, .ref o), (1, .int x1), (2, .int x2), (3, .int x3), (4, .int x4), (5, .int x5), (6, .int x6), (7, .int x7), (9, .int a.1), (10, .int (a.2.1 + 1))] from rfl) ?_
          have hy := hR _ hf
          exact hy
noncomputable def m_groundOf_209 (F : Nat) (R : Int32 × Int32 × Int32 × Int32 × MS → Option (Int32 × MS)) (x1 x2 x3 x4 x5 x6 x7 x8 x10 : Int32) (σ : MS) : Option (Int32 × MS) :=
  if x10 = 0 then (R (2, x6, x7, x8, σ)) else (if x10 = 1 then (if x5 = 0 then (R (1, x6, x7, x8, σ)) else (R (x5, x6, x7, x8, σ))) else (if x5 = 1 then (R (3, x6, x7, x8, σ)) else (if x5 = 2 then (R (3, x6, x7, x8, σ)) else (R (x5, x6, x7, x8, σ)))))
theorem km_groundOf_209 (M : MC γ cX1_groundOf 12 G o 4 (some .int) (mQi G o res)) (x1 x2 x3 x4 x5 x6 x7 x8 x10 : Int32) (R : Int32 × Int32 × Int32 × Int32 × MS → Option (Int32 × MS)) (hR : ∀ a, R a = some res → J γ (MW G o a.2.2.2.2) 0 0 17 [(0, .ref o), (1, .int x1), (2, .int x2), (3, .int x3), (4, .int x4), (5, .int a.1), (6, .int a.2.1), (7, .int a.2.2.1), (8, .int a.2.2.2.1)] []) (σ : MS) (hf : m_groundOf_209 F R x1 x2 x3 x4 x5 x6 x7 x8 x10 σ = some res) : J γ (MW G o σ) 0 0 209 [(0, .ref o), (1, .int x1), (2, .int x2), (3, .int x3), (4, .int x4), (5, .int x5), (6, .int x6), (7, .int x7), (8, .int x8), (10, .int x10)] [] := by
  unfold m_groundOf_209 at hf
  refine j_iload (pc := 209) M.1 dX1_groundOf_209 9 rfl ?_
  refine j_if_ne (pc := 211) M.1 220 dX1_groundOf_211 rfl (fun c1 => ?_) (fun c1 => ?_)
  · replace hf := o_neg c1 hf
    refine j_iload (pc := 220) M.1 dX1_groundOf_220 9 rfl ?_
    refine j_iconst (pc := 222) M.1 dX1_groundOf_222 kc_iconst_1 ?_
    refine j_icmp_ne (pc := 223) M.1 242 dX1_groundOf_223 rfl (fun c2 => ?_) (fun c2 => ?_)
    · replace hf := o_neg c2 hf
      refine j_iload (pc := 242) M.1 dX1_groundOf_242 5 rfl ?_
      refine j_iconst (pc := 244) M.1 dX1_groundOf_244 kc_iconst_1 ?_
      refine j_icmp_eq (pc := 245) M.1 254 dX1_groundOf_245 rfl (fun c3 => ?_) (fun c3 => ?_)
      · replace hf := o_pos c3 hf
        refine j_iconst (pc := 254) M.1 dX1_groundOf_254 kc_iconst_3 ?_
        refine j_goto (pc := 255) M.1 260 dX1_groundOf_255 rfl ?_
        refine j_istore (pc := 260) M.1 [(5, .int 3), (0, .ref o), (1, .int x1), (2, .int x2), (3, .int x3), (4, .int x4), (6, .int x6), (7, .int x7), (8, .int x8), (10, .int x10)] dX1_groundOf_260 rfl rfl ?_
        refine j_goto (pc := 262) M.1 17 dX1_groundOf_262 rfl ?_
        refine j_sub [1, 2, 3, 4, 5, 0, 6, 7, 8] (show lv_pick _ _ = [(0, .ref o), (1, .int x1), (2, .int x2), (3, .int x3), (4, .int x4), (5, .int 3), (6, .int x6), (7, .int x7), (8, .int x8)] from rfl) ?_
        have hy := hR _ hf
        exact hy
      · replace hf := o_neg c3 hf
        refine j_iload (pc := 248) M.1 dX1_groundOf_248 5 rfl ?_
        refine j_iconst (pc := 250) M.1 dX1_groundOf_250 kc_iconst_2 ?_
        refine j_icmp_ne (pc := 251) M.1 258 dX1_groundOf_251 rfl (fun c4 => ?_) (fun c4 => ?_)
        · replace hf := o_neg c4 hf
          refine j_iload (pc := 258) M.1 dX1_groundOf_258 5 rfl ?_
          refine j_istore (pc := 260) M.1 [(5, .int x5), (0, .ref o), (1, .int x1), (2, .int x2), (3, .int x3), (4, .int x4), (6, .int x6), (7, .int x7), (8, .int x8), (10, .int x10)] dX1_groundOf_260 rfl rfl ?_
          refine j_goto (pc := 262) M.1 17 dX1_groundOf_262 rfl ?_
          refine j_sub [1, 2, 3, 4, 5, 0, 6, 7, 8] (show lv_pick _ _ = [(0, .ref o), (1, .int x1), (2, .int x2), (3, .int x3), (4, .int x4), (5, .int x5), (6, .int x6), (7, .int x7), (8, .int x8)] from rfl) ?_
          have hy := hR _ hf
          exact hy
        · replace hf := o_pos c4 hf
          refine j_iconst (pc := 254) M.1 dX1_groundOf_254 kc_iconst_3 ?_
          refine j_goto (pc := 255) M.1 260 dX1_groundOf_255 rfl ?_
          refine j_istore (pc := 260) M.1 [(5, .int 3), (0, .ref o), (1, .int x1), (2, .int x2), (3, .int x3), (4, .int x4), (6, .int x6), (7, .int x7), (8, .int x8), (10, .int x10)] dX1_groundOf_260 rfl rfl ?_
          refine j_goto (pc := 262) M.1 17 dX1_groundOf_262 rfl ?_
          refine j_sub [1, 2, 3, 4, 5, 0, 6, 7, 8] (show lv_pick _ _ = [(0, .ref o), (1, .int x1), (2, .int x2), (3, .int x3), (4, .int x4), (5, .int 3), (6, .int x6), (7, .int x7), (8, .int x8)] from rfl) ?_
          have hy := hR _ hf
          exact hy
    · replace hf := o_pos c2 hf
      refine j_iload (pc := 226) M.1 dX1_groundOf_226 5 rfl ?_
      refine j_if_ne (pc := 228) M.1 235 dX1_groundOf_228 rfl (fun c5 => ?_) (fun c5 => ?_)
      · replace hf := o_neg c5 hf
        refine j_iload (pc := 235) M.1 dX1_groundOf_235 5 rfl ?_
        refine j_istore (pc := 237) M.1 [(5, .int x5), (0, .ref o), (1, .int x1), (2, .int x2), (3, .int x3), (4, .int x4), (6, .int x6), (7, .int x7), (8, .int x8), (10, .int x10)] dX1_groundOf_237 rfl rfl ?_
        refine j_goto (pc := 239) M.1 262 dX1_groundOf_239 rfl ?_
        refine j_goto (pc := 262) M.1 17 dX1_groundOf_262 rfl ?_
        refine j_sub [1, 2, 3, 4, 5, 0, 6, 7, 8] (show lv_pick _ _ = [(0, .ref o), (1, .int x1), (2, .int x2), (3, .int x3), (4, .int x4), (5, .int x5), (6, .int x6), (7, .int x7), (8, .int x8)] from rfl) ?_
        have hy := hR _ hf
        exact hy
      · replace hf := o_pos c5 hf
        refine j_iconst (pc := 231) M.1 dX1_groundOf_231 kc_iconst_1 ?_
        refine j_goto (pc := 232) M.1 237 dX1_groundOf_232 rfl ?_
        refine j_istore (pc := 237) M.1 [(5, .int 1), (0, .ref o), (1, .int x1), (2, .int x2), (3, .int x3), (4, .int x4), (6, .int x6), (7, .int x7), (8, .int x8), (10, .int x10)] dX1_groundOf_237 rfl rfl ?_
        refine j_goto (pc := 239) M.1 262 dX1_groundOf_239 rfl ?_
        refine j_goto (pc := 262) M.1 17 dX1_groundOf_262 rfl ?_
        refine j_sub [1, 2, 3, 4, 5, 0, 6, 7, 8] (show lv_pick _ _ = [(0, .ref o), (1, .int x1), (2, .int x2), (3, .int x3), (4, .int x4), (5, .int 1), (6, .int x6), (7, .int x7), (8, .int x8)] from rfl) ?_
        have hy := hR _ hf
        exact hy
  · replace hf := o_pos c1 hf
    refine j_iconst (pc := 214) M.1 dX1_groundOf_214 kc_iconst_2 ?_
    refine j_istore (pc := 215) M.1 [(5, .int 2), (0, .ref o), (1, .int x1), (2, .int x2), (3, .int x3), (4, .int x4), (6, .int x6), (7, .int x7), (8, .int x8), (10, .int x10)] dX1_groundOf_215 rfl rfl ?_
    refine j_goto (pc := 217) M.1 262 dX1_groundOf_217 rfl ?_
    refine j_goto (pc := 262) M.1 17 dX1_groundOf_262 rfl ?_
    refine j_sub [1, 2, 3, 4, 5, 0, 6, 7, 8] (show lv_pick _ _ = [(0, .ref o), (1, .int x1), (2, .int x2), (3, .int x3), (4, .int x4), (5, .int 2), (6, .int x6), (7, .int x7), (8, .int x8)] from rfl) ?_
    have hy := hR _ hf
    exact hy
noncomputable def m_groundOf_160 (F : Nat) (R : Int32 × Int32 × Int32 × Int32 × MS → Option (Int32 × MS)) (x1 x2 x3 x4 x5 x6 x7 x9 s0 : Int32) (σ : MS) : Option (Int32 × MS) :=
  if s0 = 0 then (R (x5, x6, x7, s0, σ)) else (if okI x9 100 = true then nx (σ.2 11 x9.toNatClampNeg : Int32) (fun y1 => if okI x9 100 = true then nx (σ.2 6 x9.toNatClampNeg : Int32) (fun y2 => if x5 = 0 then (if y2 = 2 then (m_groundOf_209 F R x1 x2 x3 x4 x5 y1 x9 s0 y2 σ) else (nx (sS σ 20 x9) (fun σ1 => m_groundOf_209 F R x1 x2 x3 x4 x5 y1 x9 s0 y2 σ1))) else (m_groundOf_209 F R x1 x2 x3 x4 x5 y1 x9 s0 y2 σ)) else none) else none)
theorem km_groundOf_160 (M : MC γ cX1_groundOf 12 G o 4 (some .int) (mQi G o res)) (x1 x2 x3 x4 x5 x6 x7 x9 s0 : Int32) (R : Int32 × Int32 × Int32 × Int32 × MS → Option (Int32 × MS)) (hR : ∀ a, R a = some res → J γ (MW G o a.2.2.2.2) 0 0 17 [(0, .ref o), (1, .int x1), (2, .int x2), (3, .int x3), (4, .int x4), (5, .int a.1), (6, .int a.2.1), (7, .int a.2.2.1), (8, .int a.2.2.2.1)] []) (σ : MS) (hf : m_groundOf_160 F R x1 x2 x3 x4 x5 x6 x7 x9 s0 σ = some res) : J γ (MW G o σ) 0 0 160 [(0, .ref o), (1, .int x1), (2, .int x2), (3, .int x3), (4, .int x4), (5, .int x5), (6, .int x6), (7, .int x7), (9, .int x9)] [.int s0] := by
  unfold m_groundOf_160 at hf
  refine j_istore (pc := 160) M.1 [(8, .int s0), (0, .ref o), (1, .int x1), (2, .int x2), (3, .int x3), (4, .int x4), (5, .int x5), (6, .int x6), (7, .int x7), (9, .int x9)] dX1_groundOf_160 rfl rfl ?_
  refine j_iload (pc := 162) M.1 dX1_groundOf_162 0 rfl ?_
  refine j_if_ne (pc := 164) M.1 170 dX1_groundOf_164 rfl (fun c1 => ?_) (fun c1 => ?_)
  · replace hf := o_neg c1 hf
    refine j_iload (pc := 170) M.1 dX1_groundOf_170 9 rfl ?_
    refine j_istore (pc := 172) M.1 [(7, .int x9), (8, .int s0), (0, .ref o), (1, .int x1), (2, .int x2), (3, .int x3), (4, .int x4), (5, .int x5), (6, .int x6), (9, .int x9)] dX1_groundOf_172 rfl rfl ?_
    refine j_aload_n (pc := 174) M.1 dX1_groundOf_174 2 rfl ?_
    refine jm_getA (pc := 175) M fa_43 dX1_groundOf_175 ?_
    refine j_iload (pc := 178) M.1 dX1_groundOf_178 9 rfl ?_
    obtain ⟨b1, hf⟩ := o_need hf
    refine jm_iald (pc := 180) M ax_11 b1 dX1_groundOf_180 ?_
    obtain ⟨y1, e1, hf⟩ := o_nx hf
    refine j_top e1 ?_
    refine j_istore (pc := 181) M.1 [(6, .int y1), (7, .int x9), (8, .int s0), (0, .ref o), (1, .int x1), (2, .int x2), (3, .int x3), (4, .int x4), (5, .int x5), (9, .int x9)] dX1_groundOf_181 rfl rfl ?_
    refine j_aload_n (pc := 183) M.1 dX1_groundOf_183 3 rfl ?_
    refine jm_getA (pc := 184) M fa_28 dX1_groundOf_184 ?_
    refine j_iload (pc := 187) M.1 dX1_groundOf_187 9 rfl ?_
    obtain ⟨b2, hf⟩ := o_need hf
    refine jm_iald (pc := 189) M ax_6 b2 dX1_groundOf_189 ?_
    obtain ⟨y2, e2, hf⟩ := o_nx hf
    refine j_top e2 ?_
    refine j_istore (pc := 190) M.1 [(10, .int y2), (6, .int y1), (7, .int x9), (8, .int s0), (0, .ref o), (1, .int x1), (2, .int x2), (3, .int x3), (4, .int x4), (5, .int x5), (9, .int x9)] dX1_groundOf_190 rfl rfl ?_
    refine j_iload (pc := 192) M.1 dX1_groundOf_192 9 rfl ?_
    refine j_if_ne (pc := 194) M.1 209 dX1_groundOf_194 rfl (fun c2 => ?_) (fun c2 => ?_)
    · replace hf := o_neg c2 hf
      refine j_sub [4, 5, 6, 7, 8, 9, 1, 2, 3, 0] (show lv_pick _ _ = [(0, .ref o), (1, .int x1), (2, .int x2), (3, .int x3), (4, .int x4), (5, .int x5), (6, .int y1), (7, .int x9), (8, .int s0), (10, .int y2)] from rfl) ?_
      exact km_groundOf_209 M x1 x2 x3 x4 x5 y1 x9 s0 y2 R hR σ hf
    · replace hf := o_pos c2 hf
      refine j_iload (pc := 197) M.1 dX1_groundOf_197 0 rfl ?_
      refine j_iconst (pc := 199) M.1 dX1_groundOf_199 kc_iconst_2 ?_
      refine j_icmp_eq (pc := 200) M.1 209 dX1_groundOf_200 rfl (fun c3 => ?_) (fun c3 => ?_)
      · replace hf := o_pos c3 hf
        refine j_sub [4, 5, 6, 7, 8, 9, 1, 2, 3, 0] (show lv_pick _ _ = [(0, .ref o), (1, .int x1), (2, .int x2), (3, .int x3), (4, .int x4), (5, .int x5), (6, .int y1), (7, .int x9), (8, .int s0), (10, .int y2)] from rfl) ?_
        exact km_groundOf_209 M x1 x2 x3 x4 x5 y1 x9 s0 y2 R hR σ hf
      · replace hf := o_neg c3 hf
        refine j_aload_n (pc := 203) M.1 dX1_groundOf_203 4 rfl ?_
        refine j_iload (pc := 204) M.1 dX1_groundOf_204 10 rfl ?_
        obtain ⟨σ1, e3, hf⟩ := o_nx hf
        refine jm_put (pc := 206) M fm_311 dX1_groundOf_206 e3 ?_
        refine j_sub [4, 5, 6, 7, 8, 9, 1, 2, 3, 0] (show lv_pick _ _ = [(0, .ref o), (1, .int x1), (2, .int x2), (3, .int x3), (4, .int x4), (5, .int x5), (6, .int y1), (7, .int x9), (8, .int s0), (10, .int y2)] from rfl) ?_
        exact km_groundOf_209 M x1 x2 x3 x4 x5 y1 x9 s0 y2 R hR σ1 hf
  · replace hf := o_pos c1 hf
    refine j_goto (pc := 167) M.1 17 dX1_groundOf_167 rfl ?_
    refine j_sub [1, 2, 3, 4, 5, 6, 7, 8, 0] (show lv_pick _ _ = [(0, .ref o), (1, .int x1), (2, .int x2), (3, .int x3), (4, .int x4), (5, .int x5), (6, .int x6), (7, .int x7), (8, .int s0)] from rfl) ?_
    have hy := hR _ hf
    exact hy
noncomputable def m_groundOf_B17 (F : Nat) (x1 x2 x3 x4 : Int32) (R : Int32 × Int32 × Int32 × Int32 × MS → Option (Int32 × MS)) (a : Int32 × Int32 × Int32 × Int32 × MS) : Option (Int32 × MS) :=
  if a.2.2.2.1 = 0 then (some (a.1, a.2.2.2.2)) else (lp (m_groundOf_B28 F (fun a1 => if a1.1 = ((-1)) then (m_groundOf_160 F R x1 x2 x3 x4 a.1 a.2.1 a.2.2.1 a1.1 0 a1.2.2) else (m_groundOf_160 F R x1 x2 x3 x4 a.1 a.2.1 a.2.2.1 a1.1 1 a1.2.2)) x1 x2 x3 x4 a.1 a.2.1 a.2.2.1) F ((-1), 0, a.2.2.2.2))
theorem km_groundOf_B17 (M : MC γ cX1_groundOf 12 G o 4 (some .int) (mQi G o res)) (x1 x2 x3 x4 : Int32) : ∀ R : Int32 × Int32 × Int32 × Int32 × MS → Option (Int32 × MS), (∀ a, R a = some res → J γ (MW G o a.2.2.2.2) 0 0 17 [(0, .ref o), (1, .int x1), (2, .int x2), (3, .int x3), (4, .int x4), (5, .int a.1), (6, .int a.2.1), (7, .int a.2.2.1), (8, .int a.2.2.2.1)] []) → ∀ a, m_groundOf_B17 F x1 x2 x3 x4 R a = some res → J γ (MW G o a.2.2.2.2) 0 0 17 [(0, .ref o), (1, .int x1), (2, .int x2), (3, .int x3), (4, .int x4), (5, .int a.1), (6, .int a.2.1), (7, .int a.2.2.1), (8, .int a.2.2.2.1)] [] := by
  intro R hR a hf
  unfold m_groundOf_B17 at hf
  refine j_iload (pc := 17) M.1 dX1_groundOf_17 8 rfl ?_
  refine j_if_eq (pc := 19) M.1 265 dX1_groundOf_19 rfl (fun c1 => ?_) (fun c1 => ?_)
  · replace hf := o_pos c1 hf
    refine j_iload (pc := 265) M.1 dX1_groundOf_265 5 rfl ?_
    exact jm_iret (pc := 267) M dX1_groundOf_267 hf
  · replace hf := o_neg c1 hf
    refine j_iconst (pc := 22) M.1 dX1_groundOf_22 kc_iconst_m1 ?_
    refine j_istore (pc := 23) M.1 [(9, .int ((-1))), (0, .ref o), (1, .int x1), (2, .int x2), (3, .int x3), (4, .int x4), (5, .int a.1), (6, .int a.2.1), (7, .int a.2.2.1), (8, .int a.2.2.2.1)] dX1_groundOf_23 rfl rfl ?_
    refine j_iconst (pc := 25) M.1 dX1_groundOf_25 kc_iconst_0 ?_
    refine j_istore (pc := 26) M.1 [(10, .int 0), (9, .int ((-1))), (0, .ref o), (1, .int x1), (2, .int x2), (3, .int x3), (4, .int x4), (5, .int a.1), (6, .int a.2.1), (7, .int a.2.2.1), (8, .int a.2.2.2.1)] dX1_groundOf_26 rfl rfl ?_
    refine j_sub [2, 3, 4, 5, 6, 7, 8, 9, 1, 0] (show lv_pick _ _ = [(0, .ref o), (1, .int x1), (2, .int x2), (3, .int x3), (4, .int x4), (5, .int a.1), (6, .int a.2.1), (7, .int a.2.2.1), (9, .int ((-1))), (10, .int 0)] from rfl) ?_
    refine lp_W (km_groundOf_B28 M x1 x2 x3 x4 a.1 a.2.1 a.2.2.1 _ ?_) F ((-1), 0, a.2.2.2.2) hf
    · intro a1 hf
      refine j_iload (pc := 149) M.1 dX1_groundOf_149 8 rfl ?_
      refine j_iconst (pc := 151) M.1 dX1_groundOf_151 kc_iconst_m1 ?_
      refine j_icmp_eq (pc := 152) M.1 159 dX1_groundOf_152 rfl (fun c2 => ?_) (fun c2 => ?_)
      · replace hf := o_pos c2 hf
        refine j_iconst (pc := 159) M.1 dX1_groundOf_159 kc_iconst_0 ?_
        exact km_groundOf_160 M x1 x2 x3 x4 a.1 a.2.1 a.2.2.1 a1.1 0 R hR a1.2.2 hf
      · replace hf := o_neg c2 hf
        refine j_iconst (pc := 155) M.1 dX1_groundOf_155 kc_iconst_1 ?_
        refine j_goto (pc := 156) M.1 160 dX1_groundOf_156 rfl ?_
        exact km_groundOf_160 M x1 x2 x3 x4 a.1 a.2.1 a.2.2.1 a1.1 1 R hR a1.2.2 hf
noncomputable def m_groundOf (F : Nat) (x1 x2 x3 x4 : Int32) (σ : MS) : Option (Int32 × MS) :=
  nx (sS σ 20 ((-1))) (fun σ1 => lp (m_groundOf_B17 F x1 x2 x3 x4) F (0, (-1), (-1), 1, σ1))
theorem met_groundOf {l : Launch} {G : gG} {o F : Nat} {x1 x2 x3 x4 : Int32} {σ : MS} {res : Int32 × MS} (hf : m_groundOf F x1 x2 x3 x4 σ = some res) : MetMi l G yX1_groundOf cX1_groundOf 12 (some .int) 4 o [.int x1, .int x2, .int x3, .int x4] σ res := by
  refine metMi_of (by decide) rfl rfl (fun γ hγ M => ?_)
  subst hγ
  show J γ (MW G o σ) 0 0 0 [(0, .ref o), (1, .int x1), (2, .int x2), (3, .int x3), (4, .int x4)] []
  unfold m_groundOf at hf
  refine j_iconst (pc := 0) M.1 dX1_groundOf_0 kc_iconst_0 ?_
  refine j_istore (pc := 1) M.1 [(5, .int 0), (0, .ref o), (1, .int x1), (2, .int x2), (3, .int x3), (4, .int x4)] dX1_groundOf_1 rfl rfl ?_
  refine j_aload_n (pc := 3) M.1 dX1_groundOf_3 1 rfl ?_
  refine j_iconst (pc := 4) M.1 dX1_groundOf_4 kc_iconst_m1 ?_
  obtain ⟨σ1, e1, hf⟩ := o_nx hf
  refine jm_put (pc := 5) M fm_311 dX1_groundOf_5 e1 ?_
  refine j_iconst (pc := 8) M.1 dX1_groundOf_8 kc_iconst_m1 ?_
  refine j_istore (pc := 9) M.1 [(6, .int ((-1))), (5, .int 0), (0, .ref o), (1, .int x1), (2, .int x2), (3, .int x3), (4, .int x4)] dX1_groundOf_9 rfl rfl ?_
  refine j_iconst (pc := 11) M.1 dX1_groundOf_11 kc_iconst_m1 ?_
  refine j_istore (pc := 12) M.1 [(7, .int ((-1))), (6, .int ((-1))), (5, .int 0), (0, .ref o), (1, .int x1), (2, .int x2), (3, .int x3), (4, .int x4)] dX1_groundOf_12 rfl rfl ?_
  refine j_iconst (pc := 14) M.1 dX1_groundOf_14 kc_iconst_1 ?_
  refine j_istore (pc := 15) M.1 [(8, .int 1), (7, .int ((-1))), (6, .int ((-1))), (5, .int 0), (0, .ref o), (1, .int x1), (2, .int x2), (3, .int x3), (4, .int x4)] dX1_groundOf_15 rfl rfl ?_
  refine j_sub [4, 5, 6, 7, 8, 3, 2, 1, 0] (show lv_pick _ _ = [(0, .ref o), (1, .int x1), (2, .int x2), (3, .int x3), (4, .int x4), (5, .int 0), (6, .int ((-1))), (7, .int ((-1))), (8, .int 1)] from rfl) ?_
  refine lp_W (km_groundOf_B17 M x1 x2 x3 x4) F (0, (-1), (-1), 1, σ1) hf
end
theorem dX1_isDug_0 : decode cX1_isDug 0 = .ok (.iconst 0, 1) := by decide +kernel
theorem dX1_isDug_1 : decode cX1_isDug 1 = .ok (.istore 5, 2) := by decide +kernel
theorem dX1_isDug_3 : decode cX1_isDug 3 = .ok (.iload 5, 2) := by decide +kernel
theorem dX1_isDug_5 : decode cX1_isDug 5 = .ok (.aload_n 0, 1) := by decide +kernel
theorem dX1_isDug_6 : decode cX1_isDug 6 = .ok (.getfield 285, 3) := by decide +kernel
theorem dX1_isDug_9 : decode cX1_isDug 9 = .ok (.if_icmp .ge 115, 3) := by decide +kernel
theorem dX1_isDug_12 : decode cX1_isDug 12 = .ok (.aload_n 0, 1) := by decide +kernel
theorem dX1_isDug_13 : decode cX1_isDug 13 = .ok (.iload 5, 2) := by decide +kernel
theorem dX1_isDug_15 : decode cX1_isDug 15 = .ok (.iload 4, 2) := by decide +kernel
theorem dX1_isDug_17 : decode cX1_isDug 17 = .ok (.invokevirtual 314, 3) := by decide +kernel
theorem dX1_isDug_20 : decode cX1_isDug 20 = .ok (.ifCond .eq 98, 3) := by decide +kernel
theorem dX1_isDug_23 : decode cX1_isDug 23 = .ok (.aload_n 0, 1) := by decide +kernel
theorem dX1_isDug_24 : decode cX1_isDug 24 = .ok (.getfield 28, 3) := by decide +kernel
theorem dX1_isDug_27 : decode cX1_isDug 27 = .ok (.iload 5, 2) := by decide +kernel
theorem dX1_isDug_29 : decode cX1_isDug 29 = .ok (.iaload, 1) := by decide +kernel
theorem dX1_isDug_30 : decode cX1_isDug 30 = .ok (.iconst 2, 1) := by decide +kernel
theorem dX1_isDug_31 : decode cX1_isDug 31 = .ok (.if_icmp .eq 87, 3) := by decide +kernel
theorem dX1_isDug_34 : decode cX1_isDug 34 = .ok (.aload_n 0, 1) := by decide +kernel
theorem dX1_isDug_35 : decode cX1_isDug 35 = .ok (.getfield 25, 3) := by decide +kernel
theorem dX1_isDug_38 : decode cX1_isDug 38 = .ok (.iload 5, 2) := by decide +kernel
theorem dX1_isDug_40 : decode cX1_isDug 40 = .ok (.iaload, 1) := by decide +kernel
theorem dX1_isDug_41 : decode cX1_isDug 41 = .ok (.aload_n 0, 1) := by decide +kernel
theorem dX1_isDug_42 : decode cX1_isDug 42 = .ok (.getfield 136, 3) := by decide +kernel
theorem dX1_isDug_45 : decode cX1_isDug 45 = .ok (.iload_n 1, 1) := by decide +kernel
theorem dX1_isDug_46 : decode cX1_isDug 46 = .ok (.iaload, 1) := by decide +kernel
theorem dX1_isDug_47 : decode cX1_isDug 47 = .ok (.if_icmp .ne 71, 3) := by decide +kernel
theorem dX1_isDug_50 : decode cX1_isDug 50 = .ok (.iload_n 3, 1) := by decide +kernel
theorem dX1_isDug_51 : decode cX1_isDug 51 = .ok (.aload_n 0, 1) := by decide +kernel
theorem dX1_isDug_52 : decode cX1_isDug 52 = .ok (.getfield 43, 3) := by decide +kernel
theorem dX1_isDug_55 : decode cX1_isDug 55 = .ok (.iload 5, 2) := by decide +kernel
theorem dX1_isDug_57 : decode cX1_isDug 57 = .ok (.iaload, 1) := by decide +kernel
theorem dX1_isDug_58 : decode cX1_isDug 58 = .ok (.aload_n 0, 1) := by decide +kernel
theorem dX1_isDug_59 : decode cX1_isDug 59 = .ok (.getfield 46, 3) := by decide +kernel
theorem dX1_isDug_62 : decode cX1_isDug 62 = .ok (.iload 5, 2) := by decide +kernel
theorem dX1_isDug_64 : decode cX1_isDug 64 = .ok (.iaload, 1) := by decide +kernel
theorem dX1_isDug_65 : decode cX1_isDug 65 = .ok (.invokestatic 278, 3) := by decide +kernel
theorem dX1_isDug_68 : decode cX1_isDug 68 = .ok (.ifCond .ne 6, 3) := by decide +kernel
theorem dX1_isDug_71 : decode cX1_isDug 71 = .ok (.goto 47, 3) := by decide +kernel
theorem dX1_isDug_74 : decode cX1_isDug 74 = .ok (.aload_n 0, 1) := by decide +kernel
theorem dX1_isDug_75 : decode cX1_isDug 75 = .ok (.getfield 37, 3) := by decide +kernel
theorem dX1_isDug_78 : decode cX1_isDug 78 = .ok (.iload 5, 2) := by decide +kernel
theorem dX1_isDug_80 : decode cX1_isDug 80 = .ok (.iaload, 1) := by decide +kernel
theorem dX1_isDug_81 : decode cX1_isDug 81 = .ok (.aload_n 0, 1) := by decide +kernel
theorem dX1_isDug_82 : decode cX1_isDug 82 = .ok (.getfield 151, 3) := by decide +kernel
theorem dX1_isDug_85 : decode cX1_isDug 85 = .ok (.iload_n 1, 1) := by decide +kernel
theorem dX1_isDug_86 : decode cX1_isDug 86 = .ok (.iaload, 1) := by decide +kernel
theorem dX1_isDug_87 : decode cX1_isDug 87 = .ok (.if_icmp .gt 31, 3) := by decide +kernel
theorem dX1_isDug_90 : decode cX1_isDug 90 = .ok (.aload_n 0, 1) := by decide +kernel
theorem dX1_isDug_91 : decode cX1_isDug 91 = .ok (.getfield 148, 3) := by decide +kernel
theorem dX1_isDug_94 : decode cX1_isDug 94 = .ok (.iload_n 1, 1) := by decide +kernel
theorem dX1_isDug_95 : decode cX1_isDug 95 = .ok (.iaload, 1) := by decide +kernel
theorem dX1_isDug_96 : decode cX1_isDug 96 = .ok (.aload_n 0, 1) := by decide +kernel
theorem dX1_isDug_97 : decode cX1_isDug 97 = .ok (.getfield 40, 3) := by decide +kernel
theorem dX1_isDug_100 : decode cX1_isDug 100 = .ok (.iload 5, 2) := by decide +kernel
theorem dX1_isDug_102 : decode cX1_isDug 102 = .ok (.iaload, 1) := by decide +kernel
theorem dX1_isDug_103 : decode cX1_isDug 103 = .ok (.if_icmp .gt 15, 3) := by decide +kernel
theorem dX1_isDug_106 : decode cX1_isDug 106 = .ok (.aload_n 0, 1) := by decide +kernel
theorem dX1_isDug_107 : decode cX1_isDug 107 = .ok (.iload 5, 2) := by decide +kernel
theorem dX1_isDug_109 : decode cX1_isDug 109 = .ok (.iload_n 2, 1) := by decide +kernel
theorem dX1_isDug_110 : decode cX1_isDug 110 = .ok (.invokevirtual 473, 3) := by decide +kernel
theorem dX1_isDug_113 : decode cX1_isDug 113 = .ok (.ifCond .eq 5, 3) := by decide +kernel
theorem dX1_isDug_116 : decode cX1_isDug 116 = .ok (.iconst 1, 1) := by decide +kernel
theorem dX1_isDug_117 : decode cX1_isDug 117 = .ok (.ireturn, 1) := by decide +kernel
theorem dX1_isDug_118 : decode cX1_isDug 118 = .ok (.iinc 5 1, 3) := by decide +kernel
theorem dX1_isDug_121 : decode cX1_isDug 121 = .ok (.goto (-118), 3) := by decide +kernel
theorem dX1_isDug_124 : decode cX1_isDug 124 = .ok (.iconst 0, 1) := by decide +kernel
theorem dX1_isDug_125 : decode cX1_isDug 125 = .ok (.ireturn, 1) := by decide +kernel
section
variable {res : Int32 × MS}
noncomputable def m_isDug_B3 (F : Nat) (x1 x2 x3 x4 : Int32) (R : Int32 × MS → Option (Int32 × MS)) (a : Int32 × MS) : Option (Int32 × MS) :=
  if (a.2.1 4) ≤ a.1 then (some (0, a.2)) else ((m_isKnown F a.1 x4 a.2).bind (fun r1 => if r1.1 = 0 then (R (a.1 + 1, r1.2)) else (if okI a.1 100 = true then if (r1.2.2 6 a.1.toNatClampNeg) = 2 then (R (a.1 + 1, r1.2)) else (if okI a.1 100 = true then if okI x1 150 = true then if (r1.2.2 5 a.1.toNatClampNeg) = (r1.2.2 40 x1.toNatClampNeg) then (if okI a.1 100 = true then if okI a.1 100 = true then (m_in F x3 (r1.2.2 11 a.1.toNatClampNeg) (r1.2.2 12 a.1.toNatClampNeg)).bind (fun r2 => if r2 = 0 then (R (a.1 + 1, r1.2)) else (if okI a.1 100 = true then if okI x1 150 = true then if (r1.2.2 45 x1.toNatClampNeg) < (r1.2.2 9 a.1.toNatClampNeg) then (R (a.1 + 1, r1.2)) else (if okI x1 150 = true then if okI a.1 100 = true then if (r1.2.2 10 a.1.toNatClampNeg) < (r1.2.2 44 x1.toNatClampNeg) then (R (a.1 + 1, r1.2)) else ((m_meets F a.1 x2 r1.2).bind (fun r3 => if r3.1 = 0 then (R (a.1 + 1, r3.2)) else (some (1, r3.2)))) else none else none) else none else none)) else none else none) else (R (a.1 + 1, r1.2)) else none else none) else none)))
theorem km_isDug_B3 (M : MC γ cX1_isDug 6 G o 4 (some .boolean) (mQi G o res)) (x1 x2 x3 x4 : Int32) : ∀ R : Int32 × MS → Option (Int32 × MS), (∀ a, R a = some res → J γ (MW G o a.2) 0 0 3 [(0, .ref o), (1, .int x1), (2, .int x2), (3, .int x3), (4, .int x4), (5, .int a.1)] []) → ∀ a, m_isDug_B3 F x1 x2 x3 x4 R a = some res → J γ (MW G o a.2) 0 0 3 [(0, .ref o), (1, .int x1), (2, .int x2), (3, .int x3), (4, .int x4), (5, .int a.1)] [] := by
  intro R hR a hf
  unfold m_isDug_B3 at hf
  refine j_iload (pc := 3) M.1 dX1_isDug_3 5 rfl ?_
  refine j_aload_n (pc := 5) M.1 dX1_isDug_5 0 rfl ?_
  refine jm_getS (pc := 6) M fm_285 dX1_isDug_6 ?_
  refine j_icmp_ge (pc := 9) M.1 124 dX1_isDug_9 rfl (fun c1 => ?_) (fun c1 => ?_)
  · replace hf := o_pos c1 hf
    refine j_iconst (pc := 124) M.1 dX1_isDug_124 kc_iconst_0 ?_
    exact jm_zret (pc := 125) M dX1_isDug_125 rfl hf
  · replace hf := o_neg c1 hf
    refine j_aload_n (pc := 12) M.1 dX1_isDug_12 0 rfl ?_
    refine j_iload (pc := 13) M.1 dX1_isDug_13 5 rfl ?_
    refine j_iload (pc := 15) M.1 dX1_isDug_15 4 rfl ?_
    obtain ⟨r1, g1, hf⟩ := o_bind hf
    refine jm_calli (pc := 17) (As := [.int a.1, .int x4]) (rest := []) M cm_314 (met_isKnown g1) rfl rfl rfl rfl dX1_isDug_17 ?_
    refine j_if_eq (pc := 20) M.1 118 dX1_isDug_20 rfl (fun c2 => ?_) (fun c2 => ?_)
    · replace hf := o_pos c2 hf
      refine j_iinc (pc := 118) M.1 [(5, .int (a.1 + 1)), (0, .ref o), (1, .int x1), (2, .int x2), (3, .int x3), (4, .int x4)] dX1_isDug_118 5 rfl (congrArg _ kc_iconst_1) rfl rfl ?_
      refine j_goto (pc := 121) M.1 3 dX1_isDug_121 rfl ?_
      refine j_sub [1, 2, 3, 4, 5, 0] (show lv_pick _ _ = [(0, .ref o), (1, .int x1), (2, .int x2), (3, .int x3), (4, .int x4), (5, .int (a.1 + 1))] from rfl) ?_
      have hy := hR _ hf
      exact hy
    · replace hf := o_neg c2 hf
      refine j_aload_n (pc := 23) M.1 dX1_isDug_23 0 rfl ?_
      refine jm_getA (pc := 24) M fa_28 dX1_isDug_24 ?_
      refine j_iload (pc := 27) M.1 dX1_isDug_27 5 rfl ?_
      obtain ⟨b1, hf⟩ := o_need hf
      refine jm_iald (pc := 29) M ax_6 b1 dX1_isDug_29 ?_
      refine j_iconst (pc := 30) M.1 dX1_isDug_30 kc_iconst_2 ?_
      refine j_icmp_eq (pc := 31) M.1 118 dX1_isDug_31 rfl (fun c3 => ?_) (fun c3 => ?_)
      · replace hf := o_pos c3 hf
        refine j_iinc (pc := 118) M.1 [(5, .int (a.1 + 1)), (0, .ref o), (1, .int x1), (2, .int x2), (3, .int x3), (4, .int x4)] dX1_isDug_118 5 rfl (congrArg _ kc_iconst_1) rfl rfl ?_
        refine j_goto (pc := 121) M.1 3 dX1_isDug_121 rfl ?_
        refine j_sub [1, 2, 3, 4, 5, 0] (show lv_pick _ _ = [(0, .ref o), (1, .int x1), (2, .int x2), (3, .int x3), (4, .int x4), (5, .int (a.1 + 1))] from rfl) ?_
        have hy := hR _ hf
        exact hy
      · replace hf := o_neg c3 hf
        refine j_aload_n (pc := 34) M.1 dX1_isDug_34 0 rfl ?_
        refine jm_getA (pc := 35) M fa_25 dX1_isDug_35 ?_
        refine j_iload (pc := 38) M.1 dX1_isDug_38 5 rfl ?_
        obtain ⟨b2, hf⟩ := o_need hf
        refine jm_iald (pc := 40) M ax_5 b2 dX1_isDug_40 ?_
        refine j_aload_n (pc := 41) M.1 dX1_isDug_41 0 rfl ?_
        refine jm_getA (pc := 42) M fa_136 dX1_isDug_42 ?_
        refine j_iload_n (pc := 45) M.1 dX1_isDug_45 1 rfl ?_
        obtain ⟨b3, hf⟩ := o_need hf
        refine jm_iald (pc := 46) M ax_40 b3 dX1_isDug_46 ?_
        refine j_icmp_ne (pc := 47) M.1 118 dX1_isDug_47 rfl (fun c4 => ?_) (fun c4 => ?_)
        · replace hf := o_neg c4 hf
          refine j_iinc (pc := 118) M.1 [(5, .int (a.1 + 1)), (0, .ref o), (1, .int x1), (2, .int x2), (3, .int x3), (4, .int x4)] dX1_isDug_118 5 rfl (congrArg _ kc_iconst_1) rfl rfl ?_
          refine j_goto (pc := 121) M.1 3 dX1_isDug_121 rfl ?_
          refine j_sub [1, 2, 3, 4, 5, 0] (show lv_pick _ _ = [(0, .ref o), (1, .int x1), (2, .int x2), (3, .int x3), (4, .int x4), (5, .int (a.1 + 1))] from rfl) ?_
          have hy := hR _ hf
          exact hy
        · replace hf := o_pos c4 hf
          refine j_iload_n (pc := 50) M.1 dX1_isDug_50 3 rfl ?_
          refine j_aload_n (pc := 51) M.1 dX1_isDug_51 0 rfl ?_
          refine jm_getA (pc := 52) M fa_43 dX1_isDug_52 ?_
          refine j_iload (pc := 55) M.1 dX1_isDug_55 5 rfl ?_
          obtain ⟨b4, hf⟩ := o_need hf
          refine jm_iald (pc := 57) M ax_11 b4 dX1_isDug_57 ?_
          refine j_aload_n (pc := 58) M.1 dX1_isDug_58 0 rfl ?_
          refine jm_getA (pc := 59) M fa_46 dX1_isDug_59 ?_
          refine j_iload (pc := 62) M.1 dX1_isDug_62 5 rfl ?_
          obtain ⟨b5, hf⟩ := o_need hf
          refine jm_iald (pc := 64) M ax_12 b5 dX1_isDug_64 ?_
          obtain ⟨r2, g2, hf⟩ := o_bind hf
          refine jm_calls (pc := 65) (As := [.int x3, .int (r1.2.2 11 a.1.toNatClampNeg), .int (r1.2.2 12 a.1.toNatClampNeg)]) (rest := []) M cs_X1_278 (met_in g2) rfl rfl rfl rfl dX1_isDug_65 ?_
          refine j_if_ne (pc := 68) M.1 74 dX1_isDug_68 rfl (fun c5 => ?_) (fun c5 => ?_)
          · replace hf := o_neg c5 hf
            refine j_aload_n (pc := 74) M.1 dX1_isDug_74 0 rfl ?_
            refine jm_getA (pc := 75) M fa_37 dX1_isDug_75 ?_
            refine j_iload (pc := 78) M.1 dX1_isDug_78 5 rfl ?_
            obtain ⟨b6, hf⟩ := o_need hf
            refine jm_iald (pc := 80) M ax_9 b6 dX1_isDug_80 ?_
            refine j_aload_n (pc := 81) M.1 dX1_isDug_81 0 rfl ?_
            refine jm_getA (pc := 82) M fa_151 dX1_isDug_82 ?_
            refine j_iload_n (pc := 85) M.1 dX1_isDug_85 1 rfl ?_
            obtain ⟨b7, hf⟩ := o_need hf
            refine jm_iald (pc := 86) M ax_45 b7 dX1_isDug_86 ?_
            refine j_icmp_gt (pc := 87) M.1 118 dX1_isDug_87 rfl (fun c6 => ?_) (fun c6 => ?_)
            · replace hf := o_pos c6 hf
              refine j_iinc (pc := 118) M.1 [(5, .int (a.1 + 1)), (0, .ref o), (1, .int x1), (2, .int x2), (3, .int x3), (4, .int x4)] dX1_isDug_118 5 rfl (congrArg _ kc_iconst_1) rfl rfl ?_
              refine j_goto (pc := 121) M.1 3 dX1_isDug_121 rfl ?_
              refine j_sub [1, 2, 3, 4, 5, 0] (show lv_pick _ _ = [(0, .ref o), (1, .int x1), (2, .int x2), (3, .int x3), (4, .int x4), (5, .int (a.1 + 1))] from rfl) ?_
              have hy := hR _ hf
              exact hy
            · replace hf := o_neg c6 hf
              refine j_aload_n (pc := 90) M.1 dX1_isDug_90 0 rfl ?_
              refine jm_getA (pc := 91) M fa_148 dX1_isDug_91 ?_
              refine j_iload_n (pc := 94) M.1 dX1_isDug_94 1 rfl ?_
              obtain ⟨b8, hf⟩ := o_need hf
              refine jm_iald (pc := 95) M ax_44 b8 dX1_isDug_95 ?_
              refine j_aload_n (pc := 96) M.1 dX1_isDug_96 0 rfl ?_
              refine jm_getA (pc := 97) M fa_40 dX1_isDug_97 ?_
              refine j_iload (pc := 100) M.1 dX1_isDug_100 5 rfl ?_
              obtain ⟨b9, hf⟩ := o_need hf
              refine jm_iald (pc := 102) M ax_10 b9 dX1_isDug_102 ?_
              refine j_icmp_gt (pc := 103) M.1 118 dX1_isDug_103 rfl (fun c7 => ?_) (fun c7 => ?_)
              · replace hf := o_pos c7 hf
                refine j_iinc (pc := 118) M.1 [(5, .int (a.1 + 1)), (0, .ref o), (1, .int x1), (2, .int x2), (3, .int x3), (4, .int x4)] dX1_isDug_118 5 rfl (congrArg _ kc_iconst_1) rfl rfl ?_
                refine j_goto (pc := 121) M.1 3 dX1_isDug_121 rfl ?_
                refine j_sub [1, 2, 3, 4, 5, 0] (show lv_pick _ _ = [(0, .ref o), (1, .int x1), (2, .int x2), (3, .int x3), (4, .int x4), (5, .int (a.1 + 1))] from rfl) ?_
                have hy := hR _ hf
                exact hy
              · replace hf := o_neg c7 hf
                refine j_aload_n (pc := 106) M.1 dX1_isDug_106 0 rfl ?_
                refine j_iload (pc := 107) M.1 dX1_isDug_107 5 rfl ?_
                refine j_iload_n (pc := 109) M.1 dX1_isDug_109 2 rfl ?_
                obtain ⟨r3, g3, hf⟩ := o_bind hf
                refine jm_calli (pc := 110) (As := [.int a.1, .int x2]) (rest := []) M cm_473 (met_meets g3) rfl rfl rfl rfl dX1_isDug_110 ?_
                refine j_if_eq (pc := 113) M.1 118 dX1_isDug_113 rfl (fun c8 => ?_) (fun c8 => ?_)
                · replace hf := o_pos c8 hf
                  refine j_iinc (pc := 118) M.1 [(5, .int (a.1 + 1)), (0, .ref o), (1, .int x1), (2, .int x2), (3, .int x3), (4, .int x4)] dX1_isDug_118 5 rfl (congrArg _ kc_iconst_1) rfl rfl ?_
                  refine j_goto (pc := 121) M.1 3 dX1_isDug_121 rfl ?_
                  refine j_sub [1, 2, 3, 4, 5, 0] (show lv_pick _ _ = [(0, .ref o), (1, .int x1), (2, .int x2), (3, .int x3), (4, .int x4), (5, .int (a.1 + 1))] from rfl) ?_
                  have hy := hR _ hf
                  exact hy
                · replace hf := o_neg c8 hf
                  refine j_iconst (pc := 116) M.1 dX1_isDug_116 kc_iconst_1 ?_
                  exact jm_zret (pc := 117) M dX1_isDug_117 rfl hf
          · replace hf := o_pos c5 hf
            refine j_goto (pc := 71) M.1 118 dX1_isDug_71 rfl ?_
            refine j_iinc (pc := 118) M.1 [(5, .int (a.1 + 1)), (0, .ref o), (1, .int x1), (2, .int x2), (3, .int x3), (4, .int x4)] dX1_isDug_118 5 rfl (congrArg _ kc_iconst_1) rfl rfl ?_
            refine j_goto (pc := 121) M.1 3 dX1_isDug_121 rfl ?_
            refine j_sub [1, 2, 3, 4, 5, 0] (show lv_pick _ _ = [(0, .ref o), (1, .int x1), (2, .int x2), (3, .int x3), (4, .int x4), (5, .int (a.1 + 1))] from rfl) ?_
            have hy := hR _ hf
            exact hy
noncomputable def m_isDug (F : Nat) (x1 x2 x3 x4 : Int32) (σ : MS) : Option (Int32 × MS) :=
  lp (m_isDug_B3 F x1 x2 x3 x4) F (0, σ)
theorem met_isDug {l : Launch} {G : gG} {o F : Nat} {x1 x2 x3 x4 : Int32} {σ : MS} {res : Int32 × MS} (hf : m_isDug F x1 x2 x3 x4 σ = some res) : MetMi l G yX1_isDug cX1_isDug 6 (some .boolean) 4 o [.int x1, .int x2, .int x3, .int x4] σ res := by
  refine metMi_of (by decide) rfl rfl (fun γ hγ M => ?_)
  subst hγ
  show J γ (MW G o σ) 0 0 0 [(0, .ref o), (1, .int x1), (2, .int x2), (3, .int x3), (4, .int x4)] []
  unfold m_isDug at hf
  refine j_iconst (pc := 0) M.1 dX1_isDug_0 kc_iconst_0 ?_
  refine j_istore (pc := 1) M.1 [(5, .int 0), (0, .ref o), (1, .int x1), (2, .int x2), (3, .int x3), (4, .int x4)] dX1_isDug_1 rfl rfl ?_
  refine j_sub [1, 2, 3, 4, 5, 0] (show lv_pick _ _ = [(0, .ref o), (1, .int x1), (2, .int x2), (3, .int x3), (4, .int x4), (5, .int 0)] from rfl) ?_
  refine lp_W (km_isDug_B3 M x1 x2 x3 x4) F (0, σ) hf
end
