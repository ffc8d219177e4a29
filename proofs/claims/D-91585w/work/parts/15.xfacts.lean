set_option maxRecDepth 100000
theorem xcl_2 : xCl 2 RX2 TX2 4 tyX2 := ⟨rfl, in_X2, tyX2_ok, nmX2⟩
theorem xcl_3 : xCl 3 RX3 TX3 3 tyX3 := ⟨rfl, in_X3, tyX3_ok, nmX3⟩
theorem xcl_5 : xCl 5 RX5 TX5 9 tyX5 := ⟨rfl, in_X5, tyX5_ok, nmX5⟩
theorem xcl_6 : xCl 6 RX6 TX6 9 tyX6 := ⟨rfl, in_X6, tyX6_ok, nmX6⟩
theorem xcl_7 : xCl 7 RX7 TX7 9 tyX7 := ⟨rfl, in_X7, tyX7_ok, nmX7⟩
theorem xcl_8 : xCl 8 RX8 TX8 5 tyX8 := ⟨rfl, in_X8, tyX8_ok, nmX8⟩
theorem xcl_9 : xCl 9 RX9 TX9 10 tyX9 := ⟨rfl, in_X9, tyX9_ok, nmX9⟩
theorem xcl_10 : xCl 10 RX10 TX10 4 tyX10 := ⟨rfl, in_X10, tyX10_ok, nmX10⟩
theorem xcl_12 : xCl 12 RX12 TX12 3 tyX12 := ⟨rfl, in_X12, tyX12_ok, nmX12⟩
theorem xcl_13 : xCl 13 RX13 TX13 1 tyX13 := ⟨rfl, in_X13, tyX13_ok, nmX13⟩
theorem xcl_15 : xCl 15 RX15 TX15 3 tyX15 := ⟨rfl, in_X15, tyX15_ok, nmX15⟩
theorem xcl_16 : xCl 16 RX16 TX16 1 tyX16 := ⟨rfl, in_X16, tyX16_ok, nmX16⟩
theorem xcl_17 : xCl 17 RX17 TX17 1 tyX17 := ⟨rfl, in_X17, tyX17_ok, nmX17⟩
theorem xcl_18 : xCl 18 RX18 TX18 3 tyX18 := ⟨rfl, in_X18, tyX18_ok, nmX18⟩
theorem xcl_19 : xCl 19 RX19 TX19 6 tyX19 := ⟨rfl, in_X19, tyX19_ok, nmX19⟩
theorem xcl_20 : xCl 20 RX20 TX20 9 tyX20 := ⟨rfl, in_X20, tyX20_ok, nmX20⟩
theorem xcl_21 : xCl 21 RX21 TX21 4 tyX21 := ⟨rfl, in_X21, tyX21_ok, nmX21⟩
theorem xcl_22 : xCl 22 RX22 TX22 2 tyX22 := ⟨rfl, in_X22, tyX22_ok, nmX22⟩
theorem xcl_23 : xCl 23 RX23 TX23 6 tyX23 := ⟨rfl, in_X23, tyX23_ok, nmX23⟩
theorem xcl_24 : xCl 24 RX24 TX24 4 tyX24 := ⟨rfl, in_X24, tyX24_ok, nmX24⟩
theorem xcl_25 : xCl 25 RX25 TX25 3 tyX25 := ⟨rfl, in_X25, tyX25_ok, nmX25⟩
theorem xax_0 : xAf 0 3 30 := ⟨rfl, rfl, rfl⟩
theorem xax_1 : xAf 1 4 100 := ⟨rfl, rfl, rfl⟩
theorem xax_19 : xAf 19 0 8 := ⟨rfl, rfl, rfl⟩
theorem xax_2 : xAf 2 4 100 := ⟨rfl, rfl, rfl⟩
theorem xax_20 : xAf 20 0 256 := ⟨rfl, rfl, rfl⟩
theorem xax_21 : xAf 21 10 30 := ⟨rfl, rfl, rfl⟩
theorem xax_22 : xAf 22 11 100 := ⟨rfl, rfl, rfl⟩
theorem xax_23 : xAf 23 0 8 := ⟨rfl, rfl, rfl⟩
theorem xax_24 : xAf 24 0 8 := ⟨rfl, rfl, rfl⟩
theorem xax_25 : xAf 25 0 8 := ⟨rfl, rfl, rfl⟩
theorem xax_26 : xAf 26 0 8 := ⟨rfl, rfl, rfl⟩
theorem xax_27 : xAf 27 0 40 := ⟨rfl, rfl, rfl⟩
theorem xax_28 : xAf 28 0 40 := ⟨rfl, rfl, rfl⟩
theorem xax_29 : xAf 29 0 40 := ⟨rfl, rfl, rfl⟩
theorem xax_3 : xAf 3 0 100 := ⟨rfl, rfl, rfl⟩
theorem xax_30 : xAf 30 0 40 := ⟨rfl, rfl, rfl⟩
theorem xax_31 : xAf 31 0 100 := ⟨rfl, rfl, rfl⟩
theorem xax_32 : xAf 32 0 100 := ⟨rfl, rfl, rfl⟩
theorem xax_33 : xAf 33 12 100 := ⟨rfl, rfl, rfl⟩
theorem xax_34 : xAf 34 13 9 := ⟨rfl, rfl, rfl⟩
theorem xax_4 : xAf 4 1 400 := ⟨rfl, rfl, rfl⟩
theorem xax_5 : xAf 5 5 200 := ⟨rfl, rfl, rfl⟩
theorem xax_6 : xAf 6 6 20 := ⟨rfl, rfl, rfl⟩
theorem xax_7 : xAf 7 7 150 := ⟨rfl, rfl, rfl⟩
theorem xax_8 : xAf 8 8 60 := ⟨rfl, rfl, rfl⟩
theorem xax_9 : xAf 9 0 100 := ⟨rfl, rfl, rfl⟩
theorem xfa_101 : xFa 101 32 25 := ⟨q197, rfl, rfl⟩
theorem xfa_104 : xFa 104 33 26 := ⟨q198, rfl, rfl⟩
theorem xfa_107 : xFa 107 36 27 := ⟨q201, rfl, rfl⟩
theorem xfa_110 : xFa 110 37 28 := ⟨q202, rfl, rfl⟩
theorem xfa_113 : xFa 113 38 29 := ⟨q203, rfl, rfl⟩
theorem xfa_116 : xFa 116 39 30 := ⟨q204, rfl, rfl⟩
theorem xfa_119 : xFa 119 40 31 := ⟨q205, rfl, rfl⟩
theorem xfa_122 : xFa 122 41 32 := ⟨q206, rfl, rfl⟩
theorem xfa_127 : xFa 127 43 33 := ⟨q208, rfl, rfl⟩
theorem xfa_133 : xFa 133 45 34 := ⟨q210, rfl, rfl⟩
theorem xfa_24 : xFa 24 6 0 := ⟨q171, rfl, rfl⟩
theorem xfa_30 : xFa 30 7 1 := ⟨q172, rfl, rfl⟩
theorem xfa_34 : xFa 34 8 2 := ⟨q173, rfl, rfl⟩
theorem xfa_37 : xFa 37 9 3 := ⟨q174, rfl, rfl⟩
theorem xfa_41 : xFa 41 10 4 := ⟨q175, rfl, rfl⟩
theorem xfa_47 : xFa 47 13 5 := ⟨q178, rfl, rfl⟩
theorem xfa_53 : xFa 53 15 6 := ⟨q180, rfl, rfl⟩
theorem xfa_59 : xFa 59 17 7 := ⟨q182, rfl, rfl⟩
theorem xfa_65 : xFa 65 19 8 := ⟨q184, rfl, rfl⟩
theorem xfa_69 : xFa 69 20 9 := ⟨q185, rfl, rfl⟩
theorem xfa_74 : xFa 74 23 10 := ⟨q188, rfl, rfl⟩
theorem xfa_77 : xFa 77 24 19 := ⟨q189, rfl, rfl⟩
theorem xfa_80 : xFa 80 25 20 := ⟨q190, rfl, rfl⟩
theorem xfa_85 : xFa 85 28 21 := ⟨q193, rfl, rfl⟩
theorem xfa_91 : xFa 91 29 22 := ⟨q194, rfl, rfl⟩
theorem xfa_95 : xFa 95 30 23 := ⟨q195, rfl, rfl⟩
theorem xfa_98 : xFa 98 31 24 := ⟨q196, rfl, rfl⟩
theorem xfs_13 : xFs 13 0 := ⟨q165, rfl, rfl, by decide, rfl, rfl⟩
theorem xfs_141 : xFs 141 3 := ⟨q168, rfl, rfl, by decide, rfl, rfl⟩
theorem xfs_148 : xFs 148 4 := ⟨q169, rfl, rfl, by decide, rfl, rfl⟩
theorem xfs_151 : xFs 151 35 := ⟨q200, rfl, rfl, by decide, rfl, rfl⟩
theorem xfs_158 : xFs 158 2 := ⟨q167, rfl, rfl, by decide, rfl, rfl⟩
theorem xfs_19 : xFs 19 1 := ⟨q166, rfl, rfl, by decide, rfl, rfl⟩
theorem xfs_243 : xFs 243 12 := ⟨q177, rfl, rfl, by decide, rfl, rfl⟩
theorem xfs_264 : xFs 264 5 := ⟨q170, rfl, rfl, by decide, rfl, rfl⟩
theorem xfs_271 : xFs 271 14 := ⟨q179, rfl, rfl, by decide, rfl, rfl⟩
theorem xfs_328 : xFs 328 16 := ⟨q181, rfl, rfl, by decide, rfl, rfl⟩
theorem xfs_378 : xFs 378 18 := ⟨q183, rfl, rfl, by decide, rfl, rfl⟩
theorem xfs_400 : xFs 400 21 := ⟨q186, rfl, rfl, by decide, rfl, rfl⟩
theorem xfs_416 : xFs 416 22 := ⟨q187, rfl, rfl, by decide, rfl, rfl⟩
theorem xfs_430 : xFs 430 26 := ⟨q191, rfl, rfl, by decide, rfl, rfl⟩
theorem xfs_436 : xFs 436 27 := ⟨q192, rfl, rfl, by decide, rfl, rfl⟩
theorem xfs_461 : xFs 461 34 := ⟨q199, rfl, rfl, by decide, rfl, rfl⟩
theorem xfs_473 : xFs 473 42 := ⟨q207, rfl, rfl, by decide, rfl, rfl⟩
theorem xfs_483 : xFs 483 44 := ⟨q209, rfl, rfl, by decide, rfl, rfl⟩
theorem xrt_10 : xRt 10 := ⟨by decide, .object "AshCity$Wall", rfl, fun _ => rfl⟩
theorem xrt_11 : xRt 11 := ⟨by decide, .object "AshCity$Drawing", rfl, fun _ => rfl⟩
theorem xrt_12 : xRt 12 := ⟨by decide, .object "AshCity$Sign", rfl, fun _ => rfl⟩
theorem xrt_13 : xRt 13 := ⟨by decide, .object "AshCity$Work", rfl, fun _ => rfl⟩
theorem xrt_14 : xRt 14 := ⟨by decide, .object "AshCity$Clause", rfl, fun _ => rfl⟩
theorem xrt_3 : xRt 3 := ⟨by decide, .object "AshCity$Place", rfl, fun _ => rfl⟩
theorem xrt_4 : xRt 4 := ⟨by decide, .object "AshCity$Dig", rfl, fun _ => rfl⟩
theorem xrt_5 : xRt 5 := ⟨by decide, .object "AshCity$Meaning", rfl, fun _ => rfl⟩
theorem xrt_6 : xRt 6 := ⟨by decide, .object "AshCity$Rules", rfl, fun _ => rfl⟩
theorem xrt_7 : xRt 7 := ⟨by decide, .object "AshCity$Find", rfl, fun _ => rfl⟩
theorem xrt_8 : xRt 8 := ⟨by decide, .object "AshCity$Thing", rfl, fun _ => rfl⟩
theorem kc_bipush_16 : (Int8.ofInt 16).toInt32 = 16 := by decide
theorem kc_bipush_24 : (Int8.ofInt 24).toInt32 = 24 := by decide
theorem kc_bipush_63 : (Int8.ofInt 63).toInt32 = 63 := by decide
theorem kc_iconst_m8 : Int32.ofInt (-8) = (-8) := by decide
theorem kc_sipush_10001 : (Int16.ofInt 10001).toInt32 = 10001 := by decide
theorem kc_sipush_256 : (Int16.ofInt 256).toInt32 = 256 := by decide
def al_worth : List (List Nat × MethodName × ByteArray × Nat) := [([16], yX16_worth, cX16_worth, 2), ([17], yX17_worth, cX17_worth, 2), ([15], yX15_worth, cX15_worth, 4)]
def al_holds : List (List Nat × MethodName × ByteArray × Nat) := [([18], yX18_holds, cX18_holds, 5), ([13], yX13_holds, cX13_holds, 3), ([12], yX12_holds, cX12_holds, 4)]
def al_makes : List (List Nat × MethodName × ByteArray × Nat) := [([5], yX5_makes, cX5_makes, 2), ([6], yX6_makes, cX6_makes, 2), ([7], yX7_makes, cX7_makes, 2)]
def al_kind : List (List Nat × MethodName × ByteArray × Nat) := [([5], yX5_kind, cX5_kind, 1), ([6], yX6_kind, cX6_kind, 1), ([7], yX7_kind, cX7_kind, 1)]
def al_finds : List (List Nat × MethodName × ByteArray × Nat) := [([5, 6], yX4_finds, cX4_finds, 1), ([7], yX7_finds, cX7_finds, 1)]
def MetW_worth (l : Launch) (G : gG) (o B d : Nat) (W : Nat → Nat → XS → XR Int32) : Prop := ∀ (a q : Nat) (τ : XS) (r : Int32 × XS × Nat × Nat), W a q τ = some r → MetV l G o B d (some .int) al_worth a [.ref q] τ r
def MetW_holds (l : Launch) (G : gG) (o B d : Nat) (W : Nat → Nat → XS → XR Int32) : Prop := ∀ (a q : Nat) (τ : XS) (r : Int32 × XS × Nat × Nat), W a q τ = some r → MetV l G o B d (some .int) al_holds a [.ref q] τ r
def MetW_sum (l : Launch) (G : gG) (o B d : Nat) (W : Nat → XS → XR (Option Nat)) : Prop := ∀ (a : Nat) (τ : XS) (r : Option Nat × XS × Nat × Nat), W a τ = some r → MetX l G o B yX9_sum cX9_sum 4 (some (.object "AshCity$Sum")) d [.ref a] τ (xQq G o B r.1 r.2.1) r.2.2.1 r.2.2.2
def MetW_product (l : Launch) (G : gG) (o B d : Nat) (W : Nat → XS → XR (Option Nat)) : Prop := ∀ (a : Nat) (τ : XS) (r : Option Nat × XS × Nat × Nat), W a τ = some r → MetX l G o B yX9_product cX9_product 4 (some (.object "AshCity$Sum")) d [.ref a] τ (xQq G o B r.1 r.2.1) r.2.2.1 r.2.2.2
def MetW_factor (l : Launch) (G : gG) (o B d : Nat) (W : Nat → XS → XR (Option Nat)) : Prop := ∀ (a : Nat) (τ : XS) (r : Option Nat × XS × Nat × Nat), W a τ = some r → MetX l G o B yX9_factor cX9_factor 3 (some (.object "AshCity$Sum")) d [.ref a] τ (xQq G o B r.1 r.2.1) r.2.2.1 r.2.2.2
def MetW_piece (l : Launch) (G : gG) (o B d : Nat) (W : Nat → XS → XR (Option Nat)) : Prop := ∀ (a : Nat) (τ : XS) (r : Option Nat × XS × Nat × Nat), W a τ = some r → MetX l G o B yX9_piece cX9_piece 4 (some (.object "AshCity$Condition")) d [.ref a] τ (xQq G o B r.1 r.2.1) r.2.2.1 r.2.2.2
def MetW_pieces (l : Launch) (G : gG) (o B d : Nat) (W : Nat → XS → XR (Option Nat)) : Prop := ∀ (a : Nat) (τ : XS) (r : Option Nat × XS × Nat × Nat), W a τ = some r → MetX l G o B yX9_pieces cX9_pieces 3 (some (.object "AshCity$Condition")) d [.ref a] τ (xQq G o B r.1 r.2.1) r.2.2.1 r.2.2.2
def MetW_condition (l : Launch) (G : gG) (o B d : Nat) (W : Nat → XS → XR (Option Nat)) : Prop := ∀ (a : Nat) (τ : XS) (r : Option Nat × XS × Nat × Nat), W a τ = some r → MetX l G o B yX9_condition cX9_condition 3 (some (.object "AshCity$Condition")) d [.ref a] τ (xQq G o B r.1 r.2.1) r.2.2.1 r.2.2.2
theorem xcs_X0_144 : sCw RX0 144 yX0_within cX0_within 3 (some .boolean) 3 := ⟨lw_S q310 q311 q102 q312, by decide +kernel, by decide⟩
theorem xcs_X0_137 : sCw RX0 137 yX0_in cX0_in 2 (some .boolean) 2 := ⟨lw_S q320 q321 q102 q322, by decide +kernel, by decide⟩
theorem xcs_X0_154 : sCw RX0 154 yX0_isWeek cX0_isWeek 1 (some .boolean) 1 := ⟨lw_S q317 q318 q102 q319, by decide +kernel, by decide⟩
theorem xfw_X3_7 : ∀ c ∈ [3], ∃ (C : String) (T : u_T) (N : Nat) (ty : Nat → FieldType), xCl c C T N ty ∧ 0 < N ∧ T 0 = (RX3, "number", "I", true) ∧ ty 0 = .int := by
  intro c hc
  simp only [List.mem_cons, List.not_mem_nil, or_false] at hc
  rcases hc with rfl
  · exact ⟨_, _, _, _, xcl_3, by decide, rfl, rfl⟩
theorem xfw_X3_13 : ∀ c ∈ [3], ∃ (C : String) (T : u_T) (N : Nat) (ty : Nat → FieldType), xCl c C T N ty ∧ 1 < N ∧ T 1 = (RX3, "kind", "I", true) ∧ ty 1 = .int := by
  intro c hc
  simp only [List.mem_cons, List.not_mem_nil, or_false] at hc
  rcases hc with rfl
  · exact ⟨_, _, _, _, xcl_3, by decide, rfl, rfl⟩
theorem xfw_X3_16 : ∀ c ∈ [3], ∃ (C : String) (T : u_T) (N : Nat) (ty : Nat → FieldType), xCl c C T N ty ∧ 2 < N ∧ T 2 = (RX3, "where", "LAshCity$Rectangle;", true) ∧ ty 2 = (.object "AshCity$Rectangle") := by
  intro c hc
  simp only [List.mem_cons, List.not_mem_nil, or_false] at hc
  rcases hc with rfl
  · exact ⟨_, _, _, _, xcl_3, by decide, rfl, rfl⟩
theorem xfl_X2_7 : xFl RX2 7 [2] 0 .int true := by
  refine ⟨"AshCity$Rectangle", "left", "I", Or.inl q341, fun c hc => ?_⟩
  simp only [List.mem_cons, List.not_mem_nil, or_false] at hc
  rcases hc with rfl
  · exact ⟨_, _, _, _, xcl_2, by decide, rfl, rfl⟩
theorem xfl_X2_16 : xFl RX2 16 [2] 2 .int true := by
  refine ⟨"AshCity$Rectangle", "right", "I", Or.inl q343, fun c hc => ?_⟩
  simp only [List.mem_cons, List.not_mem_nil, or_false] at hc
  rcases hc with rfl
  · exact ⟨_, _, _, _, xcl_2, by decide, rfl, rfl⟩
theorem xfl_X2_13 : xFl RX2 13 [2] 1 .int true := by
  refine ⟨"AshCity$Rectangle", "top", "I", Or.inl q342, fun c hc => ?_⟩
  simp only [List.mem_cons, List.not_mem_nil, or_false] at hc
  rcases hc with rfl
  · exact ⟨_, _, _, _, xcl_2, by decide, rfl, rfl⟩
theorem xfl_X2_19 : xFl RX2 19 [2] 3 .int true := by
  refine ⟨"AshCity$Rectangle", "bottom", "I", Or.inl q344, fun c hc => ?_⟩
  simp only [List.mem_cons, List.not_mem_nil, or_false] at hc
  rcases hc with rfl
  · exact ⟨_, _, _, _, xcl_2, by decide, rfl, rfl⟩
theorem xfw_X2_7 : ∀ c ∈ [2], ∃ (C : String) (T : u_T) (N : Nat) (ty : Nat → FieldType), xCl c C T N ty ∧ 0 < N ∧ T 0 = (RX2, "left", "I", true) ∧ ty 0 = .int := by
  intro c hc
  simp only [List.mem_cons, List.not_mem_nil, or_false] at hc
  rcases hc with rfl
  · exact ⟨_, _, _, _, xcl_2, by decide, rfl, rfl⟩
theorem xfw_X2_13 : ∀ c ∈ [2], ∃ (C : String) (T : u_T) (N : Nat) (ty : Nat → FieldType), xCl c C T N ty ∧ 1 < N ∧ T 1 = (RX2, "top", "I", true) ∧ ty 1 = .int := by
  intro c hc
  simp only [List.mem_cons, List.not_mem_nil, or_false] at hc
  rcases hc with rfl
  · exact ⟨_, _, _, _, xcl_2, by decide, rfl, rfl⟩
theorem xfw_X2_16 : ∀ c ∈ [2], ∃ (C : String) (T : u_T) (N : Nat) (ty : Nat → FieldType), xCl c C T N ty ∧ 2 < N ∧ T 2 = (RX2, "right", "I", true) ∧ ty 2 = .int := by
  intro c hc
  simp only [List.mem_cons, List.not_mem_nil, or_false] at hc
  rcases hc with rfl
  · exact ⟨_, _, _, _, xcl_2, by decide, rfl, rfl⟩
theorem xfw_X2_19 : ∀ c ∈ [2], ∃ (C : String) (T : u_T) (N : Nat) (ty : Nat → FieldType), xCl c C T N ty ∧ 3 < N ∧ T 3 = (RX2, "bottom", "I", true) ∧ ty 3 = .int := by
  intro c hc
  simp only [List.mem_cons, List.not_mem_nil, or_false] at hc
  rcases hc with rfl
  · exact ⟨_, _, _, _, xcl_2, by decide, rfl, rfl⟩
theorem xcw_X0_161 : xCw RX0 161 0 RX0 yX0_isCell cX0_isCell 2 (some .boolean) 1 := ⟨⟨_, rfl, rfl⟩, lw_V q331 q333 qs1 q102 q334, by decide +kernel, by decide⟩
theorem xnew_X0_164 : xNew RX0 164 2 RX2 TX2 4 tyX2 := ⟨q335, q336, q104, xcl_2⟩
theorem xci_X0_166 : xCi RX0 166 yX2_init cX2_init 5 4 := ⟨q339, q104, q337, q338, rfl, by decide +kernel, by decide⟩
theorem xcw_X0_169 : xCw RX0 169 0 RX0 yX0_between cX0_between 3 (some (.object "AshCity$Rectangle")) 2 := ⟨⟨_, rfl, rfl⟩, lw_V q327 q329 qs0 q102 q330, by decide +kernel, by decide⟩
theorem xfl_X0_173 : xFl RX0 173 [3] 2 (.object "AshCity$Rectangle") true := by
  refine ⟨"AshCity$Place", "where", "LAshCity$Rectangle;", Or.inr n368, fun c hc => ?_⟩
  simp only [List.mem_cons, List.not_mem_nil, or_false] at hc
  rcases hc with rfl
  · exact ⟨_, _, _, _, xcl_3, by decide, rfl, rfl⟩
theorem xcw_X0_177 : xCw RX0 177 2 RX2 yX2_meets cX2_meets 2 (some .boolean) 1 := ⟨⟨_, rfl, rfl⟩, lw_V q354 q355 q356 q104 q357, by decide +kernel, by decide⟩
theorem xnew_X0_22 : xNew RX0 22 3 RX3 TX3 3 tyX3 := ⟨q143, q358, q105, xcl_3⟩
theorem xci_X0_181 : xCi RX0 181 yX3_init cX3_init 4 3 := ⟨q361, q105, q359, q360, rfl, by decide +kernel, by decide⟩
theorem xel_3 : xEl 3 [3] := by
  refine ⟨"AshCity$Place", fun _ => rfl, fun c hc => ?_⟩
  simp only [List.mem_cons, List.not_mem_nil, or_false] at hc
  rcases hc with rfl
  · exact ⟨_, _, _, _, xcl_3, Or.inl rfl⟩
theorem xcn_X2_22 : sCn RX2 22 yX0_within cX0_within 3 (some .boolean) 3 := ⟨q312, q102, n384, q311, by decide +kernel, by decide⟩
theorem xcw_X0_184 : xCw RX0 184 2 RX2 yX2_has cX2_has 3 (some .boolean) 2 := ⟨⟨_, rfl, rfl⟩, lw_V q380 q381 q382 q104 q383, by decide +kernel, by decide⟩
theorem xfl_X4_31 : xFl RX4 31 [5, 6, 7] 4 .int true := by
  refine ⟨"AshCity$Dig", "from", "I", Or.inl q413, fun c hc => ?_⟩
  simp only [List.mem_cons, List.not_mem_nil, or_false] at hc
  rcases hc with rfl | rfl | rfl
  · exact ⟨_, _, _, _, xcl_5, by decide, rfl, rfl⟩
  · exact ⟨_, _, _, _, xcl_6, by decide, rfl, rfl⟩
  · exact ⟨_, _, _, _, xcl_7, by decide, rfl, rfl⟩
theorem xfl_X4_15 : xFl RX4 15 [5, 6, 7] 0 .int true := by
  refine ⟨"AshCity$Dig", "number", "I", Or.inl q405, fun c hc => ?_⟩
  simp only [List.mem_cons, List.not_mem_nil, or_false] at hc
  rcases hc with rfl | rfl | rfl
  · exact ⟨_, _, _, _, xcl_5, by decide, rfl, rfl⟩
  · exact ⟨_, _, _, _, xcl_6, by decide, rfl, rfl⟩
  · exact ⟨_, _, _, _, xcl_7, by decide, rfl, rfl⟩
theorem xfl_X4_9 : xFl RX4 9 [5, 6, 7] 8 .int false := by
  refine ⟨"AshCity$Dig", "struck", "I", Or.inl q420, fun c hc => ?_⟩
  simp only [List.mem_cons, List.not_mem_nil, or_false] at hc
  rcases hc with rfl | rfl | rfl
  · exact ⟨_, _, _, _, xcl_5, by decide, rfl, rfl⟩
  · exact ⟨_, _, _, _, xcl_6, by decide, rfl, rfl⟩
  · exact ⟨_, _, _, _, xcl_7, by decide, rfl, rfl⟩
theorem xfw_X4_15 : ∀ c ∈ [5, 6, 7], ∃ (C : String) (T : u_T) (N : Nat) (ty : Nat → FieldType), xCl c C T N ty ∧ 0 < N ∧ T 0 = (RX4, "number", "I", true) ∧ ty 0 = .int := by
  intro c hc
  simp only [List.mem_cons, List.not_mem_nil, or_false] at hc
  rcases hc with rfl | rfl | rfl
  · exact ⟨_, _, _, _, xcl_5, by decide, rfl, rfl⟩
  · exact ⟨_, _, _, _, xcl_6, by decide, rfl, rfl⟩
  · exact ⟨_, _, _, _, xcl_7, by decide, rfl, rfl⟩
theorem xfw_X4_18 : ∀ c ∈ [5, 6, 7], ∃ (C : String) (T : u_T) (N : Nat) (ty : Nat → FieldType), xCl c C T N ty ∧ 1 < N ∧ T 1 = (RX4, "hand", "I", true) ∧ ty 1 = .int := by
  intro c hc
  simp only [List.mem_cons, List.not_mem_nil, or_false] at hc
  rcases hc with rfl | rfl | rfl
  · exact ⟨_, _, _, _, xcl_5, by decide, rfl, rfl⟩
  · exact ⟨_, _, _, _, xcl_6, by decide, rfl, rfl⟩
  · exact ⟨_, _, _, _, xcl_7, by decide, rfl, rfl⟩
theorem xfw_X4_21 : ∀ c ∈ [5, 6, 7], ∃ (C : String) (T : u_T) (N : Nat) (ty : Nat → FieldType), xCl c C T N ty ∧ 7 < N ∧ T 7 = (RX4, "where", "LAshCity$Rectangle;", true) ∧ ty 7 = (.object "AshCity$Rectangle") := by
  intro c hc
  simp only [List.mem_cons, List.not_mem_nil, or_false] at hc
  rcases hc with rfl | rfl | rfl
  · exact ⟨_, _, _, _, xcl_5, by decide, rfl, rfl⟩
  · exact ⟨_, _, _, _, xcl_6, by decide, rfl, rfl⟩
  · exact ⟨_, _, _, _, xcl_7, by decide, rfl, rfl⟩
theorem xfw_X4_25 : ∀ c ∈ [5, 6, 7], ∃ (C : String) (T : u_T) (N : Nat) (ty : Nat → FieldType), xCl c C T N ty ∧ 2 < N ∧ T 2 = (RX4, "top", "I", true) ∧ ty 2 = .int := by
  intro c hc
  simp only [List.mem_cons, List.not_mem_nil, or_false] at hc
  rcases hc with rfl | rfl | rfl
  · exact ⟨_, _, _, _, xcl_5, by decide, rfl, rfl⟩
  · exact ⟨_, _, _, _, xcl_6, by decide, rfl, rfl⟩
  · exact ⟨_, _, _, _, xcl_7, by decide, rfl, rfl⟩
theorem xfw_X4_28 : ∀ c ∈ [5, 6, 7], ∃ (C : String) (T : u_T) (N : Nat) (ty : Nat → FieldType), xCl c C T N ty ∧ 3 < N ∧ T 3 = (RX4, "bottom", "I", true) ∧ ty 3 = .int := by
  intro c hc
  simp only [List.mem_cons, List.not_mem_nil, or_false] at hc
  rcases hc with rfl | rfl | rfl
  · exact ⟨_, _, _, _, xcl_5, by decide, rfl, rfl⟩
  · exact ⟨_, _, _, _, xcl_6, by decide, rfl, rfl⟩
  · exact ⟨_, _, _, _, xcl_7, by decide, rfl, rfl⟩
theorem xfw_X4_31 : ∀ c ∈ [5, 6, 7], ∃ (C : String) (T : u_T) (N : Nat) (ty : Nat → FieldType), xCl c C T N ty ∧ 4 < N ∧ T 4 = (RX4, "from", "I", true) ∧ ty 4 = .int := by
  intro c hc
  simp only [List.mem_cons, List.not_mem_nil, or_false] at hc
  rcases hc with rfl | rfl | rfl
  · exact ⟨_, _, _, _, xcl_5, by decide, rfl, rfl⟩
  · exact ⟨_, _, _, _, xcl_6, by decide, rfl, rfl⟩
  · exact ⟨_, _, _, _, xcl_7, by decide, rfl, rfl⟩
theorem xfw_X4_34 : ∀ c ∈ [5, 6, 7], ∃ (C : String) (T : u_T) (N : Nat) (ty : Nat → FieldType), xCl c C T N ty ∧ 5 < N ∧ T 5 = (RX4, "to", "I", true) ∧ ty 5 = .int := by
  intro c hc
  simp only [List.mem_cons, List.not_mem_nil, or_false] at hc
  rcases hc with rfl | rfl | rfl
  · exact ⟨_, _, _, _, xcl_5, by decide, rfl, rfl⟩
  · exact ⟨_, _, _, _, xcl_6, by decide, rfl, rfl⟩
  · exact ⟨_, _, _, _, xcl_7, by decide, rfl, rfl⟩
theorem xfw_X4_37 : ∀ c ∈ [5, 6, 7], ∃ (C : String) (T : u_T) (N : Nat) (ty : Nat → FieldType), xCl c C T N ty ∧ 6 < N ∧ T 6 = (RX4, "told", "I", true) ∧ ty 6 = .int := by
  intro c hc
  simp only [List.mem_cons, List.not_mem_nil, or_false] at hc
  rcases hc with rfl | rfl | rfl
  · exact ⟨_, _, _, _, xcl_5, by decide, rfl, rfl⟩
  · exact ⟨_, _, _, _, xcl_6, by decide, rfl, rfl⟩
  · exact ⟨_, _, _, _, xcl_7, by decide, rfl, rfl⟩
theorem xci_X5_3 : xCi RX5 3 yX4_init cX4_init 9 8 := ⟨q403, q106, q401, q402, rfl, by decide +kernel, by decide⟩
theorem xci_X7_3 : xCi RX7 3 yX4_init cX4_init 9 8 := ⟨q403, q106, q462, q402, rfl, by decide +kernel, by decide⟩
theorem xci_X6_3 : xCi RX6 3 yX4_init cX4_init 9 8 := ⟨q403, q106, q446, q402, rfl, by decide +kernel, by decide⟩
theorem xcs_X0_187 : sCw RX0 187 yX0_isLayer cX0_isLayer 1 (some .boolean) 1 := ⟨lw_S q389 q390 q102 q391, by decide +kernel, by decide⟩
theorem xcw_X0_190 : xCw RX0 190 0 RX0 yX0_isSpan cX0_isSpan 3 (some .boolean) 2 := ⟨⟨_, rfl, rfl⟩, lw_V q392 q394 qs2 q102 q395, by decide +kernel, by decide⟩
theorem xnew_X0_203 : xNew RX0 203 7 RX7 TX7 9 tyX7 := ⟨q457, q458, q109, xcl_7⟩
theorem xci_X0_205 : xCi RX0 205 yX7_init cX7_init 9 8 := ⟨q461, q109, q459, q460, rfl, by decide +kernel, by decide⟩
theorem xel_4 : xEl 4 [5, 6, 7] := by
  refine ⟨"AshCity$Dig", fun _ => rfl, fun c hc => ?_⟩
  simp only [List.mem_cons, List.not_mem_nil, or_false] at hc
  rcases hc with rfl | rfl | rfl
  · exact ⟨_, _, _, _, xcl_5, Or.inr n2116⟩
  · exact ⟨_, _, _, _, xcl_6, Or.inr n2117⟩
  · exact ⟨_, _, _, _, xcl_7, Or.inr n2118⟩
theorem xcu_X0_206 : xCU RX0 206 [5, 6, 7] "AshCity$Dig" ⟨"AshCity$Dig", "isAhead", "(LAshCity$Dig;)Z"⟩ yX4_isAhead cX4_isAhead 2 (some .boolean) 1 := by
  refine ⟨fun c hc => ?_, by decide⟩
  simp only [List.mem_cons, List.not_mem_nil, or_false] at hc
  rcases hc with rfl | rfl | rfl
  · exact ⟨_, rfl, fun R s args rm mc ms hw hN h1 h2 h3 => xcu_inh rfl q473 q475 q476 q474 q106 q479 (by decide +kernel) (by decide +kernel) (by decide +kernel) hw hN h1 h2 h3⟩
  · exact ⟨_, rfl, fun R s args rm mc ms hw hN h1 h2 h3 => xcu_inh rfl q473 q475 q478 q474 q106 q479 (by decide +kernel) (by decide +kernel) (by decide +kernel) hw hN h1 h2 h3⟩
  · exact ⟨_, rfl, fun R s args rm mc ms hw hN h1 h2 h3 => xcu_inh rfl q473 q475 q477 q474 q106 q479 (by decide +kernel) (by decide +kernel) (by decide +kernel) hw hN h1 h2 h3⟩
theorem xnew_X0_198 : xNew RX0 198 6 RX6 TX6 9 tyX6 := ⟨q441, q442, q108, xcl_6⟩
theorem xci_X0_200 : xCi RX0 200 yX6_init cX6_init 9 8 := ⟨q445, q108, q443, q444, rfl, by decide +kernel, by decide⟩
theorem xnew_X0_193 : xNew RX0 193 5 RX5 TX5 9 tyX5 := ⟨q396, q397, q107, xcl_5⟩
theorem xci_X0_195 : xCi RX0 195 yX5_init cX5_init 8 7 := ⟨q400, q107, q398, q399, rfl, by decide +kernel, by decide⟩
theorem xfl_X0_210 : xFl RX0 210 [5, 6, 7] 8 .int false := by
  refine ⟨"AshCity$Dig", "struck", "I", Or.inr n421, fun c hc => ?_⟩
  simp only [List.mem_cons, List.not_mem_nil, or_false] at hc
  rcases hc with rfl | rfl | rfl
  · exact ⟨_, _, _, _, xcl_5, by decide, rfl, rfl⟩
  · exact ⟨_, _, _, _, xcl_6, by decide, rfl, rfl⟩
  · exact ⟨_, _, _, _, xcl_7, by decide, rfl, rfl⟩
theorem xfl_X4_37 : xFl RX4 37 [5, 6, 7] 6 .int true := by
  refine ⟨"AshCity$Dig", "told", "I", Or.inl q417, fun c hc => ?_⟩
  simp only [List.mem_cons, List.not_mem_nil, or_false] at hc
  rcases hc with rfl | rfl | rfl
  · exact ⟨_, _, _, _, xcl_5, by decide, rfl, rfl⟩
  · exact ⟨_, _, _, _, xcl_6, by decide, rfl, rfl⟩
  · exact ⟨_, _, _, _, xcl_7, by decide, rfl, rfl⟩
theorem xfl_X4_21 : xFl RX4 21 [5, 6, 7] 7 (.object "AshCity$Rectangle") true := by
  refine ⟨"AshCity$Dig", "where", "LAshCity$Rectangle;", Or.inl q418, fun c hc => ?_⟩
  simp only [List.mem_cons, List.not_mem_nil, or_false] at hc
  rcases hc with rfl | rfl | rfl
  · exact ⟨_, _, _, _, xcl_5, by decide, rfl, rfl⟩
  · exact ⟨_, _, _, _, xcl_6, by decide, rfl, rfl⟩
  · exact ⟨_, _, _, _, xcl_7, by decide, rfl, rfl⟩
theorem xcw_X4_40 : xCw RX4 40 2 RX2 yX2_has cX2_has 3 (some .boolean) 2 := ⟨⟨_, rfl, rfl⟩, lw_V q510 q381 q382 q104 q383, by decide +kernel, by decide⟩
theorem xfl_X4_25 : xFl RX4 25 [5, 6, 7] 2 .int true := by
  refine ⟨"AshCity$Dig", "top", "I", Or.inl q409, fun c hc => ?_⟩
  simp only [List.mem_cons, List.not_mem_nil, or_false] at hc
  rcases hc with rfl | rfl | rfl
  · exact ⟨_, _, _, _, xcl_5, by decide, rfl, rfl⟩
  · exact ⟨_, _, _, _, xcl_6, by decide, rfl, rfl⟩
  · exact ⟨_, _, _, _, xcl_7, by decide, rfl, rfl⟩
theorem xfl_X4_28 : xFl RX4 28 [5, 6, 7] 3 .int true := by
  refine ⟨"AshCity$Dig", "bottom", "I", Or.inl q411, fun c hc => ?_⟩
  simp only [List.mem_cons, List.not_mem_nil, or_false] at hc
  rcases hc with rfl | rfl | rfl
  · exact ⟨_, _, _, _, xcl_5, by decide, rfl, rfl⟩
  · exact ⟨_, _, _, _, xcl_6, by decide, rfl, rfl⟩
  · exact ⟨_, _, _, _, xcl_7, by decide, rfl, rfl⟩
theorem xcn_X4_46 : sCn RX4 46 yX0_within cX0_within 3 (some .boolean) 3 := ⟨q312, q102, n511, q311, by decide +kernel, by decide⟩
theorem xfl_X0_217 : xFl RX0 217 [5, 6, 7] 4 .int true := by
  refine ⟨"AshCity$Dig", "from", "I", Or.inr n414, fun c hc => ?_⟩
  simp only [List.mem_cons, List.not_mem_nil, or_false] at hc
  rcases hc with rfl | rfl | rfl
  · exact ⟨_, _, _, _, xcl_5, by decide, rfl, rfl⟩
  · exact ⟨_, _, _, _, xcl_6, by decide, rfl, rfl⟩
  · exact ⟨_, _, _, _, xcl_7, by decide, rfl, rfl⟩
theorem xcu_X0_220 : xCU RX0 220 [5, 6, 7] "AshCity$Dig" ⟨"AshCity$Dig", "isKnown", "(I)Z"⟩ yX4_isKnown cX4_isKnown 2 (some .boolean) 1 := by
  refine ⟨fun c hc => ?_, by decide⟩
  simp only [List.mem_cons, List.not_mem_nil, or_false] at hc
  rcases hc with rfl | rfl | rfl
  · exact ⟨_, rfl, fun R s args rm mc ms hw hN h1 h2 h3 => xcu_inh rfl q496 q498 q499 q497 q106 q502 (by decide +kernel) (by decide +kernel) (by decide +kernel) hw hN h1 h2 h3⟩
  · exact ⟨_, rfl, fun R s args rm mc ms hw hN h1 h2 h3 => xcu_inh rfl q496 q498 q501 q497 q106 q502 (by decide +kernel) (by decide +kernel) (by decide +kernel) hw hN h1 h2 h3⟩
  · exact ⟨_, rfl, fun R s args rm mc ms hw hN h1 h2 h3 => xcu_inh rfl q496 q498 q500 q497 q106 q502 (by decide +kernel) (by decide +kernel) (by decide +kernel) hw hN h1 h2 h3⟩
theorem xcu_X0_223 : xCU RX0 223 [5, 6, 7] "AshCity$Dig" ⟨"AshCity$Dig", "reaches", "(III)Z"⟩ yX4_reaches cX4_reaches 4 (some .boolean) 3 := by
  refine ⟨fun c hc => ?_, by decide⟩
  simp only [List.mem_cons, List.not_mem_nil, or_false] at hc
  rcases hc with rfl | rfl | rfl
  · exact ⟨_, rfl, fun R s args rm mc ms hw hN h1 h2 h3 => xcu_inh rfl q503 q505 q506 q504 q106 q509 (by decide +kernel) (by decide +kernel) (by decide +kernel) hw hN h1 h2 h3⟩
  · exact ⟨_, rfl, fun R s args rm mc ms hw hN h1 h2 h3 => xcu_inh rfl q503 q505 q508 q504 q106 q509 (by decide +kernel) (by decide +kernel) (by decide +kernel) hw hN h1 h2 h3⟩
  · exact ⟨_, rfl, fun R s args rm mc ms hw hN h1 h2 h3 => xcu_inh rfl q503 q505 q507 q504 q106 q509 (by decide +kernel) (by decide +kernel) (by decide +kernel) hw hN h1 h2 h3⟩
theorem xcu_X0_226_X5 : xCU RX0 226 [5] "AshCity$Dig" ⟨"AshCity$Dig", "makes", "(I)I"⟩ yX5_makes cX5_makes 2 (some .int) 1 := by
  refine ⟨fun c hc => ?_, by decide⟩
  simp only [List.mem_cons, List.not_mem_nil, or_false] at hc
  rcases hc with rfl
  · exact ⟨_, rfl, fun R s args rm mc ms hw hN h1 h2 h3 => xcu_abs n513 q512 q514 q515 q516 q107 q517 (by decide +kernel) (by decide +kernel) (by decide +kernel) hw hN h1 h2 h3⟩
theorem xcu_X0_226_X6 : xCU RX0 226 [6] "AshCity$Dig" ⟨"AshCity$Dig", "makes", "(I)I"⟩ yX6_makes cX6_makes 2 (some .int) 1 := by
  refine ⟨fun c hc => ?_, by decide⟩
  simp only [List.mem_cons, List.not_mem_nil, or_false] at hc
  rcases hc with rfl
  · exact ⟨_, rfl, fun R s args rm mc ms hw hN h1 h2 h3 => xcu_abs n513 q512 q514 q521 q522 q108 q523 (by decide +kernel) (by decide +kernel) (by decide +kernel) hw hN h1 h2 h3⟩
theorem xcu_X0_226_X7 : xCU RX0 226 [7] "AshCity$Dig" ⟨"AshCity$Dig", "makes", "(I)I"⟩ yX7_makes cX7_makes 2 (some .int) 1 := by
  refine ⟨fun c hc => ?_, by decide⟩
  simp only [List.mem_cons, List.not_mem_nil, or_false] at hc
  rcases hc with rfl
  · exact ⟨_, rfl, fun R s args rm mc ms hw hN h1 h2 h3 => xcu_abs n513 q512 q514 q518 q519 q109 q520 (by decide +kernel) (by decide +kernel) (by decide +kernel) hw hN h1 h2 h3⟩
theorem xcv_X0_226 : xCV RX0 226 "AshCity$Dig" ⟨"AshCity$Dig", "makes", "(I)I"⟩ (some .int) 1 al_makes := by
  intro x hx
  simp only [al_makes, List.mem_cons, List.not_mem_nil, or_false] at hx
  rcases hx with rfl | rfl | rfl
  · exact xcu_X0_226_X5
  · exact xcu_X0_226_X6
  · exact xcu_X0_226_X7
theorem xcw_X0_229 : xCw RX0 229 0 RX0 yX0_isGround cX0_isGround 5 (some .boolean) 4 := ⟨⟨_, rfl, rfl⟩, lw_V q488 q490 qs3 q102 q491, by decide +kernel, by decide⟩
theorem xcw_X0_233 : xCw RX0 233 0 RX0 yX0_groundOf cX0_groundOf 8 (some .int) 4 := ⟨⟨_, rfl, rfl⟩, lw_V q492 q494 qs4 q102 q495, by decide +kernel, by decide⟩
theorem xfl_X0_237 : xFl RX0 237 [5, 6, 7] 0 .int true := by
  refine ⟨"AshCity$Dig", "number", "I", Or.inr n406, fun c hc => ?_⟩
  simp only [List.mem_cons, List.not_mem_nil, or_false] at hc
  rcases hc with rfl | rfl | rfl
  · exact ⟨_, _, _, _, xcl_5, by decide, rfl, rfl⟩
  · exact ⟨_, _, _, _, xcl_6, by decide, rfl, rfl⟩
  · exact ⟨_, _, _, _, xcl_7, by decide, rfl, rfl⟩
theorem xfw_X8_7 : ∀ c ∈ [8], ∃ (C : String) (T : u_T) (N : Nat) (ty : Nat → FieldType), xCl c C T N ty ∧ 0 < N ∧ T 0 = (RX8, "numbering", "I", true) ∧ ty 0 = .int := by
  intro c hc
  simp only [List.mem_cons, List.not_mem_nil, or_false] at hc
  rcases hc with rfl
  · exact ⟨_, _, _, _, xcl_8, by decide, rfl, rfl⟩
theorem xfw_X8_13 : ∀ c ∈ [8], ∃ (C : String) (T : u_T) (N : Nat) (ty : Nat → FieldType), xCl c C T N ty ∧ 1 < N ∧ T 1 = (RX8, "number", "I", true) ∧ ty 1 = .int := by
  intro c hc
  simp only [List.mem_cons, List.not_mem_nil, or_false] at hc
  rcases hc with rfl
  · exact ⟨_, _, _, _, xcl_8, by decide, rfl, rfl⟩
theorem xfw_X8_16 : ∀ c ∈ [8], ∃ (C : String) (T : u_T) (N : Nat) (ty : Nat → FieldType), xCl c C T N ty ∧ 2 < N ∧ T 2 = (RX8, "place", "I", true) ∧ ty 2 = .int := by
  intro c hc
  simp only [List.mem_cons, List.not_mem_nil, or_false] at hc
  rcases hc with rfl
  · exact ⟨_, _, _, _, xcl_8, by decide, rfl, rfl⟩
theorem xfw_X8_19 : ∀ c ∈ [8], ∃ (C : String) (T : u_T) (N : Nat) (ty : Nat → FieldType), xCl c C T N ty ∧ 3 < N ∧ T 3 = (RX8, "from", "I", true) ∧ ty 3 = .int := by
  intro c hc
  simp only [List.mem_cons, List.not_mem_nil, or_false] at hc
  rcases hc with rfl
  · exact ⟨_, _, _, _, xcl_8, by decide, rfl, rfl⟩
theorem xfw_X8_22 : ∀ c ∈ [8], ∃ (C : String) (T : u_T) (N : Nat) (ty : Nat → FieldType), xCl c C T N ty ∧ 4 < N ∧ T 4 = (RX8, "to", "I", true) ∧ ty 4 = .int := by
  intro c hc
  simp only [List.mem_cons, List.not_mem_nil, or_false] at hc
  rcases hc with rfl
  · exact ⟨_, _, _, _, xcl_8, by decide, rfl, rfl⟩
theorem xcw_X0_240 : xCw RX0 240 0 RX0 yX0_isPlace cX0_isPlace 2 (some .boolean) 1 := ⟨⟨_, rfl, rfl⟩, lw_V q532 q534 qs5 q102 q535, by decide +kernel, by decide⟩
theorem xnew_X0_45 : xNew RX0 45 8 RX8 TX8 5 tyX8 := ⟨q147, q536, q110, xcl_8⟩
theorem xci_X0_246 : xCi RX0 246 yX8_init cX8_init 6 5 := ⟨q539, q110, q537, q538, rfl, by decide +kernel, by decide⟩
theorem xel_5 : xEl 5 [8] := by
  refine ⟨"AshCity$Meaning", fun _ => rfl, fun c hc => ?_⟩
  simp only [List.mem_cons, List.not_mem_nil, or_false] at hc
  rcases hc with rfl
  · exact ⟨_, _, _, _, xcl_8, Or.inl rfl⟩
theorem xfl_X0_249 : xFl RX0 249 [8] 0 .int true := by
  refine ⟨"AshCity$Meaning", "numbering", "I", Or.inr n542, fun c hc => ?_⟩
  simp only [List.mem_cons, List.not_mem_nil, or_false] at hc
  rcases hc with rfl
  · exact ⟨_, _, _, _, xcl_8, by decide, rfl, rfl⟩
theorem xfl_X0_252 : xFl RX0 252 [8] 1 .int true := by
  refine ⟨"AshCity$Meaning", "number", "I", Or.inr n544, fun c hc => ?_⟩
  simp only [List.mem_cons, List.not_mem_nil, or_false] at hc
  rcases hc with rfl
  · exact ⟨_, _, _, _, xcl_8, by decide, rfl, rfl⟩
theorem xfl_X0_253 : xFl RX0 253 [8] 3 .int true := by
  refine ⟨"AshCity$Meaning", "from", "I", Or.inr n548, fun c hc => ?_⟩
  simp only [List.mem_cons, List.not_mem_nil, or_false] at hc
  rcases hc with rfl
  · exact ⟨_, _, _, _, xcl_8, by decide, rfl, rfl⟩
theorem xfl_X0_254 : xFl RX0 254 [8] 4 .int true := by
  refine ⟨"AshCity$Meaning", "to", "I", Or.inr n550, fun c hc => ?_⟩
  simp only [List.mem_cons, List.not_mem_nil, or_false] at hc
  rcases hc with rfl
  · exact ⟨_, _, _, _, xcl_8, by decide, rfl, rfl⟩
theorem xfl_X0_257 : xFl RX0 257 [8] 2 .int true := by
  refine ⟨"AshCity$Meaning", "place", "I", Or.inr n546, fun c hc => ?_⟩
  simp only [List.mem_cons, List.not_mem_nil, or_false] at hc
  rcases hc with rfl
  · exact ⟨_, _, _, _, xcl_8, by decide, rfl, rfl⟩
theorem xcw_X0_260 : xCw RX0 260 0 RX0 yX0_meaningOf cX0_meaningOf 6 (some .int) 3 := ⟨⟨_, rfl, rfl⟩, lw_V q566 q568 qs6 q102 q569, by decide +kernel, by decide⟩
theorem xcw_X0_267 : xCw RX0 267 0 RX0 yX0_push cX0_push 3 none 1 := ⟨⟨_, rfl, rfl⟩, lw_V q574 q576 qs7 q102 q577, by decide +kernel, by decide⟩
theorem xfw_X9_11 : ∀ c ∈ [9], ∃ (C : String) (T : u_T) (N : Nat) (ty : Nat → FieldType), xCl c C T N ty ∧ 0 < N ∧ T 0 = (RX9, "clauses", "[LAshCity$Clause;", true) ∧ ty 0 = (.array (.object "AshCity$Clause")) := by
  intro c hc
  simp only [List.mem_cons, List.not_mem_nil, or_false] at hc
  rcases hc with rfl
  · exact ⟨_, _, _, _, xcl_9, by decide, rfl, rfl⟩
theorem xfw_X9_17 : ∀ c ∈ [9], ∃ (C : String) (T : u_T) (N : Nat) (ty : Nat → FieldType), xCl c C T N ty ∧ 1 < N ∧ T 1 = (RX9, "isStruck", "[Z", true) ∧ ty 1 = (.array .boolean) := by
  intro c hc
  simp only [List.mem_cons, List.not_mem_nil, or_false] at hc
  rcases hc with rfl
  · exact ⟨_, _, _, _, xcl_9, by decide, rfl, rfl⟩
theorem xfw_X9_21 : ∀ c ∈ [9], ∃ (C : String) (T : u_T) (N : Nat) (ty : Nat → FieldType), xCl c C T N ty ∧ 3 < N ∧ T 3 = (RX9, "from", "I", true) ∧ ty 3 = .int := by
  intro c hc
  simp only [List.mem_cons, List.not_mem_nil, or_false] at hc
  rcases hc with rfl
  · exact ⟨_, _, _, _, xcl_9, by decide, rfl, rfl⟩
theorem xfw_X9_25 : ∀ c ∈ [9], ∃ (C : String) (T : u_T) (N : Nat) (ty : Nat → FieldType), xCl c C T N ty ∧ 4 < N ∧ T 4 = (RX9, "to", "I", true) ∧ ty 4 = .int := by
  intro c hc
  simp only [List.mem_cons, List.not_mem_nil, or_false] at hc
  rcases hc with rfl
  · exact ⟨_, _, _, _, xcl_9, by decide, rfl, rfl⟩
theorem xfw_X9_28 : ∀ c ∈ [9], ∃ (C : String) (T : u_T) (N : Nat) (ty : Nat → FieldType), xCl c C T N ty ∧ 5 < N ∧ T 5 = (RX9, "t", "[B", true) ∧ ty 5 = (.array .byte) := by
  intro c hc
  simp only [List.mem_cons, List.not_mem_nil, or_false] at hc
  rcases hc with rfl
  · exact ⟨_, _, _, _, xcl_9, by decide, rfl, rfl⟩
theorem xfl_X9_28 : xFl RX9 28 [9] 5 (.array .byte) true := by
  refine ⟨"AshCity$Rules", "t", "[B", Or.inl q597, fun c hc => ?_⟩
  simp only [List.mem_cons, List.not_mem_nil, or_false] at hc
  rcases hc with rfl
  · exact ⟨_, _, _, _, xcl_9, by decide, rfl, rfl⟩
theorem xfw_X10_7 : ∀ c ∈ [10], ∃ (C : String) (T : u_T) (N : Nat) (ty : Nat → FieldType), xCl c C T N ty ∧ 0 < N ∧ T 0 = (RX10, "letter", "I", true) ∧ ty 0 = .int := by
  intro c hc
  simp only [List.mem_cons, List.not_mem_nil, or_false] at hc
  rcases hc with rfl
  · exact ⟨_, _, _, _, xcl_10, by decide, rfl, rfl⟩
theorem xfl_X9_35 : xFl RX9 35 [9] 8 .int false := by
  refine ⟨"AshCity$Rules", "fault", "I", Or.inl q600, fun c hc => ?_⟩
  simp only [List.mem_cons, List.not_mem_nil, or_false] at hc
  rcases hc with rfl
  · exact ⟨_, _, _, _, xcl_9, by decide, rfl, rfl⟩
theorem xfl_X9_38 : xFl RX9 38 [9] 9 .int false := by
  refine ⟨"AshCity$Rules", "place", "I", Or.inl q601, fun c hc => ?_⟩
  simp only [List.mem_cons, List.not_mem_nil, or_false] at hc
  rcases hc with rfl
  · exact ⟨_, _, _, _, xcl_9, by decide, rfl, rfl⟩
theorem xfl_X9_32 : xFl RX9 32 [9] 6 .int false := by
  refine ⟨"AshCity$Rules", "at", "I", Or.inl q598, fun c hc => ?_⟩
  simp only [List.mem_cons, List.not_mem_nil, or_false] at hc
  rcases hc with rfl
  · exact ⟨_, _, _, _, xcl_9, by decide, rfl, rfl⟩
theorem xcw_X9_41 : xCw RX9 41 9 RX9 yX9_here cX9_here 1 (some .int) 0 := ⟨⟨_, rfl, rfl⟩, lw_V q636 q638 qs10 q111 q639, by decide +kernel, by decide⟩
theorem xcw_X9_49 : xCw RX9 49 9 RX9 yX9_bad cX9_bad 3 none 2 := ⟨⟨_, rfl, rfl⟩, lw_V q727 q729 qs11 q111 q730, by decide +kernel, by decide⟩
theorem xcw_X9_45 : xCw RX9 45 9 RX9 yX9_seesDigit cX9_seesDigit 1 (some .boolean) 0 := ⟨⟨_, rfl, rfl⟩, lw_V q760 q762 qs13 q111 q763, by decide +kernel, by decide⟩
theorem xcw_X9_53 : xCw RX9 53 9 RX9 yX9_isGood cX9_isGood 1 (some .boolean) 0 := ⟨⟨_, rfl, rfl⟩, lw_V q628 q630 qs8 q111 q631, by decide +kernel, by decide⟩
theorem xfl_X9_56 : xFl RX9 56 [9] 7 .int false := by
  refine ⟨"AshCity$Rules", "open", "I", Or.inl q599, fun c hc => ?_⟩
  simp only [List.mem_cons, List.not_mem_nil, or_false] at hc
  rcases hc with rfl
  · exact ⟨_, _, _, _, xcl_9, by decide, rfl, rfl⟩
theorem xci_X12_1 : xCj RX12 1 yX11_init cX11_init 1 0 := ⟨q793, q119, n872, q792, rfl, by decide +kernel, by decide⟩
theorem xfw_X12_7 : ∀ c ∈ [12], ∃ (C : String) (T : u_T) (N : Nat) (ty : Nat → FieldType), xCl c C T N ty ∧ 0 < N ∧ T 0 = (RX12, "part", "LAshCity$Condition;", true) ∧ ty 0 = (.object "AshCity$Condition") := by
  intro c hc
  simp only [List.mem_cons, List.not_mem_nil, or_false] at hc
  rcases hc with rfl
  · exact ⟨_, _, _, _, xcl_12, by decide, rfl, rfl⟩
theorem xfw_X12_13 : ∀ c ∈ [12], ∃ (C : String) (T : u_T) (N : Nat) (ty : Nat → FieldType), xCl c C T N ty ∧ 1 < N ∧ T 1 = (RX12, "decides", "I", true) ∧ ty 1 = .int := by
  intro c hc
  simp only [List.mem_cons, List.not_mem_nil, or_false] at hc
  rcases hc with rfl
  · exact ⟨_, _, _, _, xcl_12, by decide, rfl, rfl⟩
theorem xcw_X9_59 : xCw RX9 59 9 RX9 yX9_opens cX9_opens 1 none 0 := ⟨⟨_, rfl, rfl⟩, lw_V q772 q774 qs16 q111 q775, by decide +kernel, by decide⟩
theorem xnew_X9_121 : xNew RX9 121 12 RX12 TX12 3 tyX12 := ⟨q776, q777, q120, xcl_12⟩
theorem xcw_X9_129 : xCw RX9 129 9 RX9 yX9_pieces cX9_pieces 3 (some (.object "AshCity$Condition")) 0 := ⟨⟨_, rfl, rfl⟩, lw_V q778 q780 qs17 q111 q781, by decide +kernel, by decide⟩
theorem xci_X9_123 : xCi RX9 123 yX12_init cX12_init 3 2 := ⟨q871, q120, q869, q870, rfl, by decide +kernel, by decide⟩
theorem xfl_X9_126 : xFl RX9 126 [12] 2 (.object "AshCity$Some") false := by
  refine ⟨"AshCity$Some", "next", "LAshCity$Some;", Or.inr n876, fun c hc => ?_⟩
  simp only [List.mem_cons, List.not_mem_nil, or_false] at hc
  rcases hc with rfl
  · exact ⟨_, _, _, _, xcl_12, by decide, rfl, rfl⟩
theorem xcw_X9_66 : xCw RX9 66 9 RX9 yX9_must cX9_must 2 none 1 := ⟨⟨_, rfl, rfl⟩, lw_V q764 q766 qs14 q111 q767, by decide +kernel, by decide⟩
theorem xci_X18_1 : xCj RX18 1 yX11_init cX11_init 1 0 := ⟨q793, q119, n858, q792, rfl, by decide +kernel, by decide⟩
theorem xfw_X18_7 : ∀ c ∈ [18], ∃ (C : String) (T : u_T) (N : Nat) (ty : Nat → FieldType), xCl c C T N ty ∧ 0 < N ∧ T 0 = (RX18, "x", "LAshCity$Sum;", true) ∧ ty 0 = (.object "AshCity$Sum") := by
  intro c hc
  simp only [List.mem_cons, List.not_mem_nil, or_false] at hc
  rcases hc with rfl
  · exact ⟨_, _, _, _, xcl_18, by decide, rfl, rfl⟩
theorem xfw_X18_13 : ∀ c ∈ [18], ∃ (C : String) (T : u_T) (N : Nat) (ty : Nat → FieldType), xCl c C T N ty ∧ 2 < N ∧ T 2 = (RX18, "sign", "I", true) ∧ ty 2 = .int := by
  intro c hc
  simp only [List.mem_cons, List.not_mem_nil, or_false] at hc
  rcases hc with rfl
  · exact ⟨_, _, _, _, xcl_18, by decide, rfl, rfl⟩
theorem xfw_X18_17 : ∀ c ∈ [18], ∃ (C : String) (T : u_T) (N : Nat) (ty : Nat → FieldType), xCl c C T N ty ∧ 1 < N ∧ T 1 = (RX18, "y", "LAshCity$Sum;", true) ∧ ty 1 = (.object "AshCity$Sum") := by
  intro c hc
  simp only [List.mem_cons, List.not_mem_nil, or_false] at hc
  rcases hc with rfl
  · exact ⟨_, _, _, _, xcl_18, by decide, rfl, rfl⟩
theorem xci_X13_1 : xCj RX13 1 yX11_init cX11_init 1 0 := ⟨q793, q119, n791, q792, rfl, by decide +kernel, by decide⟩
theorem xfw_X13_7 : ∀ c ∈ [13], ∃ (C : String) (T : u_T) (N : Nat) (ty : Nat → FieldType), xCl c C T N ty ∧ 0 < N ∧ T 0 = (RX13, "x", "LAshCity$Condition;", true) ∧ ty 0 = (.object "AshCity$Condition") := by
  intro c hc
  simp only [List.mem_cons, List.not_mem_nil, or_false] at hc
  rcases hc with rfl
  · exact ⟨_, _, _, _, xcl_13, by decide, rfl, rfl⟩
theorem xci_X17_1 : xCj RX17 1 yX14_init cX14_init 1 0 := ⟨q821, q122, n833, q820, rfl, by decide +kernel, by decide⟩
theorem xfw_X17_7 : ∀ c ∈ [17], ∃ (C : String) (T : u_T) (N : Nat) (ty : Nat → FieldType), xCl c C T N ty ∧ 0 < N ∧ T 0 = (RX17, "letter", "I", true) ∧ ty 0 = .int := by
  intro c hc
  simp only [List.mem_cons, List.not_mem_nil, or_false] at hc
  rcases hc with rfl
  · exact ⟨_, _, _, _, xcl_17, by decide, rfl, rfl⟩
theorem xci_X16_1 : xCj RX16 1 yX14_init cX14_init 1 0 := ⟨q821, q122, n819, q820, rfl, by decide +kernel, by decide⟩
theorem xfw_X16_7 : ∀ c ∈ [16], ∃ (C : String) (T : u_T) (N : Nat) (ty : Nat → FieldType), xCl c C T N ty ∧ 0 < N ∧ T 0 = (RX16, "n", "I", true) ∧ ty 0 = .int := by
  intro c hc
  simp only [List.mem_cons, List.not_mem_nil, or_false] at hc
  rcases hc with rfl
  · exact ⟨_, _, _, _, xcl_16, by decide, rfl, rfl⟩
theorem xnew_X9_86 : xNew RX9 86 17 RX17 TX17 1 tyX17 := ⟨q828, q829, q125, xcl_17⟩
theorem xci_X9_88 : xCi RX9 88 yX17_init cX17_init 2 1 := ⟨q832, q125, q830, q831, rfl, by decide +kernel, by decide⟩
theorem xnew_X9_70 : xNew RX9 70 16 RX16 TX16 1 tyX16 := ⟨q813, q814, q124, xcl_16⟩
theorem xcw_X9_73 : xCw RX9 73 9 RX9 yX9_number cX9_number 4 (some .int) 1 := ⟨⟨_, rfl, rfl⟩, lw_V q756 q758 qs12 q111 q759, by decide +kernel, by decide⟩
theorem xci_X9_77 : xCi RX9 77 yX16_init cX16_init 2 1 := ⟨q818, q124, q816, q817, rfl, by decide +kernel, by decide⟩
theorem xcw_X9_62 : xCw RX9 62 9 RX9 yX9_sum cX9_sum 4 (some (.object "AshCity$Sum")) 0 := ⟨⟨_, rfl, rfl⟩, lw_V q799 q801 qs19 q111 q802, by decide +kernel, by decide⟩
theorem xci_X15_1 : xCj RX15 1 yX14_init cX14_init 1 0 := ⟨q821, q122, n841, q820, rfl, by decide +kernel, by decide⟩
theorem xfw_X15_7 : ∀ c ∈ [15], ∃ (C : String) (T : u_T) (N : Nat) (ty : Nat → FieldType), xCl c C T N ty ∧ 0 < N ∧ T 0 = (RX15, "sign", "I", true) ∧ ty 0 = .int := by
  intro c hc
  simp only [List.mem_cons, List.not_mem_nil, or_false] at hc
  rcases hc with rfl
  · exact ⟨_, _, _, _, xcl_15, by decide, rfl, rfl⟩
theorem xfw_X15_13 : ∀ c ∈ [15], ∃ (C : String) (T : u_T) (N : Nat) (ty : Nat → FieldType), xCl c C T N ty ∧ 1 < N ∧ T 1 = (RX15, "part", "LAshCity$Sum;", true) ∧ ty 1 = (.object "AshCity$Sum") := by
  intro c hc
  simp only [List.mem_cons, List.not_mem_nil, or_false] at hc
  rcases hc with rfl
  · exact ⟨_, _, _, _, xcl_15, by decide, rfl, rfl⟩
theorem xnew_X9_89 : xNew RX9 89 15 RX15 TX15 3 tyX15 := ⟨q803, q804, q123, xcl_15⟩
theorem xcw_X9_91 : xCw RX9 91 9 RX9 yX9_factor cX9_factor 3 (some (.object "AshCity$Sum")) 0 := ⟨⟨_, rfl, rfl⟩, lw_V q809 q811 qs21 q111 q812, by decide +kernel, by decide⟩
theorem xci_X9_94 : xCi RX9 94 yX15_init cX15_init 3 2 := ⟨q840, q123, q838, q839, rfl, by decide +kernel, by decide⟩
theorem xfl_X9_97 : xFl RX9 97 [15] 2 (.object "AshCity$Row") false := by
  refine ⟨"AshCity$Row", "next", "LAshCity$Row;", Or.inr n845, fun c hc => ?_⟩
  simp only [List.mem_cons, List.not_mem_nil, or_false] at hc
  rcases hc with rfl
  · exact ⟨_, _, _, _, xcl_15, by decide, rfl, rfl⟩
theorem xcw_X9_101 : xCw RX9 101 9 RX9 yX9_product cX9_product 4 (some (.object "AshCity$Sum")) 0 := ⟨⟨_, rfl, rfl⟩, lw_V q805 q807 qs20 q111 q808, by decide +kernel, by decide⟩
theorem xnew_X9_116 : xNew RX9 116 18 RX18 TX18 3 tyX18 := ⟨q853, q854, q126, xcl_18⟩
theorem xci_X9_118 : xCi RX9 118 yX18_init cX18_init 4 3 := ⟨q857, q126, q855, q856, rfl, by decide +kernel, by decide⟩
theorem xcw_X9_113 : xCw RX9 113 9 RX9 yX9_condition cX9_condition 3 (some (.object "AshCity$Condition")) 0 := ⟨⟨_, rfl, rfl⟩, lw_V q768 q770 qs15 q111 q771, by decide +kernel, by decide⟩
theorem xnew_X9_108 : xNew RX9 108 13 RX13 TX13 1 tyX13 := ⟨q786, q787, q121, xcl_13⟩
theorem xci_X9_110 : xCi RX9 110 yX13_init cX13_init 2 1 := ⟨q790, q121, q788, q789, rfl, by decide +kernel, by decide⟩
theorem xcw_X9_104 : xCw RX9 104 9 RX9 yX9_piece cX9_piece 4 (some (.object "AshCity$Condition")) 0 := ⟨⟨_, rfl, rfl⟩, lw_V q782 q784 qs18 q111 q785, by decide +kernel, by decide⟩
theorem xnew_X9_9 : xNew RX9 9 10 RX10 TX10 4 tyX10 := ⟨q587, q731, q118, xcl_10⟩
theorem xci_X9_137 : xCi RX9 137 yX10_init cX10_init 2 1 := ⟨q734, q118, q732, q733, rfl, by decide +kernel, by decide⟩
theorem xcs_X9_138 : sCw RX9 138 yX9_most cX9_most 1 (some .int) 1 := ⟨lw_S q753 q754 q111 q755, by decide +kernel, by decide⟩
theorem xfl_X9_141 : xFl RX9 141 [10] 1 .int false := by
  refine ⟨"AshCity$Clause", "number", "I", Or.inr n738, fun c hc => ?_⟩
  simp only [List.mem_cons, List.not_mem_nil, or_false] at hc
  rcases hc with rfl
  · exact ⟨_, _, _, _, xcl_10, by decide, rfl, rfl⟩
theorem xfl_X9_11 : xFl RX9 11 [9] 0 (.array (.object "AshCity$Clause")) true := by
  refine ⟨"AshCity$Rules", "clauses", "[LAshCity$Clause;", Or.inl q589, fun c hc => ?_⟩
  simp only [List.mem_cons, List.not_mem_nil, or_false] at hc
  rcases hc with rfl
  · exact ⟨_, _, _, _, xcl_9, by decide, rfl, rfl⟩
theorem xfl_X9_134 : xFl RX9 134 [9] 2 .int false := by
  refine ⟨"AshCity$Rules", "many", "I", Or.inl q593, fun c hc => ?_⟩
  simp only [List.mem_cons, List.not_mem_nil, or_false] at hc
  rcases hc with rfl
  · exact ⟨_, _, _, _, xcl_9, by decide, rfl, rfl⟩
theorem xel_14 : xEl 14 [10] := by
  refine ⟨"AshCity$Clause", fun _ => rfl, fun c hc => ?_⟩
  simp only [List.mem_cons, List.not_mem_nil, or_false] at hc
  rcases hc with rfl
  · exact ⟨_, _, _, _, xcl_10, Or.inl rfl⟩
theorem xfl_X9_146 : xFl RX9 146 [10] 3 (.object "AshCity$Condition") false := by
  refine ⟨"AshCity$Clause", "condition", "LAshCity$Condition;", Or.inr n743, fun c hc => ?_⟩
  simp only [List.mem_cons, List.not_mem_nil, or_false] at hc
  rcases hc with rfl
  · exact ⟨_, _, _, _, xcl_10, by decide, rfl, rfl⟩
theorem xfl_X9_143 : xFl RX9 143 [10] 2 .int false := by
  refine ⟨"AshCity$Clause", "other", "I", Or.inr n740, fun c hc => ?_⟩
  simp only [List.mem_cons, List.not_mem_nil, or_false] at hc
  rcases hc with rfl
  · exact ⟨_, _, _, _, xcl_10, by decide, rfl, rfl⟩
theorem xcw_X9_149 : xCw RX9 149 9 RX9 yX9_clause cX9_clause 3 none 0 := ⟨⟨_, rfl, rfl⟩, lw_V q632 q634 qs9 q111 q635, by decide +kernel, by decide⟩
theorem xnew_X0_51 : xNew RX0 51 9 RX9 TX9 10 tyX9 := ⟨q149, q582, q111, xcl_9⟩
theorem xci_X0_274 : xCi RX0 274 yX9_init cX9_init 6 4 := ⟨q585, q111, q583, q584, rfl, by decide +kernel, by decide⟩
theorem xcw_X0_277 : xCw RX0 277 9 RX9 yX9_read cX9_read 2 (some .int) 0 := ⟨⟨_, rfl, rfl⟩, lw_V q624 q625 q626 q111 q627, by decide +kernel, by decide⟩
theorem xel_6 : xEl 6 [9] := by
  refine ⟨"AshCity$Rules", fun _ => rfl, fun c hc => ?_⟩
  simp only [List.mem_cons, List.not_mem_nil, or_false] at hc
  rcases hc with rfl
  · exact ⟨_, _, _, _, xcl_9, Or.inl rfl⟩
theorem xfw_X19_7 : ∀ c ∈ [19], ∃ (C : String) (T : u_T) (N : Nat) (ty : Nat → FieldType), xCl c C T N ty ∧ 0 < N ∧ T 0 = (RX19, "week", "I", true) ∧ ty 0 = .int := by
  intro c hc
  simp only [List.mem_cons, List.not_mem_nil, or_false] at hc
  rcases hc with rfl
  · exact ⟨_, _, _, _, xcl_19, by decide, rfl, rfl⟩
theorem xfw_X19_13 : ∀ c ∈ [19], ∃ (C : String) (T : u_T) (N : Nat) (ty : Nat → FieldType), xCl c C T N ty ∧ 1 < N ∧ T 1 = (RX19, "hand", "I", true) ∧ ty 1 = .int := by
  intro c hc
  simp only [List.mem_cons, List.not_mem_nil, or_false] at hc
  rcases hc with rfl
  · exact ⟨_, _, _, _, xcl_19, by decide, rfl, rfl⟩
theorem xfw_X19_16 : ∀ c ∈ [19], ∃ (C : String) (T : u_T) (N : Nat) (ty : Nat → FieldType), xCl c C T N ty ∧ 2 < N ∧ T 2 = (RX19, "kind", "I", true) ∧ ty 2 = .int := by
  intro c hc
  simp only [List.mem_cons, List.not_mem_nil, or_false] at hc
  rcases hc with rfl
  · exact ⟨_, _, _, _, xcl_19, by decide, rfl, rfl⟩
theorem xfw_X19_19 : ∀ c ∈ [19], ∃ (C : String) (T : u_T) (N : Nat) (ty : Nat → FieldType), xCl c C T N ty ∧ 3 < N ∧ T 3 = (RX19, "marks", "I", true) ∧ ty 3 = .int := by
  intro c hc
  simp only [List.mem_cons, List.not_mem_nil, or_false] at hc
  rcases hc with rfl
  · exact ⟨_, _, _, _, xcl_19, by decide, rfl, rfl⟩
theorem xfw_X19_22 : ∀ c ∈ [19], ∃ (C : String) (T : u_T) (N : Nat) (ty : Nat → FieldType), xCl c C T N ty ∧ 4 < N ∧ T 4 = (RX19, "placeKind", "I", true) ∧ ty 4 = .int := by
  intro c hc
  simp only [List.mem_cons, List.not_mem_nil, or_false] at hc
  rcases hc with rfl
  · exact ⟨_, _, _, _, xcl_19, by decide, rfl, rfl⟩
theorem xfl_X19_22 : xFl RX19 22 [19] 4 .int true := by
  refine ⟨"AshCity$Asked", "placeKind", "I", Or.inl q899, fun c hc => ?_⟩
  simp only [List.mem_cons, List.not_mem_nil, or_false] at hc
  rcases hc with rfl
  · exact ⟨_, _, _, _, xcl_19, by decide, rfl, rfl⟩
theorem xfl_X19_19 : xFl RX19 19 [19] 3 .int true := by
  refine ⟨"AshCity$Asked", "marks", "I", Or.inl q898, fun c hc => ?_⟩
  simp only [List.mem_cons, List.not_mem_nil, or_false] at hc
  rcases hc with rfl
  · exact ⟨_, _, _, _, xcl_19, by decide, rfl, rfl⟩
theorem xfl_X19_16 : xFl RX19 16 [19] 2 .int true := by
  refine ⟨"AshCity$Asked", "kind", "I", Or.inl q897, fun c hc => ?_⟩
  simp only [List.mem_cons, List.not_mem_nil, or_false] at hc
  rcases hc with rfl
  · exact ⟨_, _, _, _, xcl_19, by decide, rfl, rfl⟩
theorem xfl_X19_13 : xFl RX19 13 [19] 1 .int true := by
  refine ⟨"AshCity$Asked", "hand", "I", Or.inl q896, fun c hc => ?_⟩
  simp only [List.mem_cons, List.not_mem_nil, or_false] at hc
  rcases hc with rfl
  · exact ⟨_, _, _, _, xcl_19, by decide, rfl, rfl⟩
theorem xfl_X19_7 : xFl RX19 7 [19] 0 .int true := by
  refine ⟨"AshCity$Asked", "week", "I", Or.inl q894, fun c hc => ?_⟩
  simp only [List.mem_cons, List.not_mem_nil, or_false] at hc
  rcases hc with rfl
  · exact ⟨_, _, _, _, xcl_19, by decide, rfl, rfl⟩
theorem xfl_X17_7 : xFl RX17 7 [17] 0 .int true := by
  refine ⟨"AshCity$Letter", "letter", "I", Or.inl q834, fun c hc => ?_⟩
  simp only [List.mem_cons, List.not_mem_nil, or_false] at hc
  rcases hc with rfl
  · exact ⟨_, _, _, _, xcl_17, by decide, rfl, rfl⟩
theorem xcw_X17_13 : xCw RX17 13 19 RX19 yX19_value cX19_value 2 (some .int) 1 := ⟨⟨_, rfl, rfl⟩, lw_V q944 q945 q946 q127 q947, by decide +kernel, by decide⟩
theorem xfl_X16_7 : xFl RX16 7 [16] 0 .int true := by
  refine ⟨"AshCity$Number", "n", "I", Or.inl q823, fun c hc => ?_⟩
  simp only [List.mem_cons, List.not_mem_nil, or_false] at hc
  rcases hc with rfl
  · exact ⟨_, _, _, _, xcl_16, by decide, rfl, rfl⟩
theorem xfl_X15_17 : xFl RX15 17 [19] 5 .boolean false := by
  refine ⟨"AshCity$Asked", "isRefused", "Z", Or.inr n901, fun c hc => ?_⟩
  simp only [List.mem_cons, List.not_mem_nil, or_false] at hc
  rcases hc with rfl
  · exact ⟨_, _, _, _, xcl_19, by decide, rfl, rfl⟩
theorem xfl_X15_13 : xFl RX15 13 [15] 1 (.object "AshCity$Sum") true := by
  refine ⟨"AshCity$Row", "part", "LAshCity$Sum;", Or.inl q843, fun c hc => ?_⟩
  simp only [List.mem_cons, List.not_mem_nil, or_false] at hc
  rcases hc with rfl
  · exact ⟨_, _, _, _, xcl_15, by decide, rfl, rfl⟩
theorem xcu_X15_23_X16 : xCU RX15 23 [16] "AshCity$Sum" ⟨"AshCity$Sum", "worth", "(LAshCity$Asked;)I"⟩ yX16_worth cX16_worth 2 (some .int) 1 := by
  refine ⟨fun c hc => ?_, by decide⟩
  simp only [List.mem_cons, List.not_mem_nil, or_false] at hc
  rcases hc with rfl
  · exact ⟨_, rfl, fun R s args rm mc ms hw hN h1 h2 h3 => xcu_abs n939 q954 q940 q948 q949 q124 q950 (by decide +kernel) (by decide +kernel) (by decide +kernel) hw hN h1 h2 h3⟩
theorem xcu_X15_23_X17 : xCU RX15 23 [17] "AshCity$Sum" ⟨"AshCity$Sum", "worth", "(LAshCity$Asked;)I"⟩ yX17_worth cX17_worth 2 (some .int) 1 := by
  refine ⟨fun c hc => ?_, by decide⟩
  simp only [List.mem_cons, List.not_mem_nil, or_false] at hc
  rcases hc with rfl
  · exact ⟨_, rfl, fun R s args rm mc ms hw hN h1 h2 h3 => xcu_abs n939 q954 q940 q941 q942 q125 q943 (by decide +kernel) (by decide +kernel) (by decide +kernel) hw hN h1 h2 h3⟩
theorem xcu_X15_23_X15 : xCU RX15 23 [15] "AshCity$Sum" ⟨"AshCity$Sum", "worth", "(LAshCity$Asked;)I"⟩ yX15_worth cX15_worth 4 (some .int) 1 := by
  refine ⟨fun c hc => ?_, by decide⟩
  simp only [List.mem_cons, List.not_mem_nil, or_false] at hc
  rcases hc with rfl
  · exact ⟨_, rfl, fun R s args rm mc ms hw hN h1 h2 h3 => xcu_abs n939 q954 q940 q951 q952 q123 q953 (by decide +kernel) (by decide +kernel) (by decide +kernel) hw hN h1 h2 h3⟩
theorem xcv_X15_23 : xCV RX15 23 "AshCity$Sum" ⟨"AshCity$Sum", "worth", "(LAshCity$Asked;)I"⟩ (some .int) 1 al_worth := by
  intro x hx
  simp only [al_worth, List.mem_cons, List.not_mem_nil, or_false] at hx
  rcases hx with rfl | rfl | rfl
  · exact xcu_X15_23_X16
  · exact xcu_X15_23_X17
  · exact xcu_X15_23_X15
theorem xfl_X15_27 : xFl RX15 27 [15] 2 (.object "AshCity$Row") false := by
  refine ⟨"AshCity$Row", "next", "LAshCity$Row;", Or.inl q844, fun c hc => ?_⟩
  simp only [List.mem_cons, List.not_mem_nil, or_false] at hc
  rcases hc with rfl
  · exact ⟨_, _, _, _, xcl_15, by decide, rfl, rfl⟩
theorem xfl_X15_7 : xFl RX15 7 [15] 0 .int true := by
  refine ⟨"AshCity$Row", "sign", "I", Or.inl q842, fun c hc => ?_⟩
  simp only [List.mem_cons, List.not_mem_nil, or_false] at hc
  rcases hc with rfl
  · exact ⟨_, _, _, _, xcl_15, by decide, rfl, rfl⟩
theorem xcs_X15_31 : sCw RX15 31 yX15_worked cX15_worked 4 (some .int) 4 := ⟨lw_S q955 q956 q123 q957, by decide +kernel, by decide⟩
theorem xfl_X18_20 : xFl RX18 20 [19] 5 .boolean false := by
  refine ⟨"AshCity$Asked", "isRefused", "Z", Or.inr n900, fun c hc => ?_⟩
  simp only [List.mem_cons, List.not_mem_nil, or_false] at hc
  rcases hc with rfl
  · exact ⟨_, _, _, _, xcl_19, by decide, rfl, rfl⟩
theorem xfl_X18_7 : xFl RX18 7 [18] 0 (.object "AshCity$Sum") true := by
  refine ⟨"AshCity$Compared", "x", "LAshCity$Sum;", Or.inl q859, fun c hc => ?_⟩
  simp only [List.mem_cons, List.not_mem_nil, or_false] at hc
  rcases hc with rfl
  · exact ⟨_, _, _, _, xcl_18, by decide, rfl, rfl⟩
theorem xcu_X18_26_X16 : xCU RX18 26 [16] "AshCity$Sum" ⟨"AshCity$Sum", "worth", "(LAshCity$Asked;)I"⟩ yX16_worth cX16_worth 2 (some .int) 1 := by
  refine ⟨fun c hc => ?_, by decide⟩
  simp only [List.mem_cons, List.not_mem_nil, or_false] at hc
  rcases hc with rfl
  · exact ⟨_, rfl, fun R s args rm mc ms hw hN h1 h2 h3 => xcu_abs n939 q938 q940 q948 q949 q124 q950 (by decide +kernel) (by decide +kernel) (by decide +kernel) hw hN h1 h2 h3⟩
theorem xcu_X18_26_X17 : xCU RX18 26 [17] "AshCity$Sum" ⟨"AshCity$Sum", "worth", "(LAshCity$Asked;)I"⟩ yX17_worth cX17_worth 2 (some .int) 1 := by
  refine ⟨fun c hc => ?_, by decide⟩
  simp only [List.mem_cons, List.not_mem_nil, or_false] at hc
  rcases hc with rfl
  · exact ⟨_, rfl, fun R s args rm mc ms hw hN h1 h2 h3 => xcu_abs n939 q938 q940 q941 q942 q125 q943 (by decide +kernel) (by decide +kernel) (by decide +kernel) hw hN h1 h2 h3⟩
theorem xcu_X18_26_X15 : xCU RX18 26 [15] "AshCity$Sum" ⟨"AshCity$Sum", "worth", "(LAshCity$Asked;)I"⟩ yX15_worth cX15_worth 4 (some .int) 1 := by
  refine ⟨fun c hc => ?_, by decide⟩
  simp only [List.mem_cons, List.not_mem_nil, or_false] at hc
  rcases hc with rfl
  · exact ⟨_, rfl, fun R s args rm mc ms hw hN h1 h2 h3 => xcu_abs n939 q938 q940 q951 q952 q123 q953 (by decide +kernel) (by decide +kernel) (by decide +kernel) hw hN h1 h2 h3⟩
theorem xcv_X18_26 : xCV RX18 26 "AshCity$Sum" ⟨"AshCity$Sum", "worth", "(LAshCity$Asked;)I"⟩ (some .int) 1 al_worth := by
  intro x hx
  simp only [al_worth, List.mem_cons, List.not_mem_nil, or_false] at hx
  rcases hx with rfl | rfl | rfl
  · exact xcu_X18_26_X16
  · exact xcu_X18_26_X17
  · exact xcu_X18_26_X15
theorem xfl_X18_17 : xFl RX18 17 [18] 1 (.object "AshCity$Sum") true := by
  refine ⟨"AshCity$Compared", "y", "LAshCity$Sum;", Or.inl q860, fun c hc => ?_⟩
  simp only [List.mem_cons, List.not_mem_nil, or_false] at hc
  rcases hc with rfl
  · exact ⟨_, _, _, _, xcl_18, by decide, rfl, rfl⟩
theorem xfl_X18_13 : xFl RX18 13 [18] 2 .int true := by
  refine ⟨"AshCity$Compared", "sign", "I", Or.inl q861, fun c hc => ?_⟩
  simp only [List.mem_cons, List.not_mem_nil, or_false] at hc
  rcases hc with rfl
  · exact ⟨_, _, _, _, xcl_18, by decide, rfl, rfl⟩
theorem xfl_X13_7 : xFl RX13 7 [13] 0 (.object "AshCity$Condition") true := by
  refine ⟨"AshCity$Not", "x", "LAshCity$Condition;", Or.inl q795, fun c hc => ?_⟩
  simp only [List.mem_cons, List.not_mem_nil, or_false] at hc
  rcases hc with rfl
  · exact ⟨_, _, _, _, xcl_13, by decide, rfl, rfl⟩
theorem xcu_X13_13_X18 : xCU RX13 13 [18] "AshCity$Condition" ⟨"AshCity$Condition", "holds", "(LAshCity$Asked;)I"⟩ yX18_holds cX18_holds 5 (some .int) 1 := by
  refine ⟨fun c hc => ?_, by decide⟩
  simp only [List.mem_cons, List.not_mem_nil, or_false] at hc
  rcases hc with rfl
  · exact ⟨_, rfl, fun R s args rm mc ms hw hN h1 h2 h3 => xcu_abs n933 q961 q934 q935 q936 q126 q937 (by decide +kernel) (by decide +kernel) (by decide +kernel) hw hN h1 h2 h3⟩
theorem xcu_X13_13_X13 : xCU RX13 13 [13] "AshCity$Condition" ⟨"AshCity$Condition", "holds", "(LAshCity$Asked;)I"⟩ yX13_holds cX13_holds 3 (some .int) 1 := by
  refine ⟨fun c hc => ?_, by decide⟩
  simp only [List.mem_cons, List.not_mem_nil, or_false] at hc
  rcases hc with rfl
  · exact ⟨_, rfl, fun R s args rm mc ms hw hN h1 h2 h3 => xcu_abs n933 q961 q934 q958 q959 q121 q960 (by decide +kernel) (by decide +kernel) (by decide +kernel) hw hN h1 h2 h3⟩
theorem xcu_X13_13_X12 : xCU RX13 13 [12] "AshCity$Condition" ⟨"AshCity$Condition", "holds", "(LAshCity$Asked;)I"⟩ yX12_holds cX12_holds 4 (some .int) 1 := by
  refine ⟨fun c hc => ?_, by decide⟩
  simp only [List.mem_cons, List.not_mem_nil, or_false] at hc
  rcases hc with rfl
  · exact ⟨_, rfl, fun R s args rm mc ms hw hN h1 h2 h3 => xcu_abs n933 q961 q934 q965 q962 q120 q963 (by decide +kernel) (by decide +kernel) (by decide +kernel) hw hN h1 h2 h3⟩
theorem xcv_X13_13 : xCV RX13 13 "AshCity$Condition" ⟨"AshCity$Condition", "holds", "(LAshCity$Asked;)I"⟩ (some .int) 1 al_holds := by
  intro x hx
  simp only [al_holds, List.mem_cons, List.not_mem_nil, or_false] at hx
  rcases hx with rfl | rfl | rfl
  · exact xcu_X13_13_X18
  · exact xcu_X13_13_X13
  · exact xcu_X13_13_X12
theorem xfl_X12_13 : xFl RX12 13 [12] 1 .int true := by
  refine ⟨"AshCity$Some", "decides", "I", Or.inl q874, fun c hc => ?_⟩
  simp only [List.mem_cons, List.not_mem_nil, or_false] at hc
  rcases hc with rfl
  · exact ⟨_, _, _, _, xcl_12, by decide, rfl, rfl⟩
theorem xfl_X12_7 : xFl RX12 7 [12] 0 (.object "AshCity$Condition") true := by
  refine ⟨"AshCity$Some", "part", "LAshCity$Condition;", Or.inl q873, fun c hc => ?_⟩
  simp only [List.mem_cons, List.not_mem_nil, or_false] at hc
  rcases hc with rfl
  · exact ⟨_, _, _, _, xcl_12, by decide, rfl, rfl⟩
theorem xcu_X12_17_X18 : xCU RX12 17 [18] "AshCity$Condition" ⟨"AshCity$Condition", "holds", "(LAshCity$Asked;)I"⟩ yX18_holds cX18_holds 5 (some .int) 1 := by
  refine ⟨fun c hc => ?_, by decide⟩
  simp only [List.mem_cons, List.not_mem_nil, or_false] at hc
  rcases hc with rfl
  · exact ⟨_, rfl, fun R s args rm mc ms hw hN h1 h2 h3 => xcu_abs n933 q964 q934 q935 q936 q126 q937 (by decide +kernel) (by decide +kernel) (by decide +kernel) hw hN h1 h2 h3⟩
theorem xcu_X12_17_X13 : xCU RX12 17 [13] "AshCity$Condition" ⟨"AshCity$Condition", "holds", "(LAshCity$Asked;)I"⟩ yX13_holds cX13_holds 3 (some .int) 1 := by
  refine ⟨fun c hc => ?_, by decide⟩
  simp only [List.mem_cons, List.not_mem_nil, or_false] at hc
  rcases hc with rfl
  · exact ⟨_, rfl, fun R s args rm mc ms hw hN h1 h2 h3 => xcu_abs n933 q964 q934 q958 q959 q121 q960 (by decide +kernel) (by decide +kernel) (by decide +kernel) hw hN h1 h2 h3⟩
theorem xcu_X12_17_X12 : xCU RX12 17 [12] "AshCity$Condition" ⟨"AshCity$Condition", "holds", "(LAshCity$Asked;)I"⟩ yX12_holds cX12_holds 4 (some .int) 1 := by
  refine ⟨fun c hc => ?_, by decide⟩
  simp only [List.mem_cons, List.not_mem_nil, or_false] at hc
  rcases hc with rfl
  · exact ⟨_, rfl, fun R s args rm mc ms hw hN h1 h2 h3 => xcu_abs n933 q964 q934 q965 q962 q120 q963 (by decide +kernel) (by decide +kernel) (by decide +kernel) hw hN h1 h2 h3⟩
theorem xcv_X12_17 : xCV RX12 17 "AshCity$Condition" ⟨"AshCity$Condition", "holds", "(LAshCity$Asked;)I"⟩ (some .int) 1 al_holds := by
  intro x hx
  simp only [al_holds, List.mem_cons, List.not_mem_nil, or_false] at hx
  rcases hx with rfl | rfl | rfl
  · exact xcu_X12_17_X18
  · exact xcu_X12_17_X13
  · exact xcu_X12_17_X12
theorem xfl_X12_21 : xFl RX12 21 [12] 2 (.object "AshCity$Some") false := by
  refine ⟨"AshCity$Some", "next", "LAshCity$Some;", Or.inl q875, fun c hc => ?_⟩
  simp only [List.mem_cons, List.not_mem_nil, or_false] at hc
  rcases hc with rfl
  · exact ⟨_, _, _, _, xcl_12, by decide, rfl, rfl⟩
theorem xfl_X10_13 : xFl RX10 13 [10] 3 (.object "AshCity$Condition") false := by
  refine ⟨"AshCity$Clause", "condition", "LAshCity$Condition;", Or.inl q742, fun c hc => ?_⟩
  simp only [List.mem_cons, List.not_mem_nil, or_false] at hc
  rcases hc with rfl
  · exact ⟨_, _, _, _, xcl_10, by decide, rfl, rfl⟩
theorem xcu_X10_17_X18 : xCU RX10 17 [18] "AshCity$Condition" ⟨"AshCity$Condition", "holds", "(LAshCity$Asked;)I"⟩ yX18_holds cX18_holds 5 (some .int) 1 := by
  refine ⟨fun c hc => ?_, by decide⟩
  simp only [List.mem_cons, List.not_mem_nil, or_false] at hc
  rcases hc with rfl
  · exact ⟨_, rfl, fun R s args rm mc ms hw hN h1 h2 h3 => xcu_abs n933 q932 q934 q935 q936 q126 q937 (by decide +kernel) (by decide +kernel) (by decide +kernel) hw hN h1 h2 h3⟩
theorem xcu_X10_17_X13 : xCU RX10 17 [13] "AshCity$Condition" ⟨"AshCity$Condition", "holds", "(LAshCity$Asked;)I"⟩ yX13_holds cX13_holds 3 (some .int) 1 := by
  refine ⟨fun c hc => ?_, by decide⟩
  simp only [List.mem_cons, List.not_mem_nil, or_false] at hc
  rcases hc with rfl
  · exact ⟨_, rfl, fun R s args rm mc ms hw hN h1 h2 h3 => xcu_abs n933 q932 q934 q958 q959 q121 q960 (by decide +kernel) (by decide +kernel) (by decide +kernel) hw hN h1 h2 h3⟩
theorem xcu_X10_17_X12 : xCU RX10 17 [12] "AshCity$Condition" ⟨"AshCity$Condition", "holds", "(LAshCity$Asked;)I"⟩ yX12_holds cX12_holds 4 (some .int) 1 := by
  refine ⟨fun c hc => ?_, by decide⟩
  simp only [List.mem_cons, List.not_mem_nil, or_false] at hc
  rcases hc with rfl
  · exact ⟨_, rfl, fun R s args rm mc ms hw hN h1 h2 h3 => xcu_abs n933 q932 q934 q965 q962 q120 q963 (by decide +kernel) (by decide +kernel) (by decide +kernel) hw hN h1 h2 h3⟩
theorem xcv_X10_17 : xCV RX10 17 "AshCity$Condition" ⟨"AshCity$Condition", "holds", "(LAshCity$Asked;)I"⟩ (some .int) 1 al_holds := by
  intro x hx
  simp only [al_holds, List.mem_cons, List.not_mem_nil, or_false] at hx
  rcases hx with rfl | rfl | rfl
  · exact xcu_X10_17_X18
  · exact xcu_X10_17_X13
  · exact xcu_X10_17_X12
theorem xfl_X9_21 : xFl RX9 21 [9] 3 .int true := by
  refine ⟨"AshCity$Rules", "from", "I", Or.inl q595, fun c hc => ?_⟩
  simp only [List.mem_cons, List.not_mem_nil, or_false] at hc
  rcases hc with rfl
  · exact ⟨_, _, _, _, xcl_9, by decide, rfl, rfl⟩
theorem xfl_X9_25 : xFl RX9 25 [9] 4 .int true := by
  refine ⟨"AshCity$Rules", "to", "I", Or.inl q596, fun c hc => ?_⟩
  simp only [List.mem_cons, List.not_mem_nil, or_false] at hc
  rcases hc with rfl
  · exact ⟨_, _, _, _, xcl_9, by decide, rfl, rfl⟩
theorem xcn_X9_152 : sCn RX9 152 yX0_within cX0_within 3 (some .boolean) 3 := ⟨q312, q102, n927, q311, by decide +kernel, by decide⟩
theorem xfl_X0_281 : xFl RX0 281 [9] 1 (.array .boolean) true := by
  refine ⟨"AshCity$Rules", "isStruck", "[Z", Or.inr n592, fun c hc => ?_⟩
  simp only [List.mem_cons, List.not_mem_nil, or_false] at hc
  rcases hc with rfl
  · exact ⟨_, _, _, _, xcl_9, by decide, rfl, rfl⟩
theorem xcw_X0_285 : xCw RX0 285 9 RX9 yX9_isInForce cX9_isInForce 2 (some .boolean) 1 := ⟨⟨_, rfl, rfl⟩, lw_V q923 q924 q925 q111 q926, by decide +kernel, by decide⟩
theorem xfl_X0_288 : xFl RX0 288 [9] 2 .int false := by
  refine ⟨"AshCity$Rules", "many", "I", Or.inr n594, fun c hc => ?_⟩
  simp only [List.mem_cons, List.not_mem_nil, or_false] at hc
  rcases hc with rfl
  · exact ⟨_, _, _, _, xcl_9, by decide, rfl, rfl⟩
theorem xfl_X0_291 : xFl RX0 291 [9] 0 (.array (.object "AshCity$Clause")) true := by
  refine ⟨"AshCity$Rules", "clauses", "[LAshCity$Clause;", Or.inr n590, fun c hc => ?_⟩
  simp only [List.mem_cons, List.not_mem_nil, or_false] at hc
  rcases hc with rfl
  · exact ⟨_, _, _, _, xcl_9, by decide, rfl, rfl⟩
theorem xfl_X0_295 : xFl RX0 295 [10] 0 .int true := by
  refine ⟨"AshCity$Clause", "letter", "I", Or.inr n737, fun c hc => ?_⟩
  simp only [List.mem_cons, List.not_mem_nil, or_false] at hc
  rcases hc with rfl
  · exact ⟨_, _, _, _, xcl_10, by decide, rfl, rfl⟩
theorem xfl_X0_300 : xFl RX0 300 [10] 1 .int false := by
  refine ⟨"AshCity$Clause", "number", "I", Or.inr n739, fun c hc => ?_⟩
  simp only [List.mem_cons, List.not_mem_nil, or_false] at hc
  rcases hc with rfl
  · exact ⟨_, _, _, _, xcl_10, by decide, rfl, rfl⟩
theorem xfl_X0_301 : xFl RX0 301 [10] 2 .int false := by
  refine ⟨"AshCity$Clause", "other", "I", Or.inr n741, fun c hc => ?_⟩
  simp only [List.mem_cons, List.not_mem_nil, or_false] at hc
  rcases hc with rfl
  · exact ⟨_, _, _, _, xcl_10, by decide, rfl, rfl⟩
theorem xfl_X0_304 : xFl RX0 304 [19] 0 .int true := by
  refine ⟨"AshCity$Asked", "week", "I", Or.inr n895, fun c hc => ?_⟩
  simp only [List.mem_cons, List.not_mem_nil, or_false] at hc
  rcases hc with rfl
  · exact ⟨_, _, _, _, xcl_19, by decide, rfl, rfl⟩
theorem xcw_X0_309 : xCw RX0 309 0 RX0 yX0_strikes cX0_strikes 6 none 1 := ⟨⟨_, rfl, rfl⟩, lw_V q919 q921 qs23 q102 q922, by decide +kernel, by decide⟩
theorem xcw_X0_312 : xCw RX0 312 10 RX10 yX10_holds cX10_holds 2 (some .boolean) 1 := ⟨⟨_, rfl, rfl⟩, lw_V q928 q929 q930 q118 q931, by decide +kernel, by decide⟩
theorem xnew_X0_305 : xNew RX0 305 19 RX19 TX19 6 tyX19 := ⟨q888, q889, q127, xcl_19⟩
theorem xfl_X0_316 : xFl RX0 316 [3] 1 .int true := by
  refine ⟨"AshCity$Place", "kind", "I", Or.inr n366, fun c hc => ?_⟩
  simp only [List.mem_cons, List.not_mem_nil, or_false] at hc
  rcases hc with rfl
  · exact ⟨_, _, _, _, xcl_3, by decide, rfl, rfl⟩
theorem xci_X0_319 : xCi RX0 319 yX19_init cX19_init 6 5 := ⟨q892, q127, q890, q891, rfl, by decide +kernel, by decide⟩
theorem xcw_X0_324 : xCw RX0 324 0 RX0 yX0_numberings cX0_numberings 6 (some .int) 1 := ⟨⟨_, rfl, rfl⟩, lw_V q966 q968 qs24 q102 q969, by decide +kernel, by decide⟩
theorem xcw_X0_320 : xCw RX0 320 0 RX0 yX0_numberOf cX0_numberOf 7 (some .int) 3 := ⟨⟨_, rfl, rfl⟩, lw_V q915 q917 qs22 q102 q918, by decide +kernel, by decide⟩
theorem xfw_X20_7 : ∀ c ∈ [20], ∃ (C : String) (T : u_T) (N : Nat) (ty : Nat → FieldType), xCl c C T N ty ∧ 0 < N ∧ T 0 = (RX20, "hand", "I", true) ∧ ty 0 = .int := by
  intro c hc
  simp only [List.mem_cons, List.not_mem_nil, or_false] at hc
  rcases hc with rfl
  · exact ⟨_, _, _, _, xcl_20, by decide, rfl, rfl⟩
theorem xfw_X20_13 : ∀ c ∈ [20], ∃ (C : String) (T : u_T) (N : Nat) (ty : Nat → FieldType), xCl c C T N ty ∧ 1 < N ∧ T 1 = (RX20, "from", "I", true) ∧ ty 1 = .int := by
  intro c hc
  simp only [List.mem_cons, List.not_mem_nil, or_false] at hc
  rcases hc with rfl
  · exact ⟨_, _, _, _, xcl_20, by decide, rfl, rfl⟩
theorem xfw_X20_16 : ∀ c ∈ [20], ∃ (C : String) (T : u_T) (N : Nat) (ty : Nat → FieldType), xCl c C T N ty ∧ 2 < N ∧ T 2 = (RX20, "to", "I", true) ∧ ty 2 = .int := by
  intro c hc
  simp only [List.mem_cons, List.not_mem_nil, or_false] at hc
  rcases hc with rfl
  · exact ⟨_, _, _, _, xcl_20, by decide, rfl, rfl⟩
theorem xfw_X20_19 : ∀ c ∈ [20], ∃ (C : String) (T : u_T) (N : Nat) (ty : Nat → FieldType), xCl c C T N ty ∧ 3 < N ∧ T 3 = (RX20, "number", "I", true) ∧ ty 3 = .int := by
  intro c hc
  simp only [List.mem_cons, List.not_mem_nil, or_false] at hc
  rcases hc with rfl
  · exact ⟨_, _, _, _, xcl_20, by decide, rfl, rfl⟩
theorem xfw_X20_22 : ∀ c ∈ [20], ∃ (C : String) (T : u_T) (N : Nat) (ty : Nat → FieldType), xCl c C T N ty ∧ 4 < N ∧ T 4 = (RX20, "top", "I", true) ∧ ty 4 = .int := by
  intro c hc
  simp only [List.mem_cons, List.not_mem_nil, or_false] at hc
  rcases hc with rfl
  · exact ⟨_, _, _, _, xcl_20, by decide, rfl, rfl⟩
theorem xfw_X20_25 : ∀ c ∈ [20], ∃ (C : String) (T : u_T) (N : Nat) (ty : Nat → FieldType), xCl c C T N ty ∧ 5 < N ∧ T 5 = (RX20, "bottom", "I", true) ∧ ty 5 = .int := by
  intro c hc
  simp only [List.mem_cons, List.not_mem_nil, or_false] at hc
  rcases hc with rfl
  · exact ⟨_, _, _, _, xcl_20, by decide, rfl, rfl⟩
theorem xfw_X20_28 : ∀ c ∈ [20], ∃ (C : String) (T : u_T) (N : Nat) (ty : Nat → FieldType), xCl c C T N ty ∧ 6 < N ∧ T 6 = (RX20, "kind", "I", true) ∧ ty 6 = .int := by
  intro c hc
  simp only [List.mem_cons, List.not_mem_nil, or_false] at hc
  rcases hc with rfl
  · exact ⟨_, _, _, _, xcl_20, by decide, rfl, rfl⟩
theorem xfw_X20_31 : ∀ c ∈ [20], ∃ (C : String) (T : u_T) (N : Nat) (ty : Nat → FieldType), xCl c C T N ty ∧ 7 < N ∧ T 7 = (RX20, "marks", "I", true) ∧ ty 7 = .int := by
  intro c hc
  simp only [List.mem_cons, List.not_mem_nil, or_false] at hc
  rcases hc with rfl
  · exact ⟨_, _, _, _, xcl_20, by decide, rfl, rfl⟩
theorem xfw_X20_34 : ∀ c ∈ [20], ∃ (C : String) (T : u_T) (N : Nat) (ty : Nat → FieldType), xCl c C T N ty ∧ 8 < N ∧ T 8 = (RX20, "told", "I", true) ∧ ty 8 = .int := by
  intro c hc
  simp only [List.mem_cons, List.not_mem_nil, or_false] at hc
  rcases hc with rfl
  · exact ⟨_, _, _, _, xcl_20, by decide, rfl, rfl⟩
theorem xnew_X0_57 : xNew RX0 57 20 RX20 TX20 9 tyX20 := ⟨q151, q974, q128, xcl_20⟩
theorem xci_X0_331 : xCi RX0 331 yX20_init cX20_init 10 9 := ⟨q977, q128, q975, q976, rfl, by decide +kernel, by decide⟩
theorem xel_7 : xEl 7 [20] := by
  refine ⟨"AshCity$Find", fun _ => rfl, fun c hc => ?_⟩
  simp only [List.mem_cons, List.not_mem_nil, or_false] at hc
  rcases hc with rfl
  · exact ⟨_, _, _, _, xcl_20, Or.inl rfl⟩
theorem xfl_X0_351 : xFl RX0 351 [20] 3 .int true := by
  refine ⟨"AshCity$Find", "number", "I", Or.inr n986, fun c hc => ?_⟩
  simp only [List.mem_cons, List.not_mem_nil, or_false] at hc
  rcases hc with rfl
  · exact ⟨_, _, _, _, xcl_20, by decide, rfl, rfl⟩
theorem xfl_X0_352 : xFl RX0 352 [20] 6 .int true := by
  refine ⟨"AshCity$Find", "kind", "I", Or.inr n992, fun c hc => ?_⟩
  simp only [List.mem_cons, List.not_mem_nil, or_false] at hc
  rcases hc with rfl
  · exact ⟨_, _, _, _, xcl_20, by decide, rfl, rfl⟩
theorem xfl_X0_353 : xFl RX0 353 [20] 7 .int true := by
  refine ⟨"AshCity$Find", "marks", "I", Or.inr n995, fun c hc => ?_⟩
  simp only [List.mem_cons, List.not_mem_nil, or_false] at hc
  rcases hc with rfl
  · exact ⟨_, _, _, _, xcl_20, by decide, rfl, rfl⟩
theorem xfl_X0_356 : xFl RX0 356 [3] 0 .int true := by
  refine ⟨"AshCity$Place", "number", "I", Or.inr n364, fun c hc => ?_⟩
  simp only [List.mem_cons, List.not_mem_nil, or_false] at hc
  rcases hc with rfl
  · exact ⟨_, _, _, _, xcl_3, by decide, rfl, rfl⟩
theorem xcu_X0_334 : xCU RX0 334 [5, 6] "AshCity$Dig" ⟨"AshCity$Dig", "finds", "()Z"⟩ yX4_finds cX4_finds 1 (some .boolean) 0 := by
  refine ⟨fun c hc => ?_, by decide⟩
  simp only [List.mem_cons, List.not_mem_nil, or_false] at hc
  rcases hc with rfl | rfl
  · exact ⟨_, rfl, fun R s args rm mc ms hw hN h1 h2 h3 => xcu_inh rfl q1029 q1031 q1032 q1030 q106 q1037 (by decide +kernel) (by decide +kernel) (by decide +kernel) hw hN h1 h2 h3⟩
  · exact ⟨_, rfl, fun R s args rm mc ms hw hN h1 h2 h3 => xcu_inh rfl q1029 q1031 q1036 q1030 q106 q1037 (by decide +kernel) (by decide +kernel) (by decide +kernel) hw hN h1 h2 h3⟩
theorem xcu_X0_334_X7 : xCU RX0 334 [7] "AshCity$Dig" ⟨"AshCity$Dig", "finds", "()Z"⟩ yX7_finds cX7_finds 1 (some .boolean) 0 := by
  refine ⟨fun c hc => ?_, by decide⟩
  simp only [List.mem_cons, List.not_mem_nil, or_false] at hc
  rcases hc with rfl
  · exact ⟨_, rfl, fun R s args rm mc ms hw hN h1 h2 h3 => xcu_ovr q1037 q1030 q1029 q1031 q1033 q1034 q109 q1035 (by decide +kernel) (by decide +kernel) (by decide +kernel) hw hN h1 h2 h3⟩
theorem xcv_X0_334 : xCV RX0 334 "AshCity$Dig" ⟨"AshCity$Dig", "finds", "()Z"⟩ (some .boolean) 0 al_finds := by
  intro x hx
  simp only [al_finds, List.mem_cons, List.not_mem_nil, or_false] at hx
  rcases hx with rfl | rfl
  · exact xcu_X0_334
  · exact xcu_X0_334_X7
theorem xfl_X0_337 : xFl RX0 337 [5, 6, 7] 1 .int true := by
  refine ⟨"AshCity$Dig", "hand", "I", Or.inr n408, fun c hc => ?_⟩
  simp only [List.mem_cons, List.not_mem_nil, or_false] at hc
  rcases hc with rfl | rfl | rfl
  · exact ⟨_, _, _, _, xcl_5, by decide, rfl, rfl⟩
  · exact ⟨_, _, _, _, xcl_6, by decide, rfl, rfl⟩
  · exact ⟨_, _, _, _, xcl_7, by decide, rfl, rfl⟩
theorem xfl_X0_340 : xFl RX0 340 [20] 0 .int true := by
  refine ⟨"AshCity$Find", "hand", "I", Or.inr n980, fun c hc => ?_⟩
  simp only [List.mem_cons, List.not_mem_nil, or_false] at hc
  rcases hc with rfl
  · exact ⟨_, _, _, _, xcl_20, by decide, rfl, rfl⟩
theorem xfl_X0_341 : xFl RX0 341 [5, 6, 7] 5 .int true := by
  refine ⟨"AshCity$Dig", "to", "I", Or.inr n416, fun c hc => ?_⟩
  simp only [List.mem_cons, List.not_mem_nil, or_false] at hc
  rcases hc with rfl | rfl | rfl
  · exact ⟨_, _, _, _, xcl_5, by decide, rfl, rfl⟩
  · exact ⟨_, _, _, _, xcl_6, by decide, rfl, rfl⟩
  · exact ⟨_, _, _, _, xcl_7, by decide, rfl, rfl⟩
theorem xfl_X0_342 : xFl RX0 342 [5, 6, 7] 2 .int true := by
  refine ⟨"AshCity$Dig", "top", "I", Or.inr n410, fun c hc => ?_⟩
  simp only [List.mem_cons, List.not_mem_nil, or_false] at hc
  rcases hc with rfl | rfl | rfl
  · exact ⟨_, _, _, _, xcl_5, by decide, rfl, rfl⟩
  · exact ⟨_, _, _, _, xcl_6, by decide, rfl, rfl⟩
  · exact ⟨_, _, _, _, xcl_7, by decide, rfl, rfl⟩
theorem xfl_X0_345 : xFl RX0 345 [20] 5 .int true := by
  refine ⟨"AshCity$Find", "bottom", "I", Or.inr n990, fun c hc => ?_⟩
  simp only [List.mem_cons, List.not_mem_nil, or_false] at hc
  rcases hc with rfl
  · exact ⟨_, _, _, _, xcl_20, by decide, rfl, rfl⟩
theorem xfl_X0_348 : xFl RX0 348 [20] 4 .int true := by
  refine ⟨"AshCity$Find", "top", "I", Or.inr n988, fun c hc => ?_⟩
  simp only [List.mem_cons, List.not_mem_nil, or_false] at hc
  rcases hc with rfl
  · exact ⟨_, _, _, _, xcl_20, by decide, rfl, rfl⟩
theorem xfl_X0_349 : xFl RX0 349 [5, 6, 7] 3 .int true := by
  refine ⟨"AshCity$Dig", "bottom", "I", Or.inr n412, fun c hc => ?_⟩
  simp only [List.mem_cons, List.not_mem_nil, or_false] at hc
  rcases hc with rfl | rfl | rfl
  · exact ⟨_, _, _, _, xcl_5, by decide, rfl, rfl⟩
  · exact ⟨_, _, _, _, xcl_6, by decide, rfl, rfl⟩
  · exact ⟨_, _, _, _, xcl_7, by decide, rfl, rfl⟩
theorem xfl_X0_350 : xFl RX0 350 [5, 6, 7] 7 (.object "AshCity$Rectangle") true := by
  refine ⟨"AshCity$Dig", "where", "LAshCity$Rectangle;", Or.inr n419, fun c hc => ?_⟩
  simp only [List.mem_cons, List.not_mem_nil, or_false] at hc
  rcases hc with rfl | rfl | rfl
  · exact ⟨_, _, _, _, xcl_5, by decide, rfl, rfl⟩
  · exact ⟨_, _, _, _, xcl_6, by decide, rfl, rfl⟩
  · exact ⟨_, _, _, _, xcl_7, by decide, rfl, rfl⟩
theorem xfl_X0_357 : xFl RX0 357 [20] 1 .int true := by
  refine ⟨"AshCity$Find", "from", "I", Or.inr n982, fun c hc => ?_⟩
  simp only [List.mem_cons, List.not_mem_nil, or_false] at hc
  rcases hc with rfl
  · exact ⟨_, _, _, _, xcl_20, by decide, rfl, rfl⟩
theorem xfl_X0_358 : xFl RX0 358 [20] 2 .int true := by
  refine ⟨"AshCity$Find", "to", "I", Or.inr n984, fun c hc => ?_⟩
  simp only [List.mem_cons, List.not_mem_nil, or_false] at hc
  rcases hc with rfl
  · exact ⟨_, _, _, _, xcl_20, by decide, rfl, rfl⟩
theorem xcw_X0_359 : xCw RX0 359 0 RX0 yX0_isOpen cX0_isOpen 7 (some .boolean) 4 := ⟨⟨_, rfl, rfl⟩, lw_V q1025 q1027 qs26 q102 q1028, by decide +kernel, by decide⟩
theorem xcw_X0_363 : xCw RX0 363 0 RX0 yX0_isMeant cX0_isMeant 7 (some .boolean) 4 := ⟨⟨_, rfl, rfl⟩, lw_V q1038 q1040 qs27 q102 q1041, by decide +kernel, by decide⟩
theorem xfl_X0_366 : xFl RX0 366 [20] 8 .int true := by
  refine ⟨"AshCity$Find", "told", "I", Or.inr n997, fun c hc => ?_⟩
  simp only [List.mem_cons, List.not_mem_nil, or_false] at hc
  rcases hc with rfl
  · exact ⟨_, _, _, _, xcl_20, by decide, rfl, rfl⟩
theorem xcw_X0_369 : xCw RX0 369 0 RX0 yX0_mayOf cX0_mayOf 8 (some .int) 3 := ⟨⟨_, rfl, rfl⟩, lw_V q1021 q1023 qs25 q102 q1024, by decide +kernel, by decide⟩
theorem xcs_X0_1 : sCw RX0 1 yJ6_bitCount cJ6_bitCount 1 (some .int) 1 := ⟨lw_S q1049 q1050 q129 q1051, by decide +kernel, by decide⟩
theorem xcs_X0_373 : sCw RX0 373 yX0_sizeOf cX0_sizeOf 1 (some .int) 1 := ⟨lw_S q1046 q1047 q102 q1048, by decide +kernel, by decide⟩
theorem xcu_X0_376_X5 : xCU RX0 376 [5] "AshCity$Dig" ⟨"AshCity$Dig", "kind", "()I"⟩ yX5_kind cX5_kind 1 (some .int) 0 := by
  refine ⟨fun c hc => ?_, by decide⟩
  simp only [List.mem_cons, List.not_mem_nil, or_false] at hc
  rcases hc with rfl
  · exact ⟨_, rfl, fun R s args rm mc ms hw hN h1 h2 h3 => xcu_abs n1068 q1067 q1069 q1070 q1071 q107 q1072 (by decide +kernel) (by decide +kernel) (by decide +kernel) hw hN h1 h2 h3⟩
theorem xcu_X0_376_X6 : xCU RX0 376 [6] "AshCity$Dig" ⟨"AshCity$Dig", "kind", "()I"⟩ yX6_kind cX6_kind 1 (some .int) 0 := by
  refine ⟨fun c hc => ?_, by decide⟩
  simp only [List.mem_cons, List.not_mem_nil, or_false] at hc
  rcases hc with rfl
  · exact ⟨_, rfl, fun R s args rm mc ms hw hN h1 h2 h3 => xcu_abs n1068 q1067 q1069 q1076 q1077 q108 q1078 (by decide +kernel) (by decide +kernel) (by decide +kernel) hw hN h1 h2 h3⟩
theorem xcu_X0_376_X7 : xCU RX0 376 [7] "AshCity$Dig" ⟨"AshCity$Dig", "kind", "()I"⟩ yX7_kind cX7_kind 1 (some .int) 0 := by
  refine ⟨fun c hc => ?_, by decide⟩
  simp only [List.mem_cons, List.not_mem_nil, or_false] at hc
  rcases hc with rfl
  · exact ⟨_, rfl, fun R s args rm mc ms hw hN h1 h2 h3 => xcu_abs n1068 q1067 q1069 q1073 q1074 q109 q1075 (by decide +kernel) (by decide +kernel) (by decide +kernel) hw hN h1 h2 h3⟩
theorem xcv_X0_376 : xCV RX0 376 "AshCity$Dig" ⟨"AshCity$Dig", "kind", "()I"⟩ (some .int) 0 al_kind := by
  intro x hx
  simp only [al_kind, List.mem_cons, List.not_mem_nil, or_false] at hx
  rcases hx with rfl | rfl | rfl
  · exact xcu_X0_376_X5
  · exact xcu_X0_376_X6
  · exact xcu_X0_376_X7
theorem xfw_X21_7 : ∀ c ∈ [21], ∃ (C : String) (T : u_T) (N : Nat) (ty : Nat → FieldType), xCl c C T N ty ∧ 0 < N ∧ T 0 = (RX21, "museum", "I", true) ∧ ty 0 = .int := by
  intro c hc
  simp only [List.mem_cons, List.not_mem_nil, or_false] at hc
  rcases hc with rfl
  · exact ⟨_, _, _, _, xcl_21, by decide, rfl, rfl⟩
theorem xfw_X21_13 : ∀ c ∈ [21], ∃ (C : String) (T : u_T) (N : Nat) (ty : Nat → FieldType), xCl c C T N ty ∧ 1 < N ∧ T 1 = (RX21, "kind", "I", true) ∧ ty 1 = .int := by
  intro c hc
  simp only [List.mem_cons, List.not_mem_nil, or_false] at hc
  rcases hc with rfl
  · exact ⟨_, _, _, _, xcl_21, by decide, rfl, rfl⟩
theorem xfw_X21_16 : ∀ c ∈ [21], ∃ (C : String) (T : u_T) (N : Nat) (ty : Nat → FieldType), xCl c C T N ty ∧ 2 < N ∧ T 2 = (RX21, "marks", "I", true) ∧ ty 2 = .int := by
  intro c hc
  simp only [List.mem_cons, List.not_mem_nil, or_false] at hc
  rcases hc with rfl
  · exact ⟨_, _, _, _, xcl_21, by decide, rfl, rfl⟩
theorem xnew_X0_63 : xNew RX0 63 21 RX21 TX21 4 tyX21 := ⟨q153, q1083, q130, xcl_21⟩
theorem xci_X0_381 : xCi RX0 381 yX21_init cX21_init 4 3 := ⟨q1086, q130, q1084, q1085, rfl, by decide +kernel, by decide⟩
theorem xel_8 : xEl 8 [21] := by
  refine ⟨"AshCity$Thing", fun _ => rfl, fun c hc => ?_⟩
  simp only [List.mem_cons, List.not_mem_nil, or_false] at hc
  rcases hc with rfl
  · exact ⟨_, _, _, _, xcl_21, Or.inl rfl⟩
theorem xfl_X0_384 : xFl RX0 384 [21] 3 .boolean false := by
  refine ⟨"AshCity$Thing", "isGone", "Z", Or.inr n1093, fun c hc => ?_⟩
  simp only [List.mem_cons, List.not_mem_nil, or_false] at hc
  rcases hc with rfl
  · exact ⟨_, _, _, _, xcl_21, by decide, rfl, rfl⟩
theorem xfl_X21_16 : xFl RX21 16 [21] 2 .int true := by
  refine ⟨"AshCity$Thing", "marks", "I", Or.inl q1092, fun c hc => ?_⟩
  simp only [List.mem_cons, List.not_mem_nil, or_false] at hc
  rcases hc with rfl
  · exact ⟨_, _, _, _, xcl_21, by decide, rfl, rfl⟩
theorem xfl_X21_19 : xFl RX21 19 [20] 7 .int true := by
  refine ⟨"AshCity$Find", "marks", "I", Or.inr n994, fun c hc => ?_⟩
  simp only [List.mem_cons, List.not_mem_nil, or_false] at hc
  rcases hc with rfl
  · exact ⟨_, _, _, _, xcl_20, by decide, rfl, rfl⟩
theorem xcn_X21_22 : sCn RX21 22 yX0_sizeOf cX0_sizeOf 1 (some .int) 1 := ⟨q1048, q102, n1122, q1047, by decide +kernel, by decide⟩
theorem xfl_X0_388 : xFl RX0 388 [21] 1 .int true := by
  refine ⟨"AshCity$Thing", "kind", "I", Or.inr n1091, fun c hc => ?_⟩
  simp only [List.mem_cons, List.not_mem_nil, or_false] at hc
  rcases hc with rfl
  · exact ⟨_, _, _, _, xcl_21, by decide, rfl, rfl⟩
theorem xcw_X0_389 : xCw RX0 389 21 RX21 yX21_agrees cX21_agrees 2 (some .int) 1 := ⟨⟨_, rfl, rfl⟩, lw_V q1118 q1119 q1120 q130 q1121, by decide +kernel, by decide⟩
theorem xcw_X0_393 : xCw RX0 393 0 RX0 yX0_wanted cX0_wanted 2 (some .int) 1 := ⟨⟨_, rfl, rfl⟩, lw_V q1111 q1113 qs28 q102 q1114, by decide +kernel, by decide⟩
theorem xcs_X0_396 : sCw RX0 396 yX0_fits cX0_fits 3 (some .boolean) 3 := ⟨lw_S q1115 q1116 q102 q1117, by decide +kernel, by decide⟩
theorem xcw_X0_409 : xCw RX0 409 0 RX0 yX0_asks cX0_asks 4 (some .boolean) 1 := ⟨⟨_, rfl, rfl⟩, lw_V q1127 q1129 qs29 q102 q1130, by decide +kernel, by decide⟩
theorem xcw_X0_412 : xCw RX0 412 0 RX0 yX0_most cX0_most 7 (some .int) 2 := ⟨⟨_, rfl, rfl⟩, lw_V q1131 q1133 qs30 q102 q1134, by decide +kernel, by decide⟩
theorem xfl_X0_419 : xFl RX0 419 [21] 0 .int true := by
  refine ⟨"AshCity$Thing", "museum", "I", Or.inr n1089, fun c hc => ?_⟩
  simp only [List.mem_cons, List.not_mem_nil, or_false] at hc
  rcases hc with rfl
  · exact ⟨_, _, _, _, xcl_21, by decide, rfl, rfl⟩
theorem xcw_X0_422 : xCw RX0 422 0 RX0 yX0_isLost cX0_isLost 4 (some .boolean) 1 := ⟨⟨_, rfl, rfl⟩, lw_V q1144 q1146 qs31 q102 q1147, by decide +kernel, by decide⟩
theorem xcw_X0_426 : xCw RX0 426 0 RX0 yX0_wouldBe cX0_wouldBe 5 (some .boolean) 2 := ⟨⟨_, rfl, rfl⟩, lw_V q1148 q1150 qs32 q102 q1151, by decide +kernel, by decide⟩
theorem xfw_X22_7 : ∀ c ∈ [22], ∃ (C : String) (T : u_T) (N : Nat) (ty : Nat → FieldType), xCl c C T N ty ∧ 0 < N ∧ T 0 = (RX22, "place", "I", true) ∧ ty 0 = .int := by
  intro c hc
  simp only [List.mem_cons, List.not_mem_nil, or_false] at hc
  rcases hc with rfl
  · exact ⟨_, _, _, _, xcl_22, by decide, rfl, rfl⟩
theorem xfw_X22_13 : ∀ c ∈ [22], ∃ (C : String) (T : u_T) (N : Nat) (ty : Nat → FieldType), xCl c C T N ty ∧ 1 < N ∧ T 1 = (RX22, "worth", "I", true) ∧ ty 1 = .int := by
  intro c hc
  simp only [List.mem_cons, List.not_mem_nil, or_false] at hc
  rcases hc with rfl
  · exact ⟨_, _, _, _, xcl_22, by decide, rfl, rfl⟩
theorem xnew_X0_83 : xNew RX0 83 22 RX22 TX22 2 tyX22 := ⟨q157, q1156, q131, xcl_22⟩
theorem xci_X0_433 : xCi RX0 433 yX22_init cX22_init 3 2 := ⟨q1159, q131, q1157, q1158, rfl, by decide +kernel, by decide⟩
theorem xel_10 : xEl 10 [22] := by
  refine ⟨"AshCity$Wall", fun _ => rfl, fun c hc => ?_⟩
  simp only [List.mem_cons, List.not_mem_nil, or_false] at hc
  rcases hc with rfl
  · exact ⟨_, _, _, _, xcl_22, Or.inl rfl⟩
theorem xfw_X23_7 : ∀ c ∈ [23], ∃ (C : String) (T : u_T) (N : Nat) (ty : Nat → FieldType), xCl c C T N ty ∧ 0 < N ∧ T 0 = (RX23, "number", "I", true) ∧ ty 0 = .int := by
  intro c hc
  simp only [List.mem_cons, List.not_mem_nil, or_false] at hc
  rcases hc with rfl
  · exact ⟨_, _, _, _, xcl_23, by decide, rfl, rfl⟩
theorem xfw_X23_13 : ∀ c ∈ [23], ∃ (C : String) (T : u_T) (N : Nat) (ty : Nat → FieldType), xCl c C T N ty ∧ 1 < N ∧ T 1 = (RX23, "wall", "I", true) ∧ ty 1 = .int := by
  intro c hc
  simp only [List.mem_cons, List.not_mem_nil, or_false] at hc
  rcases hc with rfl
  · exact ⟨_, _, _, _, xcl_23, by decide, rfl, rfl⟩
theorem xfw_X23_16 : ∀ c ∈ [23], ∃ (C : String) (T : u_T) (N : Nat) (ty : Nat → FieldType), xCl c C T N ty ∧ 2 < N ∧ T 2 = (RX23, "week", "I", true) ∧ ty 2 = .int := by
  intro c hc
  simp only [List.mem_cons, List.not_mem_nil, or_false] at hc
  rcases hc with rfl
  · exact ⟨_, _, _, _, xcl_23, by decide, rfl, rfl⟩
theorem xfw_X23_19 : ∀ c ∈ [23], ∃ (C : String) (T : u_T) (N : Nat) (ty : Nat → FieldType), xCl c C T N ty ∧ 3 < N ∧ T 3 = (RX23, "features", "I", true) ∧ ty 3 = .int := by
  intro c hc
  simp only [List.mem_cons, List.not_mem_nil, or_false] at hc
  rcases hc with rfl
  · exact ⟨_, _, _, _, xcl_23, by decide, rfl, rfl⟩
theorem xfw_X23_22 : ∀ c ∈ [23], ∃ (C : String) (T : u_T) (N : Nat) (ty : Nat → FieldType), xCl c C T N ty ∧ 5 < N ∧ T 5 = (RX23, "isCopy", "Z", true) ∧ ty 5 = .boolean := by
  intro c hc
  simp only [List.mem_cons, List.not_mem_nil, or_false] at hc
  rcases hc with rfl
  · exact ⟨_, _, _, _, xcl_23, by decide, rfl, rfl⟩
theorem xfw_X23_26 : ∀ c ∈ [23], ∃ (C : String) (T : u_T) (N : Nat) (ty : Nat → FieldType), xCl c C T N ty ∧ 4 < N ∧ T 4 = (RX23, "told", "I", true) ∧ ty 4 = .int := by
  intro c hc
  simp only [List.mem_cons, List.not_mem_nil, or_false] at hc
  rcases hc with rfl
  · exact ⟨_, _, _, _, xcl_23, by decide, rfl, rfl⟩
theorem xnew_X0_89 : xNew RX0 89 23 RX23 TX23 6 tyX23 := ⟨q159, q1177, q132, xcl_23⟩
theorem xci_X0_439 : xCi RX0 439 yX23_init cX23_init 7 6 := ⟨q1180, q132, q1178, q1179, rfl, by decide +kernel, by decide⟩
theorem xel_11 : xEl 11 [23] := by
  refine ⟨"AshCity$Drawing", fun _ => rfl, fun c hc => ?_⟩
  simp only [List.mem_cons, List.not_mem_nil, or_false] at hc
  rcases hc with rfl
  · exact ⟨_, _, _, _, xcl_23, Or.inl rfl⟩
theorem xcw_X0_442 : xCw RX0 442 0 RX0 yX0_draws cX0_draws 5 (some .int) 4 := ⟨⟨_, rfl, rfl⟩, lw_V q1173 q1175 qs33 q102 q1176, by decide +kernel, by decide⟩
theorem xfl_X0_446 : xFl RX0 446 [23] 1 .int true := by
  refine ⟨"AshCity$Drawing", "wall", "I", Or.inr n1185, fun c hc => ?_⟩
  simp only [List.mem_cons, List.not_mem_nil, or_false] at hc
  rcases hc with rfl
  · exact ⟨_, _, _, _, xcl_23, by decide, rfl, rfl⟩
theorem xfl_X0_449 : xFl RX0 449 [23] 3 .int true := by
  refine ⟨"AshCity$Drawing", "features", "I", Or.inr n1189, fun c hc => ?_⟩
  simp only [List.mem_cons, List.not_mem_nil, or_false] at hc
  rcases hc with rfl
  · exact ⟨_, _, _, _, xcl_23, by decide, rfl, rfl⟩
theorem xfl_X23_19 : xFl RX23 19 [23] 3 .int true := by
  refine ⟨"AshCity$Drawing", "features", "I", Or.inl q1188, fun c hc => ?_⟩
  simp only [List.mem_cons, List.not_mem_nil, or_false] at hc
  rcases hc with rfl
  · exact ⟨_, _, _, _, xcl_23, by decide, rfl, rfl⟩
theorem xfl_X0_452 : xFl RX0 452 [23] 5 .boolean true := by
  refine ⟨"AshCity$Drawing", "isCopy", "Z", Or.inr n1193, fun c hc => ?_⟩
  simp only [List.mem_cons, List.not_mem_nil, or_false] at hc
  rcases hc with rfl
  · exact ⟨_, _, _, _, xcl_23, by decide, rfl, rfl⟩
theorem xfl_X0_455 : xFl RX0 455 [23] 4 .int true := by
  refine ⟨"AshCity$Drawing", "told", "I", Or.inr n1191, fun c hc => ?_⟩
  simp only [List.mem_cons, List.not_mem_nil, or_false] at hc
  rcases hc with rfl
  · exact ⟨_, _, _, _, xcl_23, by decide, rfl, rfl⟩
theorem xfl_X0_456 : xFl RX0 456 [23] 2 .int true := by
  refine ⟨"AshCity$Drawing", "week", "I", Or.inr n1187, fun c hc => ?_⟩
  simp only [List.mem_cons, List.not_mem_nil, or_false] at hc
  rcases hc with rfl
  · exact ⟨_, _, _, _, xcl_23, by decide, rfl, rfl⟩
theorem xcw_X0_457 : xCw RX0 457 23 RX23 yX23_shows cX23_shows 2 (some .boolean) 1 := ⟨⟨_, rfl, rfl⟩, lw_V q1215 q1216 q1217 q132 q1218, by decide +kernel, by decide⟩
theorem xfl_X0_460 : xFl RX0 460 [23] 0 .int true := by
  refine ⟨"AshCity$Drawing", "number", "I", Or.inr n1183, fun c hc => ?_⟩
  simp only [List.mem_cons, List.not_mem_nil, or_false] at hc
  rcases hc with rfl
  · exact ⟨_, _, _, _, xcl_23, by decide, rfl, rfl⟩
theorem xcw_X0_464 : xCw RX0 464 0 RX0 yX0_settles cX0_settles 5 (some .boolean) 0 := ⟨⟨_, rfl, rfl⟩, lw_V q1231 q1233 qs34 q102 q1234, by decide +kernel, by decide⟩
theorem xcw_X0_467 : xCw RX0 467 0 RX0 yX0_laidBy cX0_laidBy 4 (some .int) 1 := ⟨⟨_, rfl, rfl⟩, lw_V q1247 q1249 qs35 q102 q1250, by decide +kernel, by decide⟩
theorem xcw_X0_470 : xCw RX0 470 0 RX0 yX0_isBorder cX0_isBorder 2 (some .boolean) 1 := ⟨⟨_, rfl, rfl⟩, lw_V q1251 q1253 qs36 q102 q1254, by decide +kernel, by decide⟩
theorem xfw_X24_7 : ∀ c ∈ [24], ∃ (C : String) (T : u_T) (N : Nat) (ty : Nat → FieldType), xCl c C T N ty ∧ 0 < N ∧ T 0 = (RX24, "name", "I", true) ∧ ty 0 = .int := by
  intro c hc
  simp only [List.mem_cons, List.not_mem_nil, or_false] at hc
  rcases hc with rfl
  · exact ⟨_, _, _, _, xcl_24, by decide, rfl, rfl⟩
theorem xfw_X24_13 : ∀ c ∈ [24], ∃ (C : String) (T : u_T) (N : Nat) (ty : Nat → FieldType), xCl c C T N ty ∧ 1 < N ∧ T 1 = (RX24, "kind", "I", true) ∧ ty 1 = .int := by
  intro c hc
  simp only [List.mem_cons, List.not_mem_nil, or_false] at hc
  rcases hc with rfl
  · exact ⟨_, _, _, _, xcl_24, by decide, rfl, rfl⟩
theorem xfw_X24_16 : ∀ c ∈ [24], ∃ (C : String) (T : u_T) (N : Nat) (ty : Nat → FieldType), xCl c C T N ty ∧ 2 < N ∧ T 2 = (RX24, "place", "I", true) ∧ ty 2 = .int := by
  intro c hc
  simp only [List.mem_cons, List.not_mem_nil, or_false] at hc
  rcases hc with rfl
  · exact ⟨_, _, _, _, xcl_24, by decide, rfl, rfl⟩
theorem xfw_X24_19 : ∀ c ∈ [24], ∃ (C : String) (T : u_T) (N : Nat) (ty : Nat → FieldType), xCl c C T N ty ∧ 3 < N ∧ T 3 = (RX24, "week", "I", true) ∧ ty 3 = .int := by
  intro c hc
  simp only [List.mem_cons, List.not_mem_nil, or_false] at hc
  rcases hc with rfl
  · exact ⟨_, _, _, _, xcl_24, by decide, rfl, rfl⟩
theorem xnew_X0_125 : xNew RX0 125 24 RX24 TX24 4 tyX24 := ⟨q161, q1259, q133, xcl_24⟩
theorem xci_X0_476 : xCi RX0 476 yX24_init cX24_init 5 4 := ⟨q1262, q133, q1260, q1261, rfl, by decide +kernel, by decide⟩
theorem xel_12 : xEl 12 [24] := by
  refine ⟨"AshCity$Sign", fun _ => rfl, fun c hc => ?_⟩
  simp only [List.mem_cons, List.not_mem_nil, or_false] at hc
  rcases hc with rfl
  · exact ⟨_, _, _, _, xcl_24, Or.inl rfl⟩
theorem xfl_X0_477 : xFl RX0 477 [24] 2 .int true := by
  refine ⟨"AshCity$Sign", "place", "I", Or.inr n1269, fun c hc => ?_⟩
  simp only [List.mem_cons, List.not_mem_nil, or_false] at hc
  rcases hc with rfl
  · exact ⟨_, _, _, _, xcl_24, by decide, rfl, rfl⟩
theorem xfl_X0_478 : xFl RX0 478 [24] 0 .int true := by
  refine ⟨"AshCity$Sign", "name", "I", Or.inr n1265, fun c hc => ?_⟩
  simp only [List.mem_cons, List.not_mem_nil, or_false] at hc
  rcases hc with rfl
  · exact ⟨_, _, _, _, xcl_24, by decide, rfl, rfl⟩
theorem xfl_X0_481 : xFl RX0 481 [24] 3 .int true := by
  refine ⟨"AshCity$Sign", "week", "I", Or.inr n1271, fun c hc => ?_⟩
  simp only [List.mem_cons, List.not_mem_nil, or_false] at hc
  rcases hc with rfl
  · exact ⟨_, _, _, _, xcl_24, by decide, rfl, rfl⟩
theorem xfl_X0_482 : xFl RX0 482 [24] 1 .int true := by
  refine ⟨"AshCity$Sign", "kind", "I", Or.inr n1267, fun c hc => ?_⟩
  simp only [List.mem_cons, List.not_mem_nil, or_false] at hc
  rcases hc with rfl
  · exact ⟨_, _, _, _, xcl_24, by decide, rfl, rfl⟩
theorem xfw_X25_7 : ∀ c ∈ [25], ∃ (C : String) (T : u_T) (N : Nat) (ty : Nat → FieldType), xCl c C T N ty ∧ 0 < N ∧ T 0 = (RX25, "wall", "I", true) ∧ ty 0 = .int := by
  intro c hc
  simp only [List.mem_cons, List.not_mem_nil, or_false] at hc
  rcases hc with rfl
  · exact ⟨_, _, _, _, xcl_25, by decide, rfl, rfl⟩
theorem xfw_X25_13 : ∀ c ∈ [25], ∃ (C : String) (T : u_T) (N : Nat) (ty : Nat → FieldType), xCl c C T N ty ∧ 1 < N ∧ T 1 = (RX25, "cost", "I", true) ∧ ty 1 = .int := by
  intro c hc
  simp only [List.mem_cons, List.not_mem_nil, or_false] at hc
  rcases hc with rfl
  · exact ⟨_, _, _, _, xcl_25, by decide, rfl, rfl⟩
theorem xfw_X25_16 : ∀ c ∈ [25], ∃ (C : String) (T : u_T) (N : Nat) (ty : Nat → FieldType), xCl c C T N ty ∧ 2 < N ∧ T 2 = (RX25, "hundredths", "I", true) ∧ ty 2 = .int := by
  intro c hc
  simp only [List.mem_cons, List.not_mem_nil, or_false] at hc
  rcases hc with rfl
  · exact ⟨_, _, _, _, xcl_25, by decide, rfl, rfl⟩
theorem xnew_X0_131 : xNew RX0 131 25 RX25 TX25 3 tyX25 := ⟨q163, q1289, q134, xcl_25⟩
theorem xci_X0_486 : xCi RX0 486 yX25_init cX25_init 4 3 := ⟨q1292, q134, q1290, q1291, rfl, by decide +kernel, by decide⟩
theorem xel_13 : xEl 13 [25] := by
  refine ⟨"AshCity$Work", fun _ => rfl, fun c hc => ?_⟩
  simp only [List.mem_cons, List.not_mem_nil, or_false] at hc
  rcases hc with rfl
  · exact ⟨_, _, _, _, xcl_25, Or.inl rfl⟩
theorem xfl_X0_487 : xFl RX0 487 [25] 1 .int true := by
  refine ⟨"AshCity$Work", "cost", "I", Or.inr n1297, fun c hc => ?_⟩
  simp only [List.mem_cons, List.not_mem_nil, or_false] at hc
  rcases hc with rfl
  · exact ⟨_, _, _, _, xcl_25, by decide, rfl, rfl⟩
theorem xfl_X0_491 : xFl RX0 491 [22] 1 .int true := by
  refine ⟨"AshCity$Wall", "worth", "I", Or.inr n1163, fun c hc => ?_⟩
  simp only [List.mem_cons, List.not_mem_nil, or_false] at hc
  rcases hc with rfl
  · exact ⟨_, _, _, _, xcl_22, by decide, rfl, rfl⟩
theorem xfl_X0_490 : xFl RX0 490 [25] 0 .int true := by
  refine ⟨"AshCity$Work", "wall", "I", Or.inr n1295, fun c hc => ?_⟩
  simp only [List.mem_cons, List.not_mem_nil, or_false] at hc
  rcases hc with rfl
  · exact ⟨_, _, _, _, xcl_25, by decide, rfl, rfl⟩
theorem xfl_X0_494 : xFl RX0 494 [25] 2 .int true := by
  refine ⟨"AshCity$Work", "hundredths", "I", Or.inr n1299, fun c hc => ?_⟩
  simp only [List.mem_cons, List.not_mem_nil, or_false] at hc
  rcases hc with rfl
  · exact ⟨_, _, _, _, xcl_25, by decide, rfl, rfl⟩
theorem xcw_X0_500 : xCw RX0 500 0 RX0 yX0_savedOn cX0_savedOn 5 (some .int) 2 := ⟨⟨_, rfl, rfl⟩, lw_V q1320 q1322 qs39 q102 q1323, by decide +kernel, by decide⟩
theorem xcw_X0_504 : xCw RX0 504 0 RX0 yX0_costOf cX0_costOf 4 (some .int) 1 := ⟨⟨_, rfl, rfl⟩, lw_V q1312 q1314 qs37 q102 q1315, by decide +kernel, by decide⟩
theorem xcw_X0_507 : xCw RX0 507 0 RX0 yX0_savedBy cX0_savedBy 4 (some .int) 1 := ⟨⟨_, rfl, rfl⟩, lw_V q1316 q1318 qs38 q102 q1319, by decide +kernel, by decide⟩
theorem xcw_X0_510 : xCw RX0 510 0 RX0 yX0_numberAt cX0_numberAt 4 (some .int) 1 := ⟨⟨_, rfl, rfl⟩, lw_V q1333 q1335 qs40 q102 q1336, by decide +kernel, by decide⟩
