/-! how many bits: one or not -/
theorem an_n (a b : Nat) : nI a &&& nI b = nI (a &&& b) := by
  apply Int32.toBitVec_inj.1
  show BitVec.ofNat 32 a &&& BitVec.ofNat 32 b = BitVec.ofNat 32 (a &&& b)
  apply BitVec.eq_of_getLsbD_eq
  intro i hi
  simp [BitVec.getLsbD_ofNat, hi]
theorem us_n {a : Nat} (ha : a < 4294967296) (c : UInt32) (k : Nat) (hc : (c.toBitVec % 32).toNat = k) : ((nI a).toUInt32 >>> c).toInt32 = nI (a / 2 ^ k) := by
  apply Int32.toBitVec_inj.1
  show ((nI a).toUInt32 >>> c).toBitVec = BitVec.ofNat 32 (a / 2 ^ k)
  rw [UInt32.toBitVec_shiftRight]
  show (BitVec.ofNat 32 a) >>> (c.toBitVec % 32).toNat = _
  rw [hc]
  apply BitVec.eq_of_toNat_eq
  rw [BitVec.toNat_ushiftRight, BitVec.toNat_ofNat, BitVec.toNat_ofNat, Nat.shiftRight_eq_div_pow, Nat.mod_eq_of_lt ha, Nat.mod_eq_of_lt (Nat.lt_of_le_of_lt (Nat.div_le_self _ _) ha)]
theorem sb_n {a b : Nat} (h : b ≤ a) : nI a - nI b = nI (a - b) := by
  have h1 : nI a = nI (a - b) + nI b := by rw [ni_add]; congr 1; omega
  rw [h1, Int32.add_sub_cancel]
theorem and_sp {a b m M : Nat} (ha : a < 256) (hm : m < 256) : (a + 256 * b) &&& (m + 256 * M) = (a &&& m) + 256 * (b &&& M) := by
  have h1 := Nat.and_mod_two_pow (a := a + 256 * b) (b := m + 256 * M) (n := 8)
  have h2 := Nat.and_div_two_pow (a := a + 256 * b) (b := m + 256 * M) (n := 8)
  have e1 : (a + 256 * b) % 2 ^ 8 = a := by omega
  have e2 : (m + 256 * M) % 2 ^ 8 = m := by omega
  have e3 : (a + 256 * b) / 2 ^ 8 = b := by omega
  have e4 : (m + 256 * M) / 2 ^ 8 = M := by omega
  rw [e1, e2] at h1
  rw [e3, e4] at h2
  omega
def b1 (a : Nat) : Nat := a - (a / 2 &&& 85)
def b2 (a : Nat) : Nat := (b1 a &&& 51) + (b1 a / 4 &&& 51)
def b3 (a : Nat) : Nat := (b2 a + b2 a / 16) &&& 15
theorem f_1 : ∀ a : Fin 256, ∀ r : Fin 2, (a.1 / 2 + 128 * r.1) &&& 85 = (a.1 / 2 &&& 85) := by decide +kernel
theorem f_2 : ∀ a : Fin 256, (a.1 / 2 &&& 85) ≤ a.1 := by decide +kernel
theorem f_3 : ∀ a : Fin 256, ∀ r : Fin 4, (b1 a.1 / 4 + 64 * r.1) &&& 51 = (b1 a.1 / 4 &&& 51) := by decide +kernel
theorem f_4 : ∀ a : Fin 256, b1 a.1 < 256 ∧ b2 a.1 < 69 ∧ b2 a.1 % 16 ≤ 4 ∧ b3 a.1 ≤ 8 := by decide +kernel
theorem f_5 : ∀ a : Fin 256, ∀ r : Fin 5, (b2 a.1 + b2 a.1 / 16 + 16 * r.1) &&& 15 = b3 a.1 := by decide +kernel
theorem g_1 {a r : Nat} (ha : a < 256) (hr : r < 2) : (a / 2 + 128 * r) &&& 85 = (a / 2 &&& 85) := f_1 ⟨a, ha⟩ ⟨r, hr⟩
theorem g_3 {a r : Nat} (ha : a < 256) (hr : r < 4) : (b1 a / 4 + 64 * r) &&& 51 = (b1 a / 4 &&& 51) := f_3 ⟨a, ha⟩ ⟨r, hr⟩
theorem g_5 {a r : Nat} (ha : a < 256) (hr : r < 5) : (b2 a + b2 a / 16 + 16 * r) &&& 15 = b3 a := f_5 ⟨a, ha⟩ ⟨r, hr⟩
theorem f_6 : ∀ a : Fin 256, (b3 a.1 = 0 ↔ a.1 = 0) ∧ (b3 a.1 = 1 ↔ ¬ a.1 = 0 ∧ a.1 &&& (a.1 - 1) = 0) := by decide +kernel
def j4 (a b c d : Nat) : Nat := a + 256 * (b + 256 * (c + 256 * d))
theorem j4_and {a b c d m n o p : Nat} (ha : a < 256) (hb : b < 256) (hc : c < 256) (hm : m < 256) (hn : n < 256) (ho : o < 256) : j4 a b c d &&& j4 m n o p = j4 (a &&& m) (b &&& n) (c &&& o) (d &&& p) := by
  unfold j4
  rw [and_sp ha hm, and_sp hb hn, and_sp hc ho]
theorem bc_4 {a b c d : Nat} (ha : a < 256) (hb : b < 256) (hc : c < 256) (hd : d < 64) : bcV (nI (j4 a b c d)) = nI (b3 a + b3 b + b3 c + b3 d) := by
  have A := f_4 ⟨a, ha⟩
  have B := f_4 ⟨b, hb⟩
  have C := f_4 ⟨c, hc⟩
  have D := f_4 ⟨d, by omega⟩
  have A2 := f_2 ⟨a, ha⟩
  have B2 := f_2 ⟨b, hb⟩
  have C2 := f_2 ⟨c, hc⟩
  have D2 := f_2 ⟨d, by omega⟩
  simp only at A B C D A2 B2 C2 D2
  have ub : ∀ {a b c d : Nat}, a < 256 → b < 256 → c < 256 → d < 256 → j4 a b c d < 4294967296 := by
    intro a b c d h1 h2 h3 h4
    unfold j4
    omega
  -- the first step
  have s1 : nI (j4 a b c d) - ((((nI (j4 a b c d)).toUInt32 >>> ((1 : Int32).toUInt32 &&& Int32.toUInt32 31)).toInt32) &&& 1431655765) = nI (j4 (b1 a) (b1 b) (b1 c) (b1 d)) := by
    rw [us_n (ub ha hb hc (by omega)) _ 1 (by decide +kernel), show (1431655765 : Int32) = nI (j4 85 85 85 85) from by decide +kernel, an_n]
    have e : j4 a b c d / 2 ^ 1 = j4 (a / 2 + 128 * (b % 2)) (b / 2 + 128 * (c % 2)) (c / 2 + 128 * (d % 2)) (d / 2) := by
      unfold j4
      omega
    rw [e, j4_and (by omega) (by omega) (by omega) (by omega) (by omega) (by omega), g_1 (a := a) (r := b % 2) (by omega) (by omega), g_1 (a := b) (r := c % 2) (by omega) (by omega), g_1 (a := c) (r := d % 2) (by omega) (by omega), sb_n (by unfold j4; omega)]
    unfold j4 b1
    congr 1
    omega
  have s2 : (nI (j4 (b1 a) (b1 b) (b1 c) (b1 d)) &&& 858993459) + ((((nI (j4 (b1 a) (b1 b) (b1 c) (b1 d))).toUInt32 >>> ((2 : Int32).toUInt32 &&& Int32.toUInt32 31)).toInt32) &&& 858993459) = nI (j4 (b2 a) (b2 b) (b2 c) (b2 d)) := by
    have e : j4 (b1 a) (b1 b) (b1 c) (b1 d) / 2 ^ 2 = j4 (b1 a / 4 + 64 * (b1 b % 4)) (b1 b / 4 + 64 * (b1 c % 4)) (b1 c / 4 + 64 * (b1 d % 4)) (b1 d / 4) := by
      unfold j4
      omega
    rw [us_n (ub A.1 B.1 C.1 D.1) _ 2 (by decide +kernel), show (858993459 : Int32) = nI (j4 51 51 51 51) from by decide +kernel, an_n, an_n, ni_add, e, j4_and (by omega) (by omega) (by omega) (by omega) (by omega) (by omega), j4_and (by omega) (by omega) (by omega) (by omega) (by omega) (by omega), g_3 (a := a) (r := b1 b % 4) (by omega) (by omega), g_3 (a := b) (r := b1 c % 4) (by omega) (by omega), g_3 (a := c) (r := b1 d % 4) (by omega) (by omega)]
    unfold j4 b2
    congr 1
    omega
  have s3 : (nI (j4 (b2 a) (b2 b) (b2 c) (b2 d)) + (((nI (j4 (b2 a) (b2 b) (b2 c) (b2 d))).toUInt32 >>> ((4 : Int32).toUInt32 &&& Int32.toUInt32 31)).toInt32)) &&& 252645135 = nI (j4 (b3 a) (b3 b) (b3 c) (b3 d)) := by
    have e : j4 (b2 a) (b2 b) (b2 c) (b2 d) + j4 (b2 a) (b2 b) (b2 c) (b2 d) / 2 ^ 4 = j4 (b2 a + b2 a / 16 + 16 * (b2 b % 16)) (b2 b + b2 b / 16 + 16 * (b2 c % 16)) (b2 c + b2 c / 16 + 16 * (b2 d % 16)) (b2 d + b2 d / 16) := by
      unfold j4
      omega
    have ed := g_5 (a := d) (r := 0) (by omega) (by omega)
    simp only [Nat.mul_zero, Nat.add_zero] at ed
    rw [us_n (ub (by omega) (by omega) (by omega) (by omega)) _ 4 (by decide +kernel), show (252645135 : Int32) = nI (j4 15 15 15 15) from by decide +kernel, ni_add, an_n, e, j4_and (by omega) (by omega) (by omega) (by omega) (by omega) (by omega), g_5 (a := a) (r := b2 b % 16) (by omega) (by omega), g_5 (a := b) (r := b2 c % 16) (by omega) (by omega), g_5 (a := c) (r := b2 d % 16) (by omega) (by omega), ed]
  unfold bcV
  simp only [s1, s2, s3]
  have hA := A.2.2.2
  have hB := B.2.2.2
  have hC := C.2.2.2
  have hD := D.2.2.2
  generalize b3 a = p at *
  generalize b3 b = q at *
  generalize b3 c = r at *
  generalize b3 d = t at *
  have e4 : j4 p q r t + j4 p q r t / 2 ^ 8 = j4 (p + q) (q + r) (r + t) t := by
    unfold j4
    omega
  rw [us_n (ub (by omega) (by omega) (by omega) (by omega)) _ 8 (by decide +kernel), ni_add, e4]
  have e5 : j4 (p + q) (q + r) (r + t) t + j4 (p + q) (q + r) (r + t) t / 2 ^ 16 = j4 (p + q + (r + t)) (q + r + t) (r + t) t := by
    unfold j4
    omega
  rw [us_n (ub (by omega) (by omega) (by omega) (by omega)) _ 16 (by decide +kernel), ni_add, e5, show (63 : Int32) = nI 63 from rfl, an_n]
  have e6 := Nat.and_two_pow_sub_one_eq_mod (j4 (p + q + (r + t)) (q + r + t) (r + t) t) 6
  rw [show (2 ^ 6 - 1 : Nat) = 63 from rfl] at e6
  rw [e6]
  unfold j4
  congr 1
  omega
theorem pw_sp {a r : Nat} (ha : a < 256) : (¬ (a + 256 * r) = 0 ∧ (a + 256 * r) &&& (a + 256 * r - 1) = 0) ↔ (¬ a = 0 ∧ a &&& (a - 1) = 0) ∧ r = 0 ∨ a = 0 ∧ ¬ r = 0 ∧ r &&& (r - 1) = 0 := by
  by_cases h0 : a = 0
  · subst h0
    by_cases hr : r = 0
    · subst hr; simp
    · rw [show 0 + 256 * r - 1 = 255 + 256 * (r - 1) by omega, and_sp (by omega) (by omega), Nat.zero_and]
      constructor
      · intro h; exact Or.inr ⟨rfl, hr, by omega⟩
      · rintro (⟨⟨h, -⟩, -⟩ | ⟨-, -, h⟩)
        · exact absurd rfl h
        · exact ⟨by omega, by omega⟩
  · rw [show a + 256 * r - 1 = (a - 1) + 256 * r by omega, and_sp ha (by omega), Nat.and_self]
    constructor
    · intro h; exact Or.inl ⟨⟨h0, by omega⟩, by omega⟩
    · rintro (⟨⟨-, h⟩, h2⟩ | ⟨h, -⟩)
      · exact ⟨by omega, by omega⟩
      · exact absurd h h0
theorem one_bit {n : Nat} (hn : n < 1073741824) : bcV (nI n) = 1 ↔ ¬ nI n = 0 ∧ nI n &&& (nI n - 1) = 0 := by
  obtain ⟨a, b, c, d, ha, hb, hc, hd, rfl⟩ : ∃ a b c d, a < 256 ∧ b < 256 ∧ c < 256 ∧ d < 64 ∧ n = j4 a b c d := ⟨n % 256, n / 256 % 256, n / 65536 % 256, n / 16777216, by omega, by omega, by omega, by omega, by unfold j4; omega⟩
  have A := f_6 ⟨a, ha⟩
  have B := f_6 ⟨b, hb⟩
  have C := f_6 ⟨c, hc⟩
  have D := f_6 ⟨d, by omega⟩
  have A4 := (f_4 ⟨a, ha⟩).2.2.2
  have B4 := (f_4 ⟨b, hb⟩).2.2.2
  have C4 := (f_4 ⟨c, hc⟩).2.2.2
  have D4 := (f_4 ⟨d, by omega⟩).2.2.2
  simp only at A B C D A4 B4 C4 D4
  have h1 : (bcV (nI (j4 a b c d)) = 1) = (b3 a + b3 b + b3 c + b3 d = 1) := by
    rw [bc_4 ha hb hc hd, show (1 : Int32) = nI 1 from rfl, ni_ii (by omega) (by omega)]
  have h2 : (nI (j4 a b c d) = 0) = (j4 a b c d = 0) := by
    rw [show (0 : Int32) = nI 0 from rfl, ni_ii (by omega) (by omega)]
  rw [h1, h2]
  have key : (¬ j4 a b c d = 0 ∧ j4 a b c d &&& (j4 a b c d - 1) = 0) ↔ b3 a + b3 b + b3 c + b3 d = 1 := by
    unfold j4
    rw [pw_sp ha, pw_sp hb, pw_sp hc, ← A.2, ← B.2, ← C.2, ← D.2]
    have A1 := A.1
    have B1 := B.1
    have C1 := C.1
    have D1 := D.1
    clear A B C D h1 h2
    constructor
    · rintro (⟨p1, p2⟩ | ⟨p1, ⟨p2, p3⟩ | ⟨p2, ⟨p3, p4⟩ | ⟨p3, p4⟩⟩⟩)
      · omega
      · omega
      · omega
      · omega
    · intro h
      by_cases q1 : b3 a = 1
      · left; omega
      · right
        refine ⟨by omega, ?_⟩
        by_cases q2 : b3 b = 1
        · left; omega
        · right
          refine ⟨by omega, ?_⟩
          by_cases q3 : b3 c = 1
          · left; omega
          · right; omega
  rw [← key]
  constructor
  · rintro ⟨p1, p2⟩
    refine ⟨p1, ?_⟩
    rw [show (1 : Int32) = nI 1 from rfl, sb_n (by omega), an_n, p2]
    rfl
  · rintro ⟨p1, p2⟩
    refine ⟨p1, ?_⟩
    rw [show (1 : Int32) = nI 1 from rfl, sb_n (by omega), an_n, show (0 : Int32) = nI 0 from rfl] at p2
    exact ni_inj (Nat.lt_of_le_of_lt Nat.and_le_left (by omega)) (by omega) p2
