/-! PURE: bits -/
theorem i32_nat (a : Nat) : (Int32.ofInt (a : Int)).toBitVec = BitVec.ofNat 32 a := by
  show BitVec.ofInt 32 (a : Int) = BitVec.ofNat 32 a
  exact BitVec.ofInt_natCast 32 a
theorem i32_toInt_nat (v : Int32) (n : Nat) (h : v.toBitVec = BitVec.ofNat 32 n) (hn : n < 2147483648) : v.toInt = (n : Int) := by
  show v.toBitVec.toInt = _
  rw [h, BitVec.toInt_eq_toNat_of_lt (by rw [BitVec.toNat_ofNat]; omega), BitVec.toNat_ofNat]
  omega
theorem iOr_nat {a b : Nat} (ha : a < 2147483648) (hb : b < 2147483648) : iOr (a : Int) (b : Int) = ((a ||| b : Nat) : Int) := by
  unfold iOr
  refine i32_toInt_nat _ _ ?_ (Nat.or_lt_two_pow (n := 31) ha hb)
  rw [Int32.toBitVec_or, i32_nat, i32_nat]
  apply BitVec.eq_of_toNat_eq
  rw [BitVec.toNat_or, BitVec.toNat_ofNat, BitVec.toNat_ofNat, BitVec.toNat_ofNat]
  rw [Nat.mod_eq_of_lt (by omega : a < 2 ^ 32), Nat.mod_eq_of_lt (by omega : b < 2 ^ 32)]
  have := Nat.or_lt_two_pow (n := 31) ha hb
  omega
theorem bt_nat (a i : Nat) : bt (a : Int) (i : Int) = if a.testBit i then 1 else 0 := by
  unfold bt
  rw [Int.toNat_natCast]
  have e : (a : Int) / 2 ^ i % 2 = ((a / 2 ^ i % 2 : Nat) : Int) := by
    push_cast
    rfl
  rw [e, Nat.testBit_eq_decide_div_mod_eq]
  by_cases c : a / 2 ^ i % 2 = 1
  · rw [c]
    simp
  · have : a / 2 ^ i % 2 = 0 := by omega
    rw [this]
    simp
theorem pow_nat (n : Int) : (2 : Int) ^ n.toNat = ((2 ^ n.toNat : Nat) : Int) := by
  push_cast
  rfl
theorem bt_or {x t i : Int} (hx : 0 ≤ x ∧ x < 65536) (ht : 0 ≤ t ∧ t < 16) (hi : 0 ≤ i) : bt (iOr x (1 * 2 ^ t.toNat)) i = if i = t then 1 else bt x i := by
  obtain ⟨a, rfl⟩ := Int.eq_ofNat_of_zero_le hx.1
  obtain ⟨u, rfl⟩ := Int.eq_ofNat_of_zero_le ht.1
  obtain ⟨j, rfl⟩ := Int.eq_ofNat_of_zero_le hi
  have hu : 2 ^ u < 2 ^ 16 := Nat.pow_lt_pow_right (by omega) (by omega)
  rw [Int.one_mul, Int.toNat_natCast]
  have e : (2 : Int) ^ u = ((2 ^ u : Nat) : Int) := by push_cast; rfl
  rw [e, iOr_nat (by omega) (by omega), bt_nat, bt_nat, Nat.testBit_or, Nat.testBit_two_pow]
  by_cases c : (j : Int) = u
  · rw [if_pos c]
    have : u = j := by omega
    simp [this]
  · rw [if_neg c]
    have : ¬ (u = j) := by omega
    simp [this]
theorem iOr_lt {x t n : Int} (hx : 0 ≤ x ∧ x < 2 ^ n.toNat) (ht : 0 ≤ t ∧ t < n) (hn : n ≤ 16) : 0 ≤ iOr x (1 * 2 ^ t.toNat) ∧ iOr x (1 * 2 ^ t.toNat) < 2 ^ n.toNat := by
  obtain ⟨a, rfl⟩ := Int.eq_ofNat_of_zero_le hx.1
  obtain ⟨u, rfl⟩ := Int.eq_ofNat_of_zero_le ht.1
  have hu : 2 ^ u < 2 ^ n.toNat := Nat.pow_lt_pow_right (by omega) (by omega)
  have hn2 : 2 ^ n.toNat ≤ 2 ^ 16 := Nat.pow_le_pow_right (by omega) (by omega)
  have ha : a < 2 ^ n.toNat := by
    have := hx.2
    rw [pow_nat] at this
    omega
  rw [Int.one_mul, Int.toNat_natCast]
  have e : (2 : Int) ^ u = ((2 ^ u : Nat) : Int) := by push_cast; rfl
  rw [e, iOr_nat (by omega) (by omega), pow_nat]
  have := Nat.or_lt_two_pow ha hu
  omega
