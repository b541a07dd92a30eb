/-! PURE: bitCount; bits taken away -/
theorem bcOk_spec : ∀ (m : Nat), bcOk m = true → ∀ n, n < m → bcN n = pcN 16 n := by
  intro m
  induction m with
  | zero => intro _ n hn; omega
  | succ m ih =>
    intro h n hn
    have h : (Nat.beq (bcN m) (pcN 16 m) && bcOk m) = true := h
    rw [Bool.and_eq_true] at h
    by_cases c : n = m
    · subst c
      exact Nat.eq_of_beq_eq_true h.1
    · exact ih h.2 n (by omega)
theorem iUshr_nat {a : Nat} (b : Nat) (ha : a < 2147483648) (hb : ((Int32.ofInt (b : Int)).toUInt32 &&& Int32.toUInt32 31).toNat = b) (hb2 : b < 32) : iUshr (a : Int) (b : Int) = ((Nat.shiftRight a b : Nat) : Int) := by
  unfold iUshr
  have e : ∀ u : UInt32, u.toNat < 2147483648 → u.toInt32.toInt = (u.toNat : Int) := by
    intro u hu
    show u.toBitVec.toInt = _
    rw [BitVec.toInt_eq_toNat_of_lt (by show 2 * u.toNat < _; omega)]
    rfl
  have e2 : ((Int32.ofInt (a : Int)).toUInt32).toNat = a := by
    show (Int32.ofInt (a : Int)).toBitVec.toNat = a
    rw [i32_nat, BitVec.toNat_ofNat]
    omega
  have e3 : (((Int32.ofInt (a : Int)).toUInt32) >>> ((Int32.ofInt (b : Int)).toUInt32 &&& Int32.toUInt32 31)).toNat = Nat.shiftRight a b := by
    rw [UInt32.toNat_shiftRight, e2, hb, Nat.mod_eq_of_lt hb2]
    rfl
  have e4 : Nat.shiftRight a b ≤ a := Nat.shiftRight_le a b
  rw [e _ (by rw [e3]; omega), e3]
theorem iAnd_nat {a b : Nat} (ha : a < 2147483648) (hb : b < 2147483648) : iAnd (a : Int) (b : Int) = ((Nat.land a b : Nat) : Int) := by
  unfold iAnd
  have hl : Nat.land a b ≤ a := Nat.and_le_left
  refine i32_toInt_nat _ _ ?_ (by omega)
  rw [Int32.toBitVec_and, i32_nat, i32_nat]
  apply BitVec.eq_of_toNat_eq
  rw [BitVec.toNat_and, BitVec.toNat_ofNat, BitVec.toNat_ofNat, BitVec.toNat_ofNat]
  rw [Nat.mod_eq_of_lt (by omega : a < 2 ^ 32), Nat.mod_eq_of_lt (by omega : b < 2 ^ 32), Nat.mod_eq_of_lt (by omega : Nat.land a b < 2 ^ 32)]
  rfl
theorem p_bitCount {x : Int} {K : Int → Prop} (hx : 0 ≤ x ∧ x < 65536) (hK : K (ssum (bt x) 16)) : w_J12_bitCount x K := by
  obtain ⟨n, rfl⟩ := Int.eq_ofNat_of_zero_le hx.1
  have hn : n < 65536 := by omega
  rw [bsum_nat, ← bcOk_spec 65536 bcOk_all n hn] at hK
  have sh : ∀ a b : Nat, Nat.shiftRight a b ≤ a := Nat.shiftRight_le
  have la : ∀ a b : Nat, Nat.land a b ≤ a := fun a b => Nat.and_le_left
  have u1 : ∀ a : Nat, a < 2147483648 → iUshr (a : Int) 1 = ((Nat.shiftRight a 1 : Nat) : Int) := fun a ha => iUshr_nat 1 ha (by decide) (by decide)
  have u2 : ∀ a : Nat, a < 2147483648 → iUshr (a : Int) 2 = ((Nat.shiftRight a 2 : Nat) : Int) := fun a ha => iUshr_nat 2 ha (by decide) (by decide)
  have u4 : ∀ a : Nat, a < 2147483648 → iUshr (a : Int) 4 = ((Nat.shiftRight a 4 : Nat) : Int) := fun a ha => iUshr_nat 4 ha (by decide) (by decide)
  have u8 : ∀ a : Nat, a < 2147483648 → iUshr (a : Int) 8 = ((Nat.shiftRight a 8 : Nat) : Int) := fun a ha => iUshr_nat 8 ha (by decide) (by decide)
  have u16 : ∀ a : Nat, a < 2147483648 → iUshr (a : Int) 16 = ((Nat.shiftRight a 16 : Nat) : Int) := fun a ha => iUshr_nat 16 ha (by decide) (by decide)
  have m5 : ∀ a : Nat, a < 2147483648 → iAnd (a : Int) 1431655765 = ((Nat.land a 1431655765 : Nat) : Int) := fun a ha => iAnd_nat ha (by decide)
  have m3 : ∀ a : Nat, a < 2147483648 → iAnd (a : Int) 858993459 = ((Nat.land a 858993459 : Nat) : Int) := fun a ha => iAnd_nat ha (by decide)
  have m0 : ∀ a : Nat, a < 2147483648 → iAnd (a : Int) 252645135 = ((Nat.land a 252645135 : Nat) : Int) := fun a ha => iAnd_nat ha (by decide)
  unfold w_J12_bitCount
  have h1 := sh n 1
  have h2 := la (Nat.shiftRight n 1) 1431655765
  rw [u1 n (by omega), m5 _ (by omega)]
  refine ⟨by omega, ?_⟩
  intro v2 e2 _
  obtain ⟨w2, hw2⟩ : ∃ w2 : Nat, w2 = Nat.sub n (Nat.land (Nat.shiftRight n 1) 1431655765) := ⟨_, rfl⟩
  have e2' : v2 = (w2 : Int) := by
    rw [e2, hw2]
    show _ = ((n - _ : Nat) : Int)
    omega
  subst e2'
  have g2 : w2 < 65536 := by
    have : Nat.sub n (Nat.land (Nat.shiftRight n 1) 1431655765) ≤ n := Nat.sub_le _ _
    omega
  have h3 := la w2 858993459
  have h4 := sh w2 2
  have h5 := la (Nat.shiftRight w2 2) 858993459
  rw [m3 w2 (by omega), u2 w2 (by omega), m3 _ (by omega)]
  refine ⟨by omega, ?_⟩
  intro v4 e4 _
  obtain ⟨w4, hw4⟩ : ∃ w4 : Nat, w4 = Nat.add (Nat.land w2 858993459) (Nat.land (Nat.shiftRight w2 2) 858993459) := ⟨_, rfl⟩
  have e4' : v4 = (w4 : Int) := by
    rw [e4, hw4]
    show _ = ((_ + _ : Nat) : Int)
    omega
  subst e4'
  have g4 : w4 < 131072 := by
    have : w4 = Nat.land w2 858993459 + Nat.land (Nat.shiftRight w2 2) 858993459 := hw4
    omega
  have h6 := sh w4 4
  rw [u4 w4 (by omega)]
  have c6 : (w4 : Int) + ((Nat.shiftRight w4 4 : Nat) : Int) = ((Nat.add w4 (Nat.shiftRight w4 4) : Nat) : Int) := by
    show _ = ((_ + _ : Nat) : Int)
    omega
  have h7 := la (Nat.add w4 (Nat.shiftRight w4 4)) 252645135
  have h8 : Nat.add w4 (Nat.shiftRight w4 4) < 262144 := by
    show w4 + _ < _
    omega
  rw [c6, m0 _ (by omega)]
  refine ⟨by omega, ?_⟩
  intro v6 e6 _
  obtain ⟨w6, hw6⟩ : ∃ w6 : Nat, w6 = Nat.land (Nat.add w4 (Nat.shiftRight w4 4)) 252645135 := ⟨_, rfl⟩
  rw [← hw6] at e6
  subst e6
  have h9 := sh w6 8
  rw [u8 w6 (by omega)]
  refine ⟨by omega, ?_⟩
  intro v8 e8 _
  obtain ⟨w8, hw8⟩ : ∃ w8 : Nat, w8 = Nat.add w6 (Nat.shiftRight w6 8) := ⟨_, rfl⟩
  have e8' : v8 = (w8 : Int) := by
    rw [e8, hw8]
    show _ = ((_ + _ : Nat) : Int)
    omega
  subst e8'
  have g8 : w8 < 524288 := by
    have : w8 = w6 + Nat.shiftRight w6 8 := hw8
    omega
  have h10 := sh w8 16
  rw [u16 w8 (by omega)]
  refine ⟨by omega, ?_⟩
  intro v10 e10 _
  have e11 : v10 % 64 = ((bcN n : Nat) : Int) := by
    unfold bcN
    dsimp only
    rw [← hw2, ← hw4, ← hw6, ← hw8, e10]
    show _ = (((w8 + Nat.shiftRight w8 16) % 64 : Nat) : Int)
    omega
  rw [e11]
  exact hK
theorem iClr_nat {a t : Nat} (ha : a < 65536) (ht : t < 16) : iAnd (a : Int) (iXor (1 * 2 ^ (t : Int).toNat) (-1)) = ((Nat.land a (Nat.xor 4294967295 (2 ^ t)) : Nat) : Int) := by
  have hp : 2 ^ t < 2 ^ 16 := Nat.pow_lt_pow_right (by omega) (by omega)
  rw [Int.one_mul, Int.toNat_natCast]
  have e : (2 : Int) ^ t = ((2 ^ t : Nat) : Int) := by push_cast; rfl
  rw [e]
  unfold iAnd iXor
  rw [Int32.ofInt_toInt]
  have hl : Nat.land a (Nat.xor 4294967295 (2 ^ t)) ≤ a := Nat.and_le_left
  refine i32_toInt_nat _ _ ?_ (by omega)
  rw [Int32.toBitVec_and, Int32.toBitVec_xor, i32_nat, i32_nat]
  have em : (Int32.ofInt (-1)).toBitVec = BitVec.ofNat 32 4294967295 := by decide
  rw [em]
  apply BitVec.eq_of_toNat_eq
  rw [BitVec.toNat_and, BitVec.toNat_xor, BitVec.toNat_ofNat, BitVec.toNat_ofNat, BitVec.toNat_ofNat, BitVec.toNat_ofNat]
  rw [Nat.mod_eq_of_lt (by omega : a < 2 ^ 32), Nat.mod_eq_of_lt (by omega : 2 ^ t < 2 ^ 32), Nat.mod_eq_of_lt (by omega : 4294967295 < 2 ^ 32), Nat.mod_eq_of_lt (by omega : Nat.land a (Nat.xor 4294967295 (2 ^ t)) < 2 ^ 32)]
  show a &&& (2 ^ t ^^^ 4294967295) = a &&& (4294967295 ^^^ 2 ^ t)
  rw [Nat.xor_comm]
theorem bt_clr {x t i : Int} (hx : 0 ≤ x ∧ x < 65536) (ht : 0 ≤ t ∧ t < 16) (hi : 0 ≤ i) : bt (iAnd x (iXor (1 * 2 ^ t.toNat) (-1))) i = if i = t then 0 else bt x i := by
  obtain ⟨a, rfl⟩ := Int.eq_ofNat_of_zero_le hx.1
  obtain ⟨u, rfl⟩ := Int.eq_ofNat_of_zero_le ht.1
  obtain ⟨j, rfl⟩ := Int.eq_ofNat_of_zero_le hi
  rw [iClr_nat (by omega) (by omega), bt_nat, bt_nat]
  have e : (Nat.land a (Nat.xor 4294967295 (2 ^ u))).testBit j = (a.testBit j && (decide (j < 32) ^^ decide (u = j))) := by
    show (a &&& (4294967295 ^^^ 2 ^ u)).testBit j = _
    rw [Nat.testBit_and, Nat.testBit_xor, Nat.testBit_two_pow, show (4294967295 : Nat) = 2 ^ 32 - 1 by decide, Nat.testBit_two_pow_sub_one]
  rw [e]
  by_cases c : (j : Int) = u
  · have : u = j := by omega
    rw [if_pos c]
    subst this
    have : u < 32 := by omega
    simp [this]
  · have c2 : ¬ (u = j) := by omega
    rw [if_neg c]
    by_cases c3 : j < 32
    · simp [c2, c3]
    · have hp : a < 2 ^ j := Nat.lt_of_lt_of_le (show a < 2 ^ 16 by omega) (Nat.pow_le_pow_right (by omega) (by omega))
      rw [Nat.testBit_lt_two_pow hp]
      simp
theorem clr_lt {x t n : Int} (hx : 0 ≤ x ∧ x < 2 ^ n.toNat) (ht : 0 ≤ t ∧ t < 16) (hn : n ≤ 16) : 0 ≤ iAnd x (iXor (1 * 2 ^ t.toNat) (-1)) ∧ iAnd x (iXor (1 * 2 ^ t.toNat) (-1)) < 2 ^ n.toNat := by
  have hp : (2 : Int) ^ n.toNat ≤ 65536 := p2_mono (n := 16) hn
  obtain ⟨a, rfl⟩ := Int.eq_ofNat_of_zero_le hx.1
  obtain ⟨u, rfl⟩ := Int.eq_ofNat_of_zero_le ht.1
  rw [iClr_nat (by omega) (by omega)]
  have hl : Nat.land a (Nat.xor 4294967295 (2 ^ u)) ≤ a := Nat.and_le_left
  omega
