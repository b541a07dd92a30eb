/-! BASE: ints as Int. A value is iV x, jV x; InR, InL its range; rows of the kit over Int -/
abbrev InR (x : Int) : Prop := -2147483648 ≤ x ∧ x ≤ 2147483647
abbrev InL (x : Int) : Prop := -9223372036854775808 ≤ x ∧ x ≤ 9223372036854775807
abbrev iV (x : Int) : Value := .int (Int32.ofInt x)
abbrev jV (x : Int) : Value := .long (Int64.ofInt x)
theorem ni_R (x : Int32) : InR x.toInt := ⟨Int32.le_toInt x, by have := Int32.toInt_lt x; omega⟩
theorem nj_R (x : Int64) : InL x.toInt := ⟨Int64.le_toInt x, by have := Int64.toInt_lt x; omega⟩
theorem ni_T {x : Int} (h : InR x) : (Int32.ofInt x).toInt = x := Int32.toInt_ofInt_of_le (by omega) (by omega)
theorem nj_T {x : Int} (h : InL x) : (Int64.ofInt x).toInt = x := Int64.toInt_ofInt_of_le (by omega) (by omega)
theorem ni_N {x : Int} (h : InR x) : (Int32.ofInt x).toNatClampNeg = x.toNat := Int32.toNatClampNeg_ofInt_of_le (by omega) (by omega)
theorem ni_V (x : Int32) : Value.int x = iV x.toInt := by show _ = Value.int (Int32.ofInt x.toInt); rw [Int32.ofInt_toInt]
theorem nj_V (x : Int64) : Value.long x = jV x.toInt := by show _ = Value.long (Int64.ofInt x.toInt); rw [Int64.ofInt_toInt]
theorem ni_inj {a b : Int} (ha : InR a) (hb : InR b) : Int32.ofInt a = Int32.ofInt b ↔ a = b := ⟨fun h => by have h2 := congrArg Int32.toInt h; rwa [ni_T ha, ni_T hb] at h2, fun h => by rw [h]⟩
theorem nj_inj {a b : Int} (ha : InL a) (hb : InL b) : Int64.ofInt a = Int64.ofInt b ↔ a = b := ⟨fun h => by have h2 := congrArg Int64.toInt h; rwa [nj_T ha, nj_T hb] at h2, fun h => by rw [h]⟩
theorem ni_lt {a b : Int} (ha : InR a) (hb : InR b) : Int32.ofInt a < Int32.ofInt b ↔ a < b := by rw [Int32.lt_iff_toInt_lt, ni_T ha, ni_T hb]
theorem ni_le {a b : Int} (ha : InR a) (hb : InR b) : Int32.ofInt a ≤ Int32.ofInt b ↔ a ≤ b := by rw [Int32.le_iff_toInt_le, ni_T ha, ni_T hb]
theorem nj_lt {a b : Int} (ha : InL a) (hb : InL b) : Int64.ofInt a < Int64.ofInt b ↔ a < b := by rw [Int64.lt_iff_toInt_lt, nj_T ha, nj_T hb]
theorem ni_0 : (0 : Int32) = Int32.ofInt 0 := by decide
theorem nj_0 : (0 : Int64) = Int64.ofInt 0 := by decide
theorem ni_r0 : InR 0 := by decide
theorem ni_in {i : Int} {n : Nat} (hr : InR i) (hi : 0 ≤ i ∧ i < (n : Int)) : vp_in (Int32.ofInt i) n := by rw [vp_in_iff, ni_T hr]; exact hi
/-- bits: of ints as Java has them -/
def iAnd (a b : Int) : Int := (Int32.ofInt a &&& Int32.ofInt b).toInt
def iOr (a b : Int) : Int := (Int32.ofInt a ||| Int32.ofInt b).toInt
def iXor (a b : Int) : Int := (Int32.ofInt a ^^^ Int32.ofInt b).toInt
def iUshr (a b : Int) : Int := ((Int32.ofInt a).toUInt32 >>> ((Int32.ofInt b).toUInt32 &&& Int32.toUInt32 31)).toInt32.toInt
theorem iUshr_R (a b : Int) : InR (iUshr a b) := ni_R _
def jOr (a b : Int) : Int := (Int64.ofInt a ||| Int64.ofInt b).toInt
theorem ni_sh {b : Int} (hb : 0 ≤ b ∧ b ≤ 31) : ((Int32.ofInt b &&& 31).toBitVec.smod 32).toNat = b.toNat := by
  obtain ⟨n, rfl⟩ := Int.eq_ofNat_of_zero_le hb.1
  have hn : n < 32 := by omega
  have h : ∀ n : Nat, n < 32 → ((Int32.ofInt (n : Int) &&& 31).toBitVec.smod 32).toNat = n := by decide +kernel
  rw [h n hn]; rfl
theorem ni_shr {a b : Int} (ha : InR a) (hb : 0 ≤ b ∧ b ≤ 31) : Int32.ofInt a >>> (Int32.ofInt b &&& 31) = Int32.ofInt (a / 2 ^ b.toNat) := by
  apply Int32.toInt_inj.mp
  rw [pk_shr _ _ b.toNat (ni_sh hb), ni_T ha, Int.shiftRight_eq_div_pow]
  have hp : (0 : Int) < 2 ^ b.toNat := Int.pow_pos (by decide)
  have h1 : InR (a / 2 ^ b.toNat) := by
    constructor
    · have h2 : (-2147483648 : Int) / 2 ^ b.toNat ≤ a / 2 ^ b.toNat := Int.ediv_le_ediv hp ha.1
      have h3 : (-2147483648 : Int) ≤ (-2147483648 : Int) / 2 ^ b.toNat := by
        rw [Int.le_ediv_iff_mul_le hp]
        have h4 : (1 : Int) ≤ 2 ^ b.toNat := hp
        omega
      omega
    · have h2 : a / 2 ^ b.toNat ≤ (2147483647 : Int) / 2 ^ b.toNat := Int.ediv_le_ediv hp ha.2
      have h3 : (2147483647 : Int) / 2 ^ b.toNat ≤ 2147483647 := Int.ediv_le_self _ (by decide)
      omega
  rw [ni_T h1]
  simp
theorem bv_shl (a : Int) (n k : Nat) : BitVec.ofInt n a <<< k = BitVec.ofInt n (a * 2 ^ k) := by
  rw [BitVec.shiftLeft_eq_mul_twoPow, BitVec.ofInt_mul]
  congr 1
  apply BitVec.eq_of_toNat_eq
  rw [BitVec.toNat_twoPow, BitVec.toNat_ofInt]
  have e : ((2 : Int) ^ k) = ((2 ^ k : Nat) : Int) := by norm_cast
  rw [e]
  norm_cast
theorem ni_shl {a b : Int} (hb : 0 ≤ b ∧ b ≤ 31) (hr : InR (a * 2 ^ b.toNat)) : Int32.ofInt a <<< (Int32.ofInt b &&& 31) = Int32.ofInt (a * 2 ^ b.toNat) := by
  obtain ⟨n, rfl⟩ := Int.eq_ofNat_of_zero_le hb.1
  have hn : n < 32 := by omega
  have h1 : ∀ n : Nat, n < 32 → ((Int32.ofInt (n : Int) &&& 31).toBitVec.smod 32) = BitVec.ofNat 32 n := by decide +kernel
  apply Int32.toBitVec_inj.mp
  rw [Int32.toBitVec_shiftLeft, h1 n hn, BitVec.shiftLeft_eq', BitVec.toNat_ofNat, Nat.mod_eq_of_lt (by omega), Int32.toBitVec_ofInt, Int32.toBitVec_ofInt, bv_shl]
  rfl
theorem ni_and {a b : Int} : Int32.ofInt a &&& Int32.ofInt b = Int32.ofInt (iAnd a b) := by unfold iAnd; rw [Int32.ofInt_toInt]
theorem ni_or {a b : Int} : Int32.ofInt a ||| Int32.ofInt b = Int32.ofInt (iOr a b) := by unfold iOr; rw [Int32.ofInt_toInt]
theorem ni_xor {a b : Int} : Int32.ofInt a ^^^ Int32.ofInt b = Int32.ofInt (iXor a b) := by unfold iXor; rw [Int32.ofInt_toInt]
theorem nj_or {a b : Int} : Int64.ofInt a ||| Int64.ofInt b = Int64.ofInt (jOr a b) := by unfold jOr; rw [Int64.ofInt_toInt]
theorem iAnd_R (a b : Int) : InR (iAnd a b) := ni_R _
theorem iOr_R (a b : Int) : InR (iOr a b) := ni_R _
theorem iXor_R (a b : Int) : InR (iXor a b) := ni_R _
theorem jOr_R (a b : Int) : InL (jOr a b) := nj_R _
/-- x & (2^k - 1) -/
theorem ni_mask {a m : Int} (k : Nat) (hm : (Int32.ofInt m).toBitVec.toNat = 2 ^ k - 1) (hk : k ≤ 30) : Int32.ofInt a &&& Int32.ofInt m = Int32.ofInt (a % 2 ^ k) := by
  rw [pk_and _ k hm]
  unfold nI
  rw [← Int32.ofInt_eq_ofNat]
  congr 1
  rw [Int32.toBitVec_ofInt, BitVec.toNat_ofInt]
  have h1 : (0 : Int) ≤ a % ((2 ^ 32 : Nat) : Int) := Int.emod_nonneg _ (by decide)
  have h2 : ((2 : Int) ^ k) ∣ ((2 ^ 32 : Nat) : Int) := by
    have e : ((2 ^ 32 : Nat) : Int) = 2 ^ 32 := by decide
    rw [e]
    exact ⟨2 ^ (32 - k), by rw [← Int.pow_add, Nat.add_sub_cancel' (by omega)]⟩
  have e : ((2 ^ k : Nat) : Int) = 2 ^ k := by norm_cast
  rw [Int.natCast_emod, Int.toNat_of_nonneg h1, e]
  exact Int.emod_emod_of_dvd a h2
theorem ni_m {a : Int} (h : InR a) : a ≤ Int32.maxValue.toInt := h.2
theorem nj_m {a : Int} (h : InL a) : a ≤ Int64.maxValue.toInt := h.2
theorem ni_div {a b : Int} (ha : InR a) (hb : InR b) : Int32.ofInt a / Int32.ofInt b = Int32.ofInt (a.tdiv b) := (Int32.ofInt_tdiv ha.1 (ni_m ha) hb.1 (ni_m hb)).symm
theorem ni_rem {a b : Int} (ha : InR a) (hb : InR b) : Int32.ofInt a - Int32.ofInt a / Int32.ofInt b * Int32.ofInt b = Int32.ofInt (a.tmod b) := by
  rw [ni_div ha hb, ← Int32.ofInt_mul, ← Int32.ofInt_sub]
  congr 1
  have := Int.mul_tdiv_add_tmod a b
  rw [Int.mul_comm] at this
  omega
theorem nj_div {a b : Int} (ha : InL a) (hb : InL b) : Int64.ofInt a / Int64.ofInt b = Int64.ofInt (a.tdiv b) := (Int64.ofInt_tdiv ha.1 (nj_m ha) hb.1 (nj_m hb)).symm
theorem nj_rem {a b : Int} (ha : InL a) (hb : InL b) : Int64.ofInt a - Int64.ofInt a / Int64.ofInt b * Int64.ofInt b = Int64.ofInt (a.tmod b) := by
  rw [nj_div ha hb, ← Int64.ofInt_mul, ← Int64.ofInt_sub]
  congr 1
  have := Int.mul_tdiv_add_tmod a b
  rw [Int.mul_comm] at this
  omega
/-- what lcmp leaves -/
def jCmp (a b : Int) : Int := if b < a then 1 else if a = b then 0 else -1
theorem nj_cmp {a b : Int} (ha : InL a) (hb : InL b) : lg_cmp (Int64.ofInt a) (Int64.ofInt b) = Int32.ofInt (jCmp a b) := by
  unfold lg_cmp jCmp
  by_cases h1 : b < a
  · rw [if_pos h1, if_pos ((nj_lt hb ha).mpr h1)]; rfl
  · rw [if_neg h1, if_neg (fun h => h1 ((nj_lt hb ha).mp h))]
    by_cases h2 : a = b
    · rw [if_pos h2, if_pos ((nj_inj ha hb).mpr h2)]; rfl
    · rw [if_neg h2, if_neg (fun h => h2 ((nj_inj ha hb).mp h))]; rfl
theorem jCmp_eq {a b : Int} : jCmp a b = 0 ↔ a = b := by unfold jCmp; split <;> (try split) <;> omega
theorem jCmp_lt {a b : Int} : jCmp a b < 0 ↔ a < b := by unfold jCmp; split <;> (try split) <;> omega
theorem jCmp_ge {a b : Int} : 0 ≤ jCmp a b ↔ b ≤ a := by unfold jCmp; split <;> (try split) <;> omega
theorem jCmp_gt {a b : Int} : 0 < jCmp a b ↔ b < a := by unfold jCmp; split <;> (try split) <;> omega
theorem jCmp_le {a b : Int} : jCmp a b ≤ 0 ↔ a ≤ b := by unfold jCmp; split <;> (try split) <;> omega
theorem jCmp_R (a b : Int) : InR (jCmp a b) := by unfold jCmp; split <;> (try split) <;> decide
theorem nj_shl {a b : Int} (hb : 0 ≤ b ∧ b ≤ 63) : Int64.ofInt a <<< ((Int32.ofInt b).toInt64 &&& 63) = Int64.ofInt (a * 2 ^ b.toNat) := by
  obtain ⟨n, rfl⟩ := Int.eq_ofNat_of_zero_le hb.1
  have hn : n < 64 := by omega
  have h1 : ∀ n : Nat, n < 64 → ((Int32.ofInt (n : Int)).toInt64 &&& 63).toBitVec.smod 64 = BitVec.ofNat 64 n := by decide +kernel
  apply Int64.toBitVec_inj.mp
  rw [Int64.toBitVec_shiftLeft, h1 n hn, BitVec.shiftLeft_eq', BitVec.toNat_ofNat, Nat.mod_eq_of_lt (by omega), Int64.toBitVec_ofInt, Int64.toBitVec_ofInt, bv_shl]
  rfl
theorem ni_2b (a : Int) : (Int32.ofInt a).toInt8.toInt32 = Int32.ofInt (a.bmod 256) := by
  rw [Int32.toInt8_ofInt]
  apply Int32.toInt_inj.mp
  have h : InR (a.bmod 256) := by
    have h1 := Int.le_bmod (x := a) (m := 256) (by decide)
    have h2 := Int.bmod_lt (x := a) (m := 256) (by decide)
    constructor <;> omega
  rw [ni_T h]
  simp
theorem ni_shrR {a : Int} {b : Nat} (ha : InR a) : InR (a / 2 ^ b) := by
  have hp : (0 : Int) < 2 ^ b := Int.pow_pos (by decide)
  constructor
  · have h2 : (-2147483648 : Int) / 2 ^ b ≤ a / 2 ^ b := Int.ediv_le_ediv hp ha.1
    have h3 : (-2147483648 : Int) ≤ (-2147483648 : Int) / 2 ^ b := by
      rw [Int.le_ediv_iff_mul_le hp]
      have h4 : (1 : Int) ≤ 2 ^ b := hp
      omega
    omega
  · have h2 : a / 2 ^ b ≤ (2147483647 : Int) / 2 ^ b := Int.ediv_le_ediv hp ha.2
    have h3 : (2147483647 : Int) / 2 ^ b ≤ 2147483647 := Int.ediv_le_self _ (by decide)
    omega
theorem ni_L {a : Int} (h : InR a) : InL a := ⟨by have := h.1; omega, by have := h.2; omega⟩
theorem ni_bR (a : Int) : -128 ≤ a.bmod 256 ∧ a.bmod 256 ≤ 127 := by
  have h1 := Int.le_bmod (x := a) (m := 256) (by decide)
  have h2 := Int.bmod_lt (x := a) (m := 256) (by decide)
  constructor <;> omega
theorem nr_mxR {a b : Int} (ha : InR a) (hb : InR b) : InR (max a b) := by constructor <;> omega
theorem nr_mnR {a b : Int} (ha : InR a) (hb : InR b) : InR (min a b) := by constructor <;> omega
theorem nr_mxRL {a b : Int} (ha : InL a) (hb : InL b) : InL (max a b) := by constructor <;> omega
theorem nr_mnRL {a b : Int} (ha : InL a) (hb : InL b) : InL (min a b) := by constructor <;> omega
theorem nr_osw {x a o d : Int} {r : List (Int × Int)} (h : ¬ x = a) : Op.lookupswitch.offset ((a, o) :: r) d x = Op.lookupswitch.offset r d x := by
  rw [Op.lookupswitch.offset_cons, if_neg (fun q => h q.symm)]
theorem ni_wR (z : Int) : InR (Int.bmod z 4294967296) := by
  have h1 := @Int.le_bmod z 4294967296 (by decide)
  have h2 := @Int.bmod_lt z 4294967296 (by decide)
  constructor <;> omega
theorem ni_wrap (z : Int) : Int32.ofInt (Int.bmod z 4294967296) = Int32.ofInt z := by
  apply Int32.toInt_inj.mp
  rw [Int32.toInt_ofInt, Int32.toInt_ofInt]
  exact Int.bmod_bmod
section IROWS
variable {p : Program} {l : Launch} {e : Env} {R : Room} {s : State} {m : MethodId} {args : Array Value} {below : List Frame} {meth : Method} {c : Code} {H : Heap} {locs : List Loc} {cells slots : Nat} {Q : State → Prop}
variable {cc : ByteArray} {pc : Nat} {ls : Array Slot} {rest : List Value}
theorem nr_iconst (hexec : p.tables.exec = Jvm.exec) (hb : c.code = cc) {n : Int} (hdg : decode cc pc = .ok (.iconst n, 1)) (k : W p l e R s m args below meth c H locs cells slots Q (F0 m (pc + 1) ls (iV n :: rest))) : W p l e R s m args below meth c H locs cells slots Q (F0 m (pc) ls (rest)) := lv_iconst hexec hb hdg rfl k
theorem nr_bipush (hexec : p.tables.exec = Jvm.exec) (hb : c.code = cc) {n : Int} (hdg : decode cc pc = .ok (.bipush n, 2)) (hv : (Int8.ofInt n).toInt32 = Int32.ofInt n) (k : W p l e R s m args below meth c H locs cells slots Q (F0 m (pc + 2) ls (iV n :: rest))) : W p l e R s m args below meth c H locs cells slots Q (F0 m (pc) ls (rest)) := lv_bipush hexec hb hdg hv k
theorem nr_sipush (hexec : p.tables.exec = Jvm.exec) (hb : c.code = cc) {n : Int} (hdg : decode cc pc = .ok (.sipush n, 3)) (hv : (Int16.ofInt n).toInt32 = Int32.ofInt n) (k : W p l e R s m args below meth c H locs cells slots Q (F0 m (pc + 3) ls (iV n :: rest))) : W p l e R s m args below meth c H locs cells slots Q (F0 m (pc) ls (rest)) := lv_sipush hexec hb hdg hv k
theorem nr_lconst (hexec : p.tables.exec = Jvm.exec) (hb : c.code = cc) {n : Fin 2} {v : Int} (hdg : decode cc pc = .ok (.lconst n, 1)) (hv : ((n : Nat) : Int) = v) (k : W p l e R s m args below meth c H locs cells slots Q (F0 m (pc + 1) ls (jV v :: rest))) : W p l e R s m args below meth c H locs cells slots Q (F0 m (pc) ls (rest)) := lv_lconst hexec hb hdg (by rw [← hv, Int64.ofInt_eq_ofNat]) k
theorem nr_iadd (hexec : p.tables.exec = Jvm.exec) (hb : c.code = cc) {a b : Int} (hdg : decode cc pc = .ok (.iadd, 1)) (k : W p l e R s m args below meth c H locs cells slots Q (F0 m (pc + 1) ls (iV (a + b) :: rest))) : W p l e R s m args below meth c H locs cells slots Q (F0 m (pc) ls (iV b :: iV a :: rest)) := lv_iadd hexec hb hdg (by rw [← Int32.ofInt_add]; exact k)
theorem nr_isub (hexec : p.tables.exec = Jvm.exec) (hb : c.code = cc) {a b : Int} (hdg : decode cc pc = .ok (.isub, 1)) (k : W p l e R s m args below meth c H locs cells slots Q (F0 m (pc + 1) ls (iV (a - b) :: rest))) : W p l e R s m args below meth c H locs cells slots Q (F0 m (pc) ls (iV b :: iV a :: rest)) := lv_isub hexec hb hdg (by rw [← Int32.ofInt_sub]; exact k)
theorem nr_imul (hexec : p.tables.exec = Jvm.exec) (hb : c.code = cc) {a b : Int} (hdg : decode cc pc = .ok (.imul, 1)) (k : W p l e R s m args below meth c H locs cells slots Q (F0 m (pc + 1) ls (iV (a * b) :: rest))) : W p l e R s m args below meth c H locs cells slots Q (F0 m (pc) ls (iV b :: iV a :: rest)) := lv_imul hexec hb hdg (by rw [← Int32.ofInt_mul]; exact k)
theorem nr_ladd (hexec : p.tables.exec = Jvm.exec) (hb : c.code = cc) {a b : Int} (hdg : decode cc pc = .ok (.ladd, 1)) (k : W p l e R s m args below meth c H locs cells slots Q (F0 m (pc + 1) ls (jV (a + b) :: rest))) : W p l e R s m args below meth c H locs cells slots Q (F0 m (pc) ls (jV b :: jV a :: rest)) := lv_ladd hexec hb hdg (by rw [← Int64.ofInt_add]; exact k)
theorem nr_lsub (hexec : p.tables.exec = Jvm.exec) (hb : c.code = cc) {a b : Int} (hdg : decode cc pc = .ok (.lsub, 1)) (k : W p l e R s m args below meth c H locs cells slots Q (F0 m (pc + 1) ls (jV (a - b) :: rest))) : W p l e R s m args below meth c H locs cells slots Q (F0 m (pc) ls (jV b :: jV a :: rest)) := lv_lsub hexec hb hdg (by rw [← Int64.ofInt_sub]; exact k)
theorem nr_lmul (hexec : p.tables.exec = Jvm.exec) (hb : c.code = cc) {a b : Int} (hdg : decode cc pc = .ok (.lmul, 1)) (k : W p l e R s m args below meth c H locs cells slots Q (F0 m (pc + 1) ls (jV (a * b) :: rest))) : W p l e R s m args below meth c H locs cells slots Q (F0 m (pc) ls (jV b :: jV a :: rest)) := lv_lmul hexec hb hdg (by rw [← Int64.ofInt_mul]; exact k)
theorem nr_ineg (hexec : p.tables.exec = Jvm.exec) (hb : c.code = cc) {a : Int} (hdg : decode cc pc = .ok (.ineg, 1)) (k : W p l e R s m args below meth c H locs cells slots Q (F0 m (pc + 1) ls (iV (-a) :: rest))) : W p l e R s m args below meth c H locs cells slots Q (F0 m (pc) ls (iV a :: rest)) := lv_ineg hexec hb hdg (by rw [← Int32.ofInt_neg]; exact k)
theorem nr_lneg (hexec : p.tables.exec = Jvm.exec) (hb : c.code = cc) {a : Int} (hdg : decode cc pc = .ok (.lneg, 1)) (k : W p l e R s m args below meth c H locs cells slots Q (F0 m (pc + 1) ls (jV (-a) :: rest))) : W p l e R s m args below meth c H locs cells slots Q (F0 m (pc) ls (jV a :: rest)) := lv_lneg hexec hb hdg (by rw [← Int64.ofInt_neg]; exact k)
theorem nr_iand (hexec : p.tables.exec = Jvm.exec) (hb : c.code = cc) {a b : Int} (hdg : decode cc pc = .ok (.iand, 1)) (k : W p l e R s m args below meth c H locs cells slots Q (F0 m (pc + 1) ls (iV (iAnd a b) :: rest))) : W p l e R s m args below meth c H locs cells slots Q (F0 m (pc) ls (iV b :: iV a :: rest)) := lv_iand hexec hb hdg (by rw [ni_and]; exact k)
theorem nr_ior (hexec : p.tables.exec = Jvm.exec) (hb : c.code = cc) {a b : Int} (hdg : decode cc pc = .ok (.ior, 1)) (k : W p l e R s m args below meth c H locs cells slots Q (F0 m (pc + 1) ls (iV (iOr a b) :: rest))) : W p l e R s m args below meth c H locs cells slots Q (F0 m (pc) ls (iV b :: iV a :: rest)) := lv_ior hexec hb hdg (by rw [ni_or]; exact k)
theorem nr_ixor (hexec : p.tables.exec = Jvm.exec) (hb : c.code = cc) {a b : Int} (hdg : decode cc pc = .ok (.ixor, 1)) (k : W p l e R s m args below meth c H locs cells slots Q (F0 m (pc + 1) ls (iV (iXor a b) :: rest))) : W p l e R s m args below meth c H locs cells slots Q (F0 m (pc) ls (iV b :: iV a :: rest)) := lv_ixor hexec hb hdg (by rw [ni_xor]; exact k)
theorem nr_iushr (hexec : p.tables.exec = Jvm.exec) (hb : c.code = cc) {a b : Int} (hdg : decode cc pc = .ok (.iushr, 1)) (k : W p l e R s m args below meth c H locs cells slots Q (F0 m (pc + 1) ls (iV (iUshr a b) :: rest))) : W p l e R s m args below meth c H locs cells slots Q (F0 m (pc) ls (iV b :: iV a :: rest)) := lv_iushr hexec hb hdg (v := Int32.ofInt (iUshr a b)) (by unfold iUshr; rw [Int32.ofInt_toInt]) k
theorem nr_lor (hexec : p.tables.exec = Jvm.exec) (hb : c.code = cc) {a b : Int} (hdg : decode cc pc = .ok (.lor, 1)) (k : W p l e R s m args below meth c H locs cells slots Q (F0 m (pc + 1) ls (jV (jOr a b) :: rest))) : W p l e R s m args below meth c H locs cells slots Q (F0 m (pc) ls (jV b :: jV a :: rest)) := lv_lor hexec hb hdg (by rw [nj_or]; exact k)
theorem nr_mask (hexec : p.tables.exec = Jvm.exec) (hb : c.code = cc) {a m0 : Int} (z : Nat) (hm : (Int32.ofInt m0).toBitVec.toNat = 2 ^ z - 1) (hz : z ≤ 30) (hdg : decode cc pc = .ok (.iand, 1)) (k : W p l e R s m args below meth c H locs cells slots Q (F0 m (pc + 1) ls (iV (a % 2 ^ z) :: rest))) : W p l e R s m args below meth c H locs cells slots Q (F0 m (pc) ls (iV m0 :: iV a :: rest)) := lv_iand hexec hb hdg (by rw [ni_mask z hm hz]; exact k)
theorem nr_ishl (hexec : p.tables.exec = Jvm.exec) (hb : c.code = cc) {a b : Int} (h1 : 0 ≤ b ∧ b ≤ 31) (h2 : InR (a * 2 ^ b.toNat)) (hdg : decode cc pc = .ok (.ishl, 1)) (k : W p l e R s m args below meth c H locs cells slots Q (F0 m (pc + 1) ls (iV (a * 2 ^ b.toNat) :: rest))) : W p l e R s m args below meth c H locs cells slots Q (F0 m (pc) ls (iV b :: iV a :: rest)) := lv_ishl hexec hb hdg (by rw [ni_shl h1 h2]; exact k)
theorem nr_ishr (hexec : p.tables.exec = Jvm.exec) (hb : c.code = cc) {a b : Int} (h1 : 0 ≤ b ∧ b ≤ 31) (h2 : InR a) (hdg : decode cc pc = .ok (.ishr, 1)) (k : W p l e R s m args below meth c H locs cells slots Q (F0 m (pc + 1) ls (iV (a / 2 ^ b.toNat) :: rest))) : W p l e R s m args below meth c H locs cells slots Q (F0 m (pc) ls (iV b :: iV a :: rest)) := lv_ishr hexec hb hdg (by rw [ni_shr h2 h1]; exact k)
theorem nr_lshl (hexec : p.tables.exec = Jvm.exec) (hb : c.code = cc) {a b : Int} (h1 : 0 ≤ b ∧ b ≤ 63) (hdg : decode cc pc = .ok (.lshl, 1)) (k : W p l e R s m args below meth c H locs cells slots Q (F0 m (pc + 1) ls (jV (a * 2 ^ b.toNat) :: rest))) : W p l e R s m args below meth c H locs cells slots Q (F0 m (pc) ls (iV b :: jV a :: rest)) := lv_lshl hexec hb hdg (nj_shl h1) k
theorem nr_idiv (hexec : p.tables.exec = Jvm.exec) (hb : c.code = cc) {a b : Int} (ra : InR a) (rb : InR b) (h0 : ¬ b = 0) (hdg : decode cc pc = .ok (.idiv, 1)) (k : W p l e R s m args below meth c H locs cells slots Q (F0 m (pc + 1) ls (iV (a.tdiv b) :: rest))) : W p l e R s m args below meth c H locs cells slots Q (F0 m (pc) ls (iV b :: iV a :: rest)) := lv_idiv hexec hb hdg (by rw [ni_0, ni_inj rb ni_r0]; exact h0) (by rw [ni_div ra rb]; exact k)
theorem nr_irem (hexec : p.tables.exec = Jvm.exec) (hb : c.code = cc) {a b : Int} (ra : InR a) (rb : InR b) (h0 : ¬ b = 0) (hdg : decode cc pc = .ok (.irem, 1)) (k : W p l e R s m args below meth c H locs cells slots Q (F0 m (pc + 1) ls (iV (a.tmod b) :: rest))) : W p l e R s m args below meth c H locs cells slots Q (F0 m (pc) ls (iV b :: iV a :: rest)) := lv_irem hexec hb hdg (by rw [ni_0, ni_inj rb ni_r0]; exact h0) (by rw [ni_rem ra rb]; exact k)
theorem nr_ldiv (hexec : p.tables.exec = Jvm.exec) (hb : c.code = cc) {a b : Int} (ra : InL a) (rb : InL b) (h0 : ¬ b = 0) (hdg : decode cc pc = .ok (.ldiv, 1)) (k : W p l e R s m args below meth c H locs cells slots Q (F0 m (pc + 1) ls (jV (a.tdiv b) :: rest))) : W p l e R s m args below meth c H locs cells slots Q (F0 m (pc) ls (jV b :: jV a :: rest)) := lv_ldiv hexec hb hdg (by rw [nj_0, nj_inj rb (by decide)]; exact h0) (by rw [nj_div ra rb]; exact k)
theorem nr_lrem (hexec : p.tables.exec = Jvm.exec) (hb : c.code = cc) {a b : Int} (ra : InL a) (rb : InL b) (h0 : ¬ b = 0) (hdg : decode cc pc = .ok (.lrem, 1)) (k : W p l e R s m args below meth c H locs cells slots Q (F0 m (pc + 1) ls (jV (a.tmod b) :: rest))) : W p l e R s m args below meth c H locs cells slots Q (F0 m (pc) ls (jV b :: jV a :: rest)) := lv_lrem hexec hb hdg (by rw [nj_0, nj_inj rb (by decide)]; exact h0) (by rw [nj_rem ra rb]; exact k)
theorem nr_i2l (hexec : p.tables.exec = Jvm.exec) (hb : c.code = cc) {a : Int} (ra : InR a) (hdg : decode cc pc = .ok (.i2l, 1)) (k : W p l e R s m args below meth c H locs cells slots Q (F0 m (pc + 1) ls (jV a :: rest))) : W p l e R s m args below meth c H locs cells slots Q (F0 m (pc) ls (iV a :: rest)) := lv_i2l hexec hb hdg (Int32.toInt64_ofInt ra.1 (ni_m ra)) k
theorem nr_l2i (hexec : p.tables.exec = Jvm.exec) (hb : c.code = cc) {a : Int} (hdg : decode cc pc = .ok (.l2i, 1)) (k : W p l e R s m args below meth c H locs cells slots Q (F0 m (pc + 1) ls (iV a :: rest))) : W p l e R s m args below meth c H locs cells slots Q (F0 m (pc) ls (jV a :: rest)) := lv_l2i hexec hb hdg Int64.toInt32_ofInt k
theorem nr_i2b (hexec : p.tables.exec = Jvm.exec) (hb : c.code = cc) {a : Int} (hdg : decode cc pc = .ok (.i2b, 1)) (k : W p l e R s m args below meth c H locs cells slots Q (F0 m (pc + 1) ls (iV (a.bmod 256) :: rest))) : W p l e R s m args below meth c H locs cells slots Q (F0 m (pc) ls (iV a :: rest)) := lv_i2b hexec hb hdg (ni_2b a) k
theorem nr_icmp_eq (hexec : p.tables.exec = Jvm.exec) (hb : c.code = cc) {a b : Int} {off : Int} {tgt : Nat} (ra : InR a) (rb : InR b) (hdg : decode cc pc = .ok (.if_icmp .eq off, 3)) (ht : (pc : Int) + off = (tgt : Int)) (kt : a = b → W p l e R s m args below meth c H locs cells slots Q (F0 m (tgt) ls (rest))) (kf : ¬ (a = b) → W p l e R s m args below meth c H locs cells slots Q (F0 m (pc + 3) ls (rest))) : W p l e R s m args below meth c H locs cells slots Q (F0 m (pc) ls (iV b :: iV a :: rest)) := lv_icmp_eq hexec hb hdg ht (fun h => kt ((ni_inj ra rb).mp h)) (fun h => kf (fun h2 => h ((ni_inj ra rb).mpr h2)))
theorem nr_if_eq (hexec : p.tables.exec = Jvm.exec) (hb : c.code = cc) {a : Int} {off : Int} {tgt : Nat} (ra : InR a) (hdg : decode cc pc = .ok (.ifCond .eq off, 3)) (ht : (pc : Int) + off = (tgt : Int)) (kt : a = 0 → W p l e R s m args below meth c H locs cells slots Q (F0 m (tgt) ls (rest))) (kf : ¬ (a = 0) → W p l e R s m args below meth c H locs cells slots Q (F0 m (pc + 3) ls (rest))) : W p l e R s m args below meth c H locs cells slots Q (F0 m (pc) ls (iV a :: rest)) := lv_if_eq hexec hb hdg ht (fun h => kt ((ni_inj ra ni_r0).mp h)) (fun h => kf (fun h2 => h ((ni_inj ra ni_r0).mpr h2)))
theorem nr_icmp_ne (hexec : p.tables.exec = Jvm.exec) (hb : c.code = cc) {a b : Int} {off : Int} {tgt : Nat} (ra : InR a) (rb : InR b) (hdg : decode cc pc = .ok (.if_icmp .ne off, 3)) (ht : (pc : Int) + off = (tgt : Int)) (kt : ¬ a = b → W p l e R s m args below meth c H locs cells slots Q (F0 m (tgt) ls (rest))) (kf : a = b → W p l e R s m args below meth c H locs cells slots Q (F0 m (pc + 3) ls (rest))) : W p l e R s m args below meth c H locs cells slots Q (F0 m (pc) ls (iV b :: iV a :: rest)) := lv_icmp_ne hexec hb hdg ht (fun h => kt ((not_congr (ni_inj ra rb)).mp h)) (fun h => kf ((ni_inj ra rb).mp h))
theorem nr_if_ne (hexec : p.tables.exec = Jvm.exec) (hb : c.code = cc) {a : Int} {off : Int} {tgt : Nat} (ra : InR a) (hdg : decode cc pc = .ok (.ifCond .ne off, 3)) (ht : (pc : Int) + off = (tgt : Int)) (kt : ¬ a = 0 → W p l e R s m args below meth c H locs cells slots Q (F0 m (tgt) ls (rest))) (kf : a = 0 → W p l e R s m args below meth c H locs cells slots Q (F0 m (pc + 3) ls (rest))) : W p l e R s m args below meth c H locs cells slots Q (F0 m (pc) ls (iV a :: rest)) := lv_if_ne hexec hb hdg ht (fun h => kt ((not_congr (ni_inj ra ni_r0)).mp h)) (fun h => kf ((ni_inj ra ni_r0).mp h))
theorem nr_icmp_lt (hexec : p.tables.exec = Jvm.exec) (hb : c.code = cc) {a b : Int} {off : Int} {tgt : Nat} (ra : InR a) (rb : InR b) (hdg : decode cc pc = .ok (.if_icmp .lt off, 3)) (ht : (pc : Int) + off = (tgt : Int)) (kt : a < b → W p l e R s m args below meth c H locs cells slots Q (F0 m (tgt) ls (rest))) (kf : ¬ (a < b) → W p l e R s m args below meth c H locs cells slots Q (F0 m (pc + 3) ls (rest))) : W p l e R s m args below meth c H locs cells slots Q (F0 m (pc) ls (iV b :: iV a :: rest)) := lv_icmp_lt hexec hb hdg ht (fun h => kt ((ni_lt ra rb).mp h)) (fun h => kf (fun h2 => h ((ni_lt ra rb).mpr h2)))
theorem nr_if_lt (hexec : p.tables.exec = Jvm.exec) (hb : c.code = cc) {a : Int} {off : Int} {tgt : Nat} (ra : InR a) (hdg : decode cc pc = .ok (.ifCond .lt off, 3)) (ht : (pc : Int) + off = (tgt : Int)) (kt : a < 0 → W p l e R s m args below meth c H locs cells slots Q (F0 m (tgt) ls (rest))) (kf : ¬ (a < 0) → W p l e R s m args below meth c H locs cells slots Q (F0 m (pc + 3) ls (rest))) : W p l e R s m args below meth c H locs cells slots Q (F0 m (pc) ls (iV a :: rest)) := lv_if_lt hexec hb hdg ht (fun h => kt ((ni_lt ra ni_r0).mp h)) (fun h => kf (fun h2 => h ((ni_lt ra ni_r0).mpr h2)))
theorem nr_icmp_ge (hexec : p.tables.exec = Jvm.exec) (hb : c.code = cc) {a b : Int} {off : Int} {tgt : Nat} (ra : InR a) (rb : InR b) (hdg : decode cc pc = .ok (.if_icmp .ge off, 3)) (ht : (pc : Int) + off = (tgt : Int)) (kt : b ≤ a → W p l e R s m args below meth c H locs cells slots Q (F0 m (tgt) ls (rest))) (kf : ¬ (b ≤ a) → W p l e R s m args below meth c H locs cells slots Q (F0 m (pc + 3) ls (rest))) : W p l e R s m args below meth c H locs cells slots Q (F0 m (pc) ls (iV b :: iV a :: rest)) := lv_icmp_ge hexec hb hdg ht (fun h => kt ((ni_le rb ra).mp h)) (fun h => kf (fun h2 => h ((ni_le rb ra).mpr h2)))
theorem nr_if_ge (hexec : p.tables.exec = Jvm.exec) (hb : c.code = cc) {a : Int} {off : Int} {tgt : Nat} (ra : InR a) (hdg : decode cc pc = .ok (.ifCond .ge off, 3)) (ht : (pc : Int) + off = (tgt : Int)) (kt : 0 ≤ a → W p l e R s m args below meth c H locs cells slots Q (F0 m (tgt) ls (rest))) (kf : ¬ (0 ≤ a) → W p l e R s m args below meth c H locs cells slots Q (F0 m (pc + 3) ls (rest))) : W p l e R s m args below meth c H locs cells slots Q (F0 m (pc) ls (iV a :: rest)) := lv_if_ge hexec hb hdg ht (fun h => kt ((ni_le ni_r0 ra).mp h)) (fun h => kf (fun h2 => h ((ni_le ni_r0 ra).mpr h2)))
theorem nr_icmp_gt (hexec : p.tables.exec = Jvm.exec) (hb : c.code = cc) {a b : Int} {off : Int} {tgt : Nat} (ra : InR a) (rb : InR b) (hdg : decode cc pc = .ok (.if_icmp .gt off, 3)) (ht : (pc : Int) + off = (tgt : Int)) (kt : b < a → W p l e R s m args below meth c H locs cells slots Q (F0 m (tgt) ls (rest))) (kf : ¬ (b < a) → W p l e R s m args below meth c H locs cells slots Q (F0 m (pc + 3) ls (rest))) : W p l e R s m args below meth c H locs cells slots Q (F0 m (pc) ls (iV b :: iV a :: rest)) := lv_icmp_gt hexec hb hdg ht (fun h => kt ((ni_lt rb ra).mp h)) (fun h => kf (fun h2 => h ((ni_lt rb ra).mpr h2)))
theorem nr_if_gt (hexec : p.tables.exec = Jvm.exec) (hb : c.code = cc) {a : Int} {off : Int} {tgt : Nat} (ra : InR a) (hdg : decode cc pc = .ok (.ifCond .gt off, 3)) (ht : (pc : Int) + off = (tgt : Int)) (kt : 0 < a → W p l e R s m args below meth c H locs cells slots Q (F0 m (tgt) ls (rest))) (kf : ¬ (0 < a) → W p l e R s m args below meth c H locs cells slots Q (F0 m (pc + 3) ls (rest))) : W p l e R s m args below meth c H locs cells slots Q (F0 m (pc) ls (iV a :: rest)) := lv_if_gt hexec hb hdg ht (fun h => kt ((ni_lt ni_r0 ra).mp h)) (fun h => kf (fun h2 => h ((ni_lt ni_r0 ra).mpr h2)))
theorem nr_icmp_le (hexec : p.tables.exec = Jvm.exec) (hb : c.code = cc) {a b : Int} {off : Int} {tgt : Nat} (ra : InR a) (rb : InR b) (hdg : decode cc pc = .ok (.if_icmp .le off, 3)) (ht : (pc : Int) + off = (tgt : Int)) (kt : a ≤ b → W p l e R s m args below meth c H locs cells slots Q (F0 m (tgt) ls (rest))) (kf : ¬ (a ≤ b) → W p l e R s m args below meth c H locs cells slots Q (F0 m (pc + 3) ls (rest))) : W p l e R s m args below meth c H locs cells slots Q (F0 m (pc) ls (iV b :: iV a :: rest)) := lv_icmp_le hexec hb hdg ht (fun h => kt ((ni_le ra rb).mp h)) (fun h => kf (fun h2 => h ((ni_le ra rb).mpr h2)))
theorem nr_if_le (hexec : p.tables.exec = Jvm.exec) (hb : c.code = cc) {a : Int} {off : Int} {tgt : Nat} (ra : InR a) (hdg : decode cc pc = .ok (.ifCond .le off, 3)) (ht : (pc : Int) + off = (tgt : Int)) (kt : a ≤ 0 → W p l e R s m args below meth c H locs cells slots Q (F0 m (tgt) ls (rest))) (kf : ¬ (a ≤ 0) → W p l e R s m args below meth c H locs cells slots Q (F0 m (pc + 3) ls (rest))) : W p l e R s m args below meth c H locs cells slots Q (F0 m (pc) ls (iV a :: rest)) := lv_if_le hexec hb hdg ht (fun h => kt ((ni_le ra ni_r0).mp h)) (fun h => kf (fun h2 => h ((ni_le ra ni_r0).mpr h2)))
theorem nr_lcmp_eq (hexec : p.tables.exec = Jvm.exec) (hb : c.code = cc) {a b : Int} {off : Int} {tgt : Nat} (ra : InL a) (rb : InL b) (hdg : decode cc pc = .ok (.lcmp, 1)) (hdg2 : decode cc (pc + 1) = .ok (.ifCond .eq off, 3)) (ht : ((pc + 1 : Nat) : Int) + off = (tgt : Int)) (kt : a = b → W p l e R s m args below meth c H locs cells slots Q (F0 m (tgt) ls (rest))) (kf : ¬ (a = b) → W p l e R s m args below meth c H locs cells slots Q (F0 m (pc + 4) ls (rest))) : W p l e R s m args below meth c H locs cells slots Q (F0 m (pc) ls (jV b :: jV a :: rest)) := W.lcmp hexec hb hdg (by rw [nj_cmp ra rb]; exact nr_if_eq hexec hb (jCmp_R a b) hdg2 ht (fun h => kt ((jCmp_eq).mp h)) (fun h => kf (fun h2 => h ((jCmp_eq).mpr h2))))
theorem nr_lcmp_ne (hexec : p.tables.exec = Jvm.exec) (hb : c.code = cc) {a b : Int} {off : Int} {tgt : Nat} (ra : InL a) (rb : InL b) (hdg : decode cc pc = .ok (.lcmp, 1)) (hdg2 : decode cc (pc + 1) = .ok (.ifCond .ne off, 3)) (ht : ((pc + 1 : Nat) : Int) + off = (tgt : Int)) (kt : ¬ a = b → W p l e R s m args below meth c H locs cells slots Q (F0 m (tgt) ls (rest))) (kf : a = b → W p l e R s m args below meth c H locs cells slots Q (F0 m (pc + 4) ls (rest))) : W p l e R s m args below meth c H locs cells slots Q (F0 m (pc) ls (jV b :: jV a :: rest)) := W.lcmp hexec hb hdg (by rw [nj_cmp ra rb]; exact nr_if_ne hexec hb (jCmp_R a b) hdg2 ht (fun h => kt ((not_congr jCmp_eq).mp h)) (fun h => kf (jCmp_eq.mp h)))
theorem nr_lcmp_lt (hexec : p.tables.exec = Jvm.exec) (hb : c.code = cc) {a b : Int} {off : Int} {tgt : Nat} (ra : InL a) (rb : InL b) (hdg : decode cc pc = .ok (.lcmp, 1)) (hdg2 : decode cc (pc + 1) = .ok (.ifCond .lt off, 3)) (ht : ((pc + 1 : Nat) : Int) + off = (tgt : Int)) (kt : a < b → W p l e R s m args below meth c H locs cells slots Q (F0 m (tgt) ls (rest))) (kf : ¬ (a < b) → W p l e R s m args below meth c H locs cells slots Q (F0 m (pc + 4) ls (rest))) : W p l e R s m args below meth c H locs cells slots Q (F0 m (pc) ls (jV b :: jV a :: rest)) := W.lcmp hexec hb hdg (by rw [nj_cmp ra rb]; exact nr_if_lt hexec hb (jCmp_R a b) hdg2 ht (fun h => kt ((jCmp_lt).mp h)) (fun h => kf (fun h2 => h ((jCmp_lt).mpr h2))))
theorem nr_lcmp_ge (hexec : p.tables.exec = Jvm.exec) (hb : c.code = cc) {a b : Int} {off : Int} {tgt : Nat} (ra : InL a) (rb : InL b) (hdg : decode cc pc = .ok (.lcmp, 1)) (hdg2 : decode cc (pc + 1) = .ok (.ifCond .ge off, 3)) (ht : ((pc + 1 : Nat) : Int) + off = (tgt : Int)) (kt : b ≤ a → W p l e R s m args below meth c H locs cells slots Q (F0 m (tgt) ls (rest))) (kf : ¬ (b ≤ a) → W p l e R s m args below meth c H locs cells slots Q (F0 m (pc + 4) ls (rest))) : W p l e R s m args below meth c H locs cells slots Q (F0 m (pc) ls (jV b :: jV a :: rest)) := W.lcmp hexec hb hdg (by rw [nj_cmp ra rb]; exact nr_if_ge hexec hb (jCmp_R a b) hdg2 ht (fun h => kt ((jCmp_ge).mp h)) (fun h => kf (fun h2 => h ((jCmp_ge).mpr h2))))
theorem nr_lcmp_gt (hexec : p.tables.exec = Jvm.exec) (hb : c.code = cc) {a b : Int} {off : Int} {tgt : Nat} (ra : InL a) (rb : InL b) (hdg : decode cc pc = .ok (.lcmp, 1)) (hdg2 : decode cc (pc + 1) = .ok (.ifCond .gt off, 3)) (ht : ((pc + 1 : Nat) : Int) + off = (tgt : Int)) (kt : b < a → W p l e R s m args below meth c H locs cells slots Q (F0 m (tgt) ls (rest))) (kf : ¬ (b < a) → W p l e R s m args below meth c H locs cells slots Q (F0 m (pc + 4) ls (rest))) : W p l e R s m args below meth c H locs cells slots Q (F0 m (pc) ls (jV b :: jV a :: rest)) := W.lcmp hexec hb hdg (by rw [nj_cmp ra rb]; exact nr_if_gt hexec hb (jCmp_R a b) hdg2 ht (fun h => kt ((jCmp_gt).mp h)) (fun h => kf (fun h2 => h ((jCmp_gt).mpr h2))))
theorem nr_lcmp_le (hexec : p.tables.exec = Jvm.exec) (hb : c.code = cc) {a b : Int} {off : Int} {tgt : Nat} (ra : InL a) (rb : InL b) (hdg : decode cc pc = .ok (.lcmp, 1)) (hdg2 : decode cc (pc + 1) = .ok (.ifCond .le off, 3)) (ht : ((pc + 1 : Nat) : Int) + off = (tgt : Int)) (kt : a ≤ b → W p l e R s m args below meth c H locs cells slots Q (F0 m (tgt) ls (rest))) (kf : ¬ (a ≤ b) → W p l e R s m args below meth c H locs cells slots Q (F0 m (pc + 4) ls (rest))) : W p l e R s m args below meth c H locs cells slots Q (F0 m (pc) ls (jV b :: jV a :: rest)) := W.lcmp hexec hb hdg (by rw [nj_cmp ra rb]; exact nr_if_le hexec hb (jCmp_R a b) hdg2 ht (fun h => kt ((jCmp_le).mp h)) (fun h => kf (fun h2 => h ((jCmp_le).mpr h2))))
theorem nr_topi {x : Int} (k : ∀ y : Int, y = x → W p l e R s m args below meth c H locs cells slots Q (F0 m (pc) ls (iV y :: rest))) : W p l e R s m args below meth c H locs cells slots Q (F0 m (pc) ls (iV x :: rest)) := k x rfl
theorem nr_topj {x : Int} (k : ∀ y : Int, y = x → W p l e R s m args below meth c H locs cells slots Q (F0 m (pc) ls (jV y :: rest))) : W p l e R s m args below meth c H locs cells slots Q (F0 m (pc) ls (jV x :: rest)) := k x rfl
theorem nr_lookup (hexec : p.tables.exec = Jvm.exec) (hb : c.code = cc) {dflt : Int} {ps : Array (Int × Int)} {len : Nat} {x : Int} {off : Int} {tgt : Nat} (rx : InR x) (hdg : decode cc pc = .ok (.lookupswitch dflt ps, len)) (hp : (ps.toList.zip (ps.toList.drop 1)).all (fun (a, next) => a.1 < next.1) = true) (ho : Op.lookupswitch.offset ps.toList dflt x = off) (ht : (pc : Int) + off = (tgt : Int)) (k : W p l e R s m args below meth c H locs cells slots Q (F0 m (tgt) ls (rest))) : W p l e R s m args below meth c H locs cells slots Q (F0 m (pc) ls (iV x :: rest)) := lv_lookup hexec hb hdg hp (by rw [ni_T rx]; exact ho) ht k
theorem nr_tableOut (hexec : p.tables.exec = Jvm.exec) (hb : c.code = cc) {dflt lo hi : Int} {offs : Array Int} {len : Nat} {x : Int} {tgt : Nat} (rx : InR x) (hdg : decode cc pc = .ok (.tableswitch dflt lo hi offs, len)) (h : ¬ (lo ≤ x ∧ x ≤ hi)) (ht : (pc : Int) + dflt = (tgt : Int)) (k : W p l e R s m args below meth c H locs cells slots Q (F0 m (tgt) ls (rest))) : W p l e R s m args below meth c H locs cells slots Q (F0 m (pc) ls (iV x :: rest)) := lv_tableOut hexec hb hdg (by rw [ni_T rx]; omega) ht k
theorem nr_tableIn (hexec : p.tables.exec = Jvm.exec) (hb : c.code = cc) {dflt lo hi : Int} {offs : Array Int} {len : Nat} {x : Int} {off : Int} {tgt : Nat} (v : Int) (hv : x = v) (rx : InR v) (hdg : decode cc pc = .ok (.tableswitch dflt lo hi offs, len)) (h : lo ≤ v ∧ v ≤ hi) (ho : offs[(v - lo).toNat]? = some off) (ht : (pc : Int) + off = (tgt : Int)) (k : W p l e R s m args below meth c H locs cells slots Q (F0 m (tgt) ls (rest))) : W p l e R s m args below meth c H locs cells slots Q (F0 m (pc) ls (iV x :: rest)) := by
  subst hv
  exact lv_tableIn hexec hb hdg (by rw [ni_T rx]; omega) (by rw [ni_T rx]; omega) (by rw [ni_T rx]; exact ho) ht k
theorem nr_ldc (hexec : p.tables.exec = Jvm.exec) (hb : c.code = cc) {own : String} {index : Nat} {v : Int} {z : Int32} (hown : s.vm.findClass own = some m.cls) (hz : z = Int32.ofInt v) (hconst : (Jvm.Cond.constant own index z).before args s = true) (hdg : decode cc pc = .ok (.ldc index, 2)) (k : W p l e R s m args below meth c H locs cells slots Q (F0 m (pc + 2) ls (iV v :: rest))) : W p l e R s m args below meth c H locs cells slots Q (F0 m (pc) ls (rest)) := lv_ldc hexec hb hown (hz ▸ hconst) hdg k
theorem nr_ldcw (hexec : p.tables.exec = Jvm.exec) (hb : c.code = cc) {own : String} {index : Nat} {v : Int} {z : Int32} (hown : s.vm.findClass own = some m.cls) (hz : z = Int32.ofInt v) (hconst : (Jvm.Cond.constant own index z).before args s = true) (hdg : decode cc pc = .ok (.ldc_w index, 3)) (k : W p l e R s m args below meth c H locs cells slots Q (F0 m (pc + 3) ls (iV v :: rest))) : W p l e R s m args below meth c H locs cells slots Q (F0 m (pc) ls (rest)) := lv_ldcw hexec hb hown (hz ▸ hconst) hdg k
theorem nr_ldc2 (hexec : p.tables.exec = Jvm.exec) (hb : c.code = cc) {own : String} {index : Nat} {v : Int} {z : Int64} (hown : s.vm.findClass own = some m.cls) (hz : z = Int64.ofInt v) (hconst : (Jvm.Cond.constantLong own index z).before args s = true) (hdg : decode cc pc = .ok (.ldc2_w index, 3)) (k : W p l e R s m args below meth c H locs cells slots Q (F0 m (pc + 3) ls (jV v :: rest))) : W p l e R s m args below meth c H locs cells slots Q (F0 m (pc) ls (rest)) := lv_ldc2 hexec hb hown (hz ▸ hconst) hdg k
theorem nr_iinc (hexec : p.tables.exec = Jvm.exec) (hb : c.code = cc) {i nL k : Nat} {n x : Int} {lv lv' : List (Nat × Value)} (hdg : decode cc pc = .ok (.iinc i n, 3)) (h : lv_has ls nL lv) (hk : lv[k]? = some (i, iV x)) (hn : i < nL) (hl : (i, iV (x + n)) :: lv.filter (fun q => !(q.1 == i) && !(q.1 + 1 == i && q.2.category == 2)) = lv') (kk : ∀ ls' : Array Slot, lv_has ls' nL lv' → W p l e R s m args below meth c H locs cells slots Q (F0 m (pc + 3) ls' (rest))) : W p l e R s m args below meth c H locs cells slots Q (F0 m (pc) ls (rest)) := lv_iinc hexec hb hdg h hk (v := Int32.ofInt (x + n)) (by rw [Int32.ofInt_add]) hn hl kk
theorem nr_isubw (hexec : p.tables.exec = Jvm.exec) (hb : c.code = cc) {a b : Int} (hdg : decode cc pc = .ok (.isub, 1)) (k : W p l e R s m args below meth c H locs cells slots Q (F0 m (pc + 1) ls (iV (Int.bmod (a - b) 4294967296) :: rest))) : W p l e R s m args below meth c H locs cells slots Q (F0 m (pc) ls (iV b :: iV a :: rest)) := lv_isub hexec hb hdg (by rw [← Int32.ofInt_sub, ← ni_wrap]; exact k)
end IROWS
