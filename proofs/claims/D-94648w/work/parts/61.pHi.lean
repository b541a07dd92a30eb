/-! PURE: histories: what both reckon: how many are linked, how many thefts, in how many ways -/
variable {tB : Int}
abbrev H3 : Type := Int × Int × Int
def hUp (c d : H3) : H3 := if c.1 < d.1 ∨ (c.1 = d.1 ∧ d.2.1 < c.2.1) then d else if c.1 = d.1 ∧ c.2.1 = d.2.1 then (c.1, c.2.1, c.2.2 + d.2.2) else c
/-- one that is linked to a -/
def hC (tw : Int → Int) (i mask : Int) (f : Int → H3) (a : Int) : H3 := ((f (iOr mask (1 * 2 ^ a.toNat))).1 + 1, (f (iOr mask (1 * 2 ^ a.toNat))).2.1 + (if tw a = tw i then 0 else 1), (f (iOr mask (1 * 2 ^ a.toNat))).2.2)
def hA (sm : Int → Int → Int) (tw : Int → Int) (i mask : Int) (f : Int → H3) : Nat → H3
  | 0 => f mask
  | a + 1 => if bt mask a = 0 ∧ sm a i = 1 then hUp (hA sm tw i mask f a) (hC tw i mask f a) else hA sm tw i mask f a
def hF (sm : Int → Int → Int) (tw : Int → Int) (N : Nat) : Nat → Int → H3
  | 0 => fun _ => (0, 0, 1)
  | r + 1 => fun mask => hA sm tw ((N : Int) - ((r : Int) + 1)) mask (hF sm tw N r) N
def hOk (r B : Int) (c : H3) : Prop := (0 ≤ c.2.1 ∧ c.2.1 ≤ c.1 ∧ c.1 ≤ r) ∧ 1 ≤ c.2.2 ∧ c.2.2 ≤ B
theorem hUp_ok {r B B' : Int} {c d : H3} (hc : hOk r B c) (hd : hOk r B' d) (hB : 0 ≤ B) : hOk r (B + B') (hUp c d) := by
  unfold hOk at hc hd ⊢
  unfold hUp
  by_cases c1 : c.1 < d.1 ∨ (c.1 = d.1 ∧ d.2.1 < c.2.1)
  · rw [if_pos c1]
    omega
  · rw [if_neg c1]
    by_cases c2 : c.1 = d.1 ∧ c.2.1 = d.2.1
    · rw [if_pos c2]
      show (0 ≤ c.2.1 ∧ c.2.1 ≤ c.1 ∧ c.1 ≤ r) ∧ 1 ≤ c.2.2 + d.2.2 ∧ c.2.2 + d.2.2 ≤ B + B'
      omega
    · rw [if_neg c2]
      omega
theorem hC_ok {tw : Int → Int} {i mask a r B : Int} {f : Int → H3} (hf : ∀ m, hOk r B (f m)) : hOk (r + 1) B (hC tw i mask f a) := by
  have h := hf (iOr mask (1 * 2 ^ a.toNat))
  unfold hOk at h ⊢
  unfold hC
  dsimp only
  by_cases c : tw a = tw i
  · rw [if_pos c]
    omega
  · rw [if_neg c]
    omega
theorem hA_ok {sm : Int → Int → Int} {tw : Int → Int} {i mask r : Int} {B : Nat} {f : Int → H3} (hf : ∀ m, hOk r (B : Int) (f m)) : ∀ (a : Nat), hOk (r + 1) (((a + 1) * B : Nat) : Int) (hA sm tw i mask f a) := by
  intro a
  induction a with
  | zero =>
    have h := hf mask
    unfold hOk at h ⊢
    show (0 ≤ (f mask).2.1 ∧ (f mask).2.1 ≤ (f mask).1 ∧ (f mask).1 ≤ r + 1) ∧ 1 ≤ (f mask).2.2 ∧ (f mask).2.2 ≤ _
    rw [Nat.zero_add, Nat.one_mul]
    omega
  | succ a ih =>
    have e : (((a + 1 + 1) * B : Nat) : Int) = (((a + 1) * B : Nat) : Int) + (B : Int) := by
      rw [Nat.succ_mul (a + 1) B]
      push_cast
      rfl
    show hOk (r + 1) _ (if bt mask a = 0 ∧ sm a i = 1 then hUp (hA sm tw i mask f a) (hC tw i mask f a) else hA sm tw i mask f a)
    by_cases c : bt mask a = 0 ∧ sm a i = 1
    · rw [if_pos c, e]
      exact hUp_ok ih (hC_ok hf) (by omega)
    · rw [if_neg c, e]
      obtain ⟨h1, h2, h3⟩ := ih
      exact ⟨h1, h2, by omega⟩
theorem hF_ok {sm : Int → Int → Int} {tw : Int → Int} {N : Nat} (hN : N ≤ 12) : ∀ (r : Nat) (mask : Int), hOk r ((13 ^ r : Nat) : Int) (hF sm tw N r mask) := by
  intro r
  induction r with
  | zero =>
    intro mask
    exact ⟨⟨Int.le_refl 0, Int.le_refl 0, Int.le_refl 0⟩, Int.le_refl 1, Int.le_refl 1⟩
  | succ r ih =>
    intro mask
    have h := hA_ok (sm := sm) (tw := tw) (i := (N : Int) - ((r : Int) + 1)) (mask := mask) ih N
    have e : (N + 1) * 13 ^ r ≤ 13 ^ (r + 1) := by
      rw [Nat.pow_succ, Nat.mul_comm (13 ^ r) 13]
      exact Nat.mul_le_mul_right _ (by omega)
    show hOk ((r + 1 : Nat) : Int) _ (hA sm tw ((N : Int) - ((r : Int) + 1)) mask (hF sm tw N r) N)
    obtain ⟨h1, h2, h3⟩ := h
    refine ⟨?_, h2, ?_⟩
    · rw [show ((r + 1 : Nat) : Int) = (r : Int) + 1 by omega]
      exact h1
    · have : (((N + 1) * 13 ^ r : Nat) : Int) ≤ ((13 ^ (r + 1) : Nat) : Int) := by exact_mod_cast e
      omega
theorem p13 {r : Nat} (hr : r ≤ 12) : 13 ^ r ≤ 23298085122481 := by
  have h1 : 13 ^ r ≤ 13 ^ 12 := Nat.pow_le_pow_right (by decide) hr
  have h2 : 13 ^ 12 = 23298085122481 := by decide
  omega
/-- the component's and the twin's number for it -/
def hW (c : H3) : Int := 1000 * c.1 - c.2.1
def hQ (r : Int) (c : H3) : Int := 100 * (r - c.1) + c.2.1
theorem hA_part {sm : Int → Int → Int} {tw : Int → Int} {i mask r : Int} {B : Nat} {f : Int → H3} (hf : ∀ m, hOk r (B : Int) (f m)) {a : Nat} (ha : a ≤ 12) (hB : B ≤ 23298085122481) : (hA sm tw i mask f a).2.2 ≤ 302875106592253 := by
  have h := (hA_ok (sm := sm) (tw := tw) (i := i) (mask := mask) hf a).2.2
  have e : (a + 1) * B ≤ 13 * 23298085122481 := Nat.mul_le_mul (by omega) hB
  have e2 : (((a + 1) * B : Nat) : Int) ≤ ((13 * 23298085122481 : Nat) : Int) := by exact_mod_cast e
  have e3 : ((13 * 23298085122481 : Nat) : Int) = 302875106592253 := by decide
  omega
/-- some one gives the best -/
theorem hA_some {sm : Int → Int → Int} {tw : Int → Int} {i mask : Int} {f : Int → H3} : ∀ (a : Nat), ((hA sm tw i mask f a).1 = (f mask).1 ∧ (hA sm tw i mask f a).2.1 = (f mask).2.1) ∨ ∃ b : Nat, b < a ∧ (bt mask b = 0 ∧ sm b i = 1) ∧ (hA sm tw i mask f a).1 = (hC tw i mask f b).1 ∧ (hA sm tw i mask f a).2.1 = (hC tw i mask f b).2.1 := by
  intro a
  induction a with
  | zero => exact Or.inl ⟨rfl, rfl⟩
  | succ a ih =>
    have e : hA sm tw i mask f (a + 1) = if bt mask a = 0 ∧ sm a i = 1 then hUp (hA sm tw i mask f a) (hC tw i mask f a) else hA sm tw i mask f a := rfl
    by_cases c : bt mask a = 0 ∧ sm a i = 1
    · rw [if_pos c] at e
      unfold hUp at e
      by_cases c1 : (hA sm tw i mask f a).1 < (hC tw i mask f a).1 ∨ ((hA sm tw i mask f a).1 = (hC tw i mask f a).1 ∧ (hC tw i mask f a).2.1 < (hA sm tw i mask f a).2.1)
      · rw [if_pos c1] at e
        exact Or.inr ⟨a, by omega, c, by rw [e], by rw [e]⟩
      · rw [if_neg c1] at e
        by_cases c2 : (hA sm tw i mask f a).1 = (hC tw i mask f a).1 ∧ (hA sm tw i mask f a).2.1 = (hC tw i mask f a).2.1
        · rw [if_pos c2] at e
          exact Or.inr ⟨a, by omega, c, by rw [e]; exact c2.1, by rw [e]; exact c2.2⟩
        · rw [if_neg c2] at e
          rw [e]
          rcases ih with h | ⟨b, b0, b1, b2, b3⟩
          · exact Or.inl h
          · exact Or.inr ⟨b, by omega, b1, b2, b3⟩
    · rw [if_neg c] at e
      rw [e]
      rcases ih with h | ⟨b, b0, b1, b2, b3⟩
      · exact Or.inl h
      · exact Or.inr ⟨b, by omega, b1, b2, b3⟩
/-- the component's tables -/
def hXT (S0 S' : St) (sm : Int → Int → Int) (N : Nat) (r : Nat) (m : Int) : Prop := (∀ k, ¬ (103 ≤ k ∧ k ≤ 128) → aI S' k = aI S0 k) ∧ fI S' = fI S0 ∧ rI S' = rI S0 ∧ gI S' = gI S0 ∧
  (∀ q, q ≤ r → ∀ mask, 0 ≤ mask → mask < 2 ^ N → aI S' (103 + (N - q)) mask = hW (hF sm (fun a => aI S0 (55 + a.toNat) 0) N q mask) ∧ aI S' (116 + (N - q)) mask = (hF sm (fun a => aI S0 (55 + a.toNat) 0) N q mask).2.2) ∧
  (∀ mask, 0 ≤ mask → mask < m → aI S' (103 + (N - (r + 1))) mask = hW (hF sm (fun a => aI S0 (55 + a.toNat) 0) N (r + 1) mask) ∧ aI S' (116 + (N - (r + 1))) mask = (hF sm (fun a => aI S0 (55 + a.toNat) 0) N (r + 1) mask).2.2)
theorem hXT.rel {S0 S' T : St} {sm : Int → Int → Int} {N r : Nat} {m : Int} (h : REL tB S0 T) (hx : hXT S0 S' sm N r m) : REL tB S' T :=
  h.alike (fun k hk => hx.1 k (by omega)) (fun k _ _ => by rw [hx.2.1]) hx.2.2.1 (by rw [hx.2.2.2.1]; exact extP.refl _) (fun _ _ => rfl) (fun _ _ _ => rfl)
theorem isSm_core {S S' : St} (h : ∀ k, k ≤ 2 ∨ (55 ≤ k ∧ k < 67) → aI S' k = aI S k) {a b : Int} (ha : 0 ≤ a ∧ a < 12) (hb : 0 ≤ b ∧ b < 12) : isSm S' a b ↔ isSm S a b := by
  unfold isSm
  rw [h (55 + a.toNat) (by omega), h (55 + b.toNat) (by omega), h 0 (by omega), h 1 (by omega), h 2 (by omega)]
theorem orm {mask : Int} {N : Nat} {a : Int} (hN : N ≤ 12) (hm : 0 ≤ mask ∧ mask < 2 ^ N) (ha : 0 ≤ a ∧ a < N) : 0 ≤ iOr mask (1 * 2 ^ a.toNat) ∧ iOr mask (1 * 2 ^ a.toNat) < 2 ^ N := by
  have := iOr_lt (x := mask) (t := a) (n := (N : Int)) (by rw [Int.toNat_natCast]; exact hm) ha (by omega)
  rw [Int.toNat_natCast] at this
  exact this
theorem p2N {N : Nat} (hN : N ≤ 12) : (1 : Int) ≤ 2 ^ N ∧ (2 : Int) ^ N ≤ 4096 := by
  have h1 := p2_mono (m := (N : Int)) (n := 12) (by omega)
  rw [Int.toNat_natCast] at h1
  have h2 : (0 : Int) < 2 ^ N := Int.pow_pos (by decide)
  have h3 : (2 : Int) ^ (12 : Int).toNat = 4096 := by decide
  omega
theorem pX_may {S0 S' T : St} {sm : Int → Int → Int} {N r : Nat} {m i mask a : Int} {K : Int → Prop} (h : REL tB S0 T) (hN : aI S0 0 5 = N) (hx : hXT S0 S' sm N r m) (hsm : ∀ a b : Int, 0 ≤ a → a < (N : Int) → 0 ≤ b → b < (N : Int) → (isSm S0 a b ∧ sm a b = 1) ∨ (¬ isSm S0 a b ∧ sm a b = 0))
    (hi : 0 ≤ i ∧ i < N) (ha : 0 ≤ a ∧ a < N) (h1 : bt mask a = 0 → sm a i = 1 → K 1) (h0 : ¬ (bt mask a = 0 ∧ sm a i = 1) → K 0) : w_X_may i mask a S' K := by
  have R := hx.rel h
  obtain ⟨-, -, -, -, -, -, ⟨i0, i1, i2⟩, -⟩ := h.1.nums
  have e5 : aI S' 0 5 = N := by rw [hx.1 0 (by omega)]; exact hN
  have cc := isSm_core (S := S0) (S' := S') (fun k hk => hx.1 k (by omega)) (a := a) (b := i) (by omega) (by omega)
  unfold w_X_may
  refine ⟨fun z => absurd z (by omega), fun _ => ⟨by omega, fun z => ?_, fun z => ?_⟩⟩
  · rw [bt_div] at z
    exact h0 (fun q => z q.1)
  · rw [bt_div] at z
    refine pX_isSame R.1 (by omega) (by omega) (fun y => br1 ?_) (fun y => br0 ?_)
    · rcases hsm a i ha.1 ha.2 hi.1 hi.2 with ⟨-, q⟩ | ⟨q, -⟩
      · exact h1 z q
      · exact absurd (cc.mp y) q
    · rcases hsm a i ha.1 ha.2 hi.1 hi.2 with ⟨q, -⟩ | ⟨-, q⟩
      · exact absurd (cc.mpr q) y
      · exact h0 (fun z2 => by omega)
theorem pX_worthOf {S0 S' T : St} {sm : Int → Int → Int} {N r : Nat} {m mask a : Int} {K : Int → Prop} (h : REL tB S0 T) (hN : aI S0 0 5 = N) (hr : r + 1 ≤ N) (hx : hXT S0 S' sm N r m) (hm : 0 ≤ mask ∧ mask < 2 ^ N) (ha : 0 ≤ a ∧ a < N)
    (hK : K (hW (hC (fun a => aI S0 (55 + a.toNat) 0) ((N : Int) - ((r : Int) + 1)) mask (hF sm (fun a => aI S0 (55 + a.toNat) 0) N r) a))) : w_X_worthOf ((N : Int) - ((r : Int) + 1)) mask a S' K := by
  obtain ⟨-, -, -, -, -, -, ⟨i0, i1, i2⟩, -⟩ := h.1.nums
  have hN12 : N ≤ 12 := by omega
  have o := orm hN12 hm ha
  have p := p2N hN12
  have ok := hF_ok (sm := sm) (tw := fun a => aI S0 (55 + a.toNat) 0) hN12 r (iOr mask (1 * 2 ^ a.toNat))
  have ea : aI S' (55 + a.toNat) = aI S0 (55 + a.toNat) := hx.1 _ (by omega)
  have ei : aI S' (55 + Int.toNat ((N : Int) - ((r : Int) + 1))) = aI S0 (55 + Int.toNat ((N : Int) - ((r : Int) + 1))) := hx.1 _ (by omega)
  have t := (hx.2.2.2.2.1 r (Nat.le_refl r) _ o.1 o.2).1
  have pa : (2 : Int) ^ a.toNat ≤ 4096 := by
    have := p2_mono (m := a) (n := 12) (by omega)
    exact this
  have pa0 : (0 : Int) < 2 ^ a.toNat := Int.pow_pos (by decide)
  have row : 103 + Int.toNat ((N : Int) - ((r : Int) + 1) + 1) = 103 + (N - r) := by omega
  have ok1 := ok.1
  have fin : ∀ d : Int, d = (if aI S0 (55 + a.toNat) 0 = aI S0 (55 + Int.toNat ((N : Int) - ((r : Int) + 1))) 0 then 0 else 1) → j_X_worthOf_49 ((N : Int) - ((r : Int) + 1)) mask a 1000 d S' K := by
    intro d hd
    have d01 : d = 0 ∨ d = 1 := by
      rw [hd]
      split
      · exact Or.inl rfl
      · exact Or.inr rfl
    unfold j_X_worthOf_49
    rw [row, t]
    unfold hW at hK ⊢
    refine ⟨by omega, by omega, by omega, by omega, by omega, by omega, fun _ => ⟨by omega, ?_⟩⟩
    unfold hC at hK
    dsimp only at hK
    rw [← hd] at hK
    refine cast (congrArg K ?_) hK
    omega
  unfold w_X_worthOf
  refine ⟨fun _ => ⟨by omega, fun _ => ⟨by omega, fun _ => ⟨fun z => fin 1 ?_, fun z => fin 0 ?_⟩⟩⟩, fun z => absurd z (by omega)⟩
  · rw [ea, ei] at z
    rw [if_neg z]
  · rw [ea, ei] at z
    rw [if_pos z]
