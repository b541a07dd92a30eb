/-! PURE: same -/
def isSm (S : St) (a b : Int) : Prop := aI S (55 + a.toNat) 1 = aI S (55 + b.toNat) 1 ∧ 0 < aI S (55 + b.toNat) 3 - aI S (55 + a.toNat) 3 ∧ 0 ≤ aI S (55 + a.toNat) 2 - aI S (55 + b.toNat) 2 ∧ aI S (55 + a.toNat) 2 - aI S (55 + b.toNat) 2 ≤ aI S 0 6 * (aI S (55 + b.toNat) 3 - aI S (55 + a.toNat) 3) ∧ Int.tdiv (dist (aI S 1) (aI S 2) (aI S (55 + a.toNat) 0) (aI S (55 + b.toNat) 0)) (aI S 0 7) ≤ aI S (55 + b.toNat) 3 - aI S (55 + a.toNat) 3
theorem mul_bd {l y : Int} (hl : 0 ≤ l ∧ l ≤ 9) (hy : 0 < y ∧ y ≤ 999) : 0 ≤ l * y ∧ l * y ≤ 8991 := by
  constructor
  · exact Int.mul_nonneg hl.1 (by omega)
  · have := Int.mul_le_mul hl.2 hy.2 (by omega) (by omega)
    omega
theorem tdiv_bd {d p : Int} (hd : 0 ≤ d ∧ d ≤ 198) (hp : 1 ≤ p) : 0 ≤ Int.tdiv d p ∧ Int.tdiv d p ≤ 198 := by
  constructor
  · exact Int.tdiv_nonneg hd.1 (by omega)
  · rw [Int.tdiv_eq_ediv_of_nonneg hd.1]
    have := Int.ediv_le_self p hd.1
    omega
theorem pX_isSame {S T : St} {a b : Int} {K : Int → Prop} (h : nowA S T) (ha : 0 ≤ a ∧ a < aI S 0 5) (hb : 0 ≤ b ∧ b < aI S 0 5) (h1 : isSm S a b → K 1) (h0 : ¬ isSm S a b → K 0) : w_X_isSame a b S K := by
  have hN := h.nums
  obtain ⟨-, -, -, -, -, -, ⟨i0, i1, i2⟩, ⟨j0, j1, j2⟩, ⟨k0, k1, k2⟩⟩ := hN
  have sa := (h.2.2.2.2 a ha.1 ha.2).2
  have sb := (h.2.2.2.2 b hb.1 hb.2).2
  dsimp only at sa sb
  unfold isSm at h0 h1
  unfold w_X_isSame
  refine ⟨by omega, by omega, fun _ _ => ⟨by omega, ?_⟩⟩
  rintro _ rfl
  refine fun _ _ _ => ⟨by omega, ?_⟩
  rintro _ rfl
  refine fun _ _ _ => ⟨fun c => h0 (fun q => c q.1), fun c => ⟨fun c1 => h0 (fun q => by omega), fun c1 _ => ?_⟩⟩
  have mb := mul_bd ⟨j1, j2⟩ (y := aI S (55 + b.toNat) 3 - aI S (55 + a.toNat) 3) (by omega)
  refine ⟨by omega, p_in (fun c2 c3 => br1 ?_) (fun c2 => br0 (h0 (fun q => c2 ⟨q.2.2.1, q.2.2.2.1⟩)))⟩
  refine fun _ _ => pX_miles h (by omega) (by omega) (fun m0 m1 _ _ => ?_)
  have tb := tdiv_bd ⟨m0, m1⟩ k1
  exact ⟨by omega, by omega, fun c4 => h0 (fun q => by omega), fun c4 => h1 ⟨c, by omega, c2, c3, by omega⟩⟩
theorem pM_same {S T : St} {a b : Int} {K : Int → Prop} (h : nowA S T) (h1 : (0 ≤ a ∧ a < aI S 0 5) → (0 ≤ b ∧ b < aI S 0 5) → isSm S a b → K 1) (h0 : ¬ ((0 ≤ a ∧ a < aI S 0 5) ∧ (0 ≤ b ∧ b < aI S 0 5) ∧ isSm S a b) → K 0) : w_M_same a b T K := by
  have hN := h.nums
  obtain ⟨-, -, -, -, -, -, ⟨i0, i1, i2⟩, ⟨j0, j1, j2⟩, ⟨k0, k1, k2⟩⟩ := hN
  unfold w_M_same
  refine fun _ => ⟨by omega, p_isIn (fun a1 a2 => br1 ?_) (fun c => br0 (h0 (fun q => c (by omega))))⟩
  refine p_isIn (fun b1 b2 _ => ⟨fun _ => ?_, fun n => absurd n (by decide)⟩) (fun c _ => ⟨fun n => absurd rfl n, fun _ => h0 (fun q => c (by omega))⟩)
  have ha : 0 ≤ a ∧ a < aI S 0 5 := by omega
  have hb : 0 ≤ b ∧ b < aI S 0 5 := by omega
  have h0' : ¬ isSm S a b → K 0 := fun n => h0 (fun q => n q.2.2)
  have h1' := h1 ha hb
  obtain ⟨fa, sa⟩ := h.2.2.2.2 a ha.1 ha.2
  obtain ⟨fb, sb⟩ := h.2.2.2.2 b hb.1 hb.2
  have fa0 := fa 0 (by omega) (by omega)
  have fb0 := fb 0 (by omega) (by omega)
  rw [Int.add_zero] at fa0 fb0
  have fa1 := fa 1 (by omega) (by omega)
  have fb1 := fb 1 (by omega) (by omega)
  have fa2 := fa 2 (by omega) (by omega)
  have fb2 := fb 2 (by omega) (by omega)
  have fa3 := fa 3 (by omega) (by omega)
  have fb3 := fb 3 (by omega) (by omega)
  dsimp only at sa sb fa0 fb0 fa1 fb1 fa2 fb2 fa3 fb3
  unfold isSm at h0' h1'
  refine ⟨by omega, by omega, ?_⟩
  rintro _ rfl
  refine fun _ => ⟨by omega, by omega, ?_⟩
  rintro _ rfl
  rw [fa3, fb3, fa1, fb1, fa2, fb2, fa0, fb0, j0, k0]
  refine fun _ => ⟨by omega, by omega, fun _ => ⟨by omega, by omega, fun _ => ⟨by omega, ?_⟩⟩⟩
  rintro _ rfl
  refine fun _ => ⟨by omega, by omega, fun _ => ⟨by omega, by omega, fun _ => ⟨fun c => h0' (fun q => c q.1), fun c => ⟨fun c1 => h0' (fun q => by omega), fun c1 => ?_⟩⟩⟩⟩
  have mb := mul_bd ⟨j1, j2⟩ (y := aI S (55 + b.toNat) 3 - aI S (55 + a.toNat) 3) (by omega)
  refine ⟨by omega, by omega, fun _ => ⟨by omega, by omega, fun _ => ⟨by omega, fun _ => ⟨by omega, ?_⟩⟩⟩⟩
  refine p_isIn (fun c2 c3 _ => ⟨fun _ => ?_, fun n => absurd n (by decide)⟩) (fun c2 _ => ⟨fun n => absurd rfl n, fun _ => h0' (fun q => c2 ⟨q.2.2.1, q.2.2.2.1⟩)⟩)
  refine ⟨by omega, fun _ => ⟨by omega, fun _ => pM_miles h (by omega) (by omega) (fun m0 _ => ?_)⟩⟩
  have tb : -2147483648 ≤ Int.tdiv (dist (aI S 1) (aI S 2) (aI S (55 + a.toNat) 0) (aI S (55 + b.toNat) 0)) (aI S 0 7) ∧ Int.tdiv (dist (aI S 1) (aI S 2) (aI S (55 + a.toNat) 0) (aI S (55 + b.toNat) 0)) (aI S 0 7) ≤ 2147483647 := by
    have d := h.2.1 (aI S (55 + a.toNat) 0) (by omega) (by omega)
    have d2 := h.2.1 (aI S (55 + b.toNat) 0) (by omega) (by omega)
    have := tdiv_bd (d := dist (aI S 1) (aI S 2) (aI S (55 + a.toNat) 0) (aI S (55 + b.toNat) 0)) (p := aI S 0 7) (by unfold dist; omega) k1
    omega
  exact ⟨by omega, by omega, fun c4 => h0' (fun q => by omega), fun c4 => h1' ⟨c, by omega, c2, c3, by omega⟩⟩
theorem rel_same {S T : St} {a b : Int} {K : Int → Prop} (h : nowA S T) (hK : ∀ r, (∀ K' : Int → Prop, K' r → w_M_same a b T K') → K r) : w_X_same a b S K := by
  obtain ⟨-, -, -, -, -, -, ⟨i0, i1, i2⟩, -⟩ := h.nums
  unfold w_X_same w_X_isSeen
  refine fun _ => ⟨by omega, p_in (fun a1 a2 _ => br1 ?_) (fun c _ => br0 (hK _ (fun K' hk => pM_same h (fun q => absurd (by omega) c) (fun _ => hk))))⟩
  refine fun _ => ⟨by omega, p_in (fun b1 b2 _ => br1 ?_) (fun c _ => br0 (hK _ (fun K' hk => pM_same h (fun _ q => absurd (by omega) c) (fun _ => hk))))⟩
  exact pX_isSame h (by omega) (by omega) (fun y => br1 (hK _ (fun K' hk => pM_same h (fun _ _ _ => hk) (fun n => absurd ⟨by omega, by omega, y⟩ n)))) (fun y => br0 (hK _ (fun K' hk => pM_same h (fun _ _ q => absurd q y) (fun _ => hk))))
