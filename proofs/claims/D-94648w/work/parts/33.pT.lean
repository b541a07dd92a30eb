/-! PURE: what is told: towns, bones, proofs, loans -/
def nowA (S T : St) : Prop := RA (aI T 0) (aI S 0) (aI S 1) (aI S 2) (aI S 3) (fun k => aI S (15 + k.toNat)) (fun k => aI S (55 + k.toNat))
def imgA (S T : St) : Prop := RA (aI T 1) (aI S 4) (aI S 5) (aI S 6) (aI S 7) (fun k => aI S (35 + k.toNat)) (fun k => aI S (67 + k.toNat))
def sameX (S S' : St) : Prop := (∀ k, 3 ≤ k → k ≤ 5 → fI S' k = fI S k) ∧ rI S' = rI S ∧ (∀ a e, gI S a = some e → gI S' a = some e) ∧ (∀ k, (4 ≤ k ∧ k ≤ 8) ∨ (35 ≤ k ∧ k < 55) ∨ (67 ≤ k ∧ k < 79) → aI S' k = aI S k) ∧ aI S' 0 2 = aI S 0 2
def sameM (T T' : St) : Prop := (∀ k, 4 ≤ k → k ≤ 6 → fI T' k = fI T k) ∧ (∀ k, 1 ≤ k → k ≤ 3 → aI T' k = aI T k) ∧ aI T' 0 3 = aI T 0 3
theorem p_in {x lo hi : Int} {K : Int → Prop} (h1 : lo ≤ x → x ≤ hi → K 1) (h0 : ¬ (lo ≤ x ∧ x ≤ hi) → K 0) : w_X_in x lo hi K := by
  unfold w_X_in
  exact ⟨fun c => h0 (by omega), fun c => ⟨fun c2 => h0 (by omega), fun c2 => h1 (by omega) (by omega)⟩⟩
theorem pX_isTown {x : Int} {S : St} {K : Int → Prop} (ht : 0 ≤ aI S 0 0 ∧ aI S 0 0 ≤ 10) (h1 : 0 ≤ x → x < aI S 0 0 → K 1) (h0 : ¬ (0 ≤ x ∧ x < aI S 0 0) → K 0) : w_X_isTown x S K := by
  unfold w_X_isTown
  intro r
  refine ⟨by omega, p_in (fun a b _ => h1 a (by omega)) (fun a _ => h0 (by omega))⟩
theorem pX_isBone {x : Int} {S : St} {K : Int → Prop} (ht : 0 ≤ aI S 0 1 ∧ aI S 0 1 ≤ 16) (h1 : 0 ≤ x → x < aI S 0 1 → K 1) (h0 : ¬ (0 ≤ x ∧ x < aI S 0 1) → K 0) : w_X_isBone x S K := by
  unfold w_X_isBone
  intro r
  refine ⟨by omega, p_in (fun a b _ => h1 a (by omega)) (fun a _ => h0 (by omega))⟩
theorem pX_bone_2 {b e : Int} {S : St} {K : Int → Prop} (hb : 0 ≤ b ∧ b < 16) (he : 0 ≤ e ∧ e < 5) (h : K (aI S 3 (5 * b + e))) : w_X_bone_2 b e S K := by
  unfold w_X_bone_2
  rw [show b * 5 + e = 5 * b + e by omega]
  exact ⟨by omega, by omega, by omega, fun _ => h⟩
theorem pX_puts {b e v : Int} {S : St} {K : St → Prop} (hb : 0 ≤ b ∧ b < 16) (he : 0 ≤ e ∧ e < 5) (h : K (aset S 3 (5 * b + e) v)) : w_X_puts b e v S K := by
  unfold w_X_puts
  rw [show b * 5 + e = 5 * b + e by omega]
  refine ⟨by omega, by omega, by omega, ?_⟩
  rintro _ rfl
  exact h
theorem pX_year {S : St} {K : Int → Prop} (h : K (aI S 3 90)) : w_X_year S K := fun _ => h
theorem pX_town {x y : Int} {S : St} {K : Int → St → Prop} (ht : 0 ≤ aI S 0 0 ∧ aI S 0 0 ≤ 10)
    (h1 : 0 ≤ x → x ≤ 99 → 0 ≤ y → y ≤ 99 → aI S 0 0 < 10 → K (aI S 0 0) (aset (aset (aset S 1 (aI S 0 0) x) 2 (aI S 0 0) y) 0 0 (aI S 0 0 + 1)))
    (h0 : ¬ (0 ≤ x ∧ x ≤ 99 ∧ 0 ≤ y ∧ y ≤ 99 ∧ aI S 0 0 < 10) → K (-1) S) : w_X_town x y S K := by
  unfold w_X_town
  intro _
  rintro _ rfl
  intro _
  refine p_in (fun a1 a2 => br1 ?_) (fun a => br0 (h0 (by omega)))
  refine p_in (fun a3 a4 => br1 ?_) (fun a => br0 (h0 (by omega)))
  refine ⟨fun c => ?_, fun c => h0 (by omega)⟩
  refine ⟨by omega, ?_⟩
  rintro _ rfl
  refine ⟨by omega, ?_⟩
  rintro _ rfl
  intro _
  refine ⟨?_, ?_⟩
  · show InR (aI S 0 0 + 1)
    omega
  · rintro _ rfl
    exact h1 a1 a2 a3 a4 (by omega)
theorem bt_top {x n : Int} (h0 : 0 ≤ x) (h : x < 2 ^ n.toNat) : bt x n = 0 := bt_small h0 h (Int.le_refl n)
theorem rGood.town {n0 n1 : Int} {r : Int → Int} (h : rGood n0 n1 r) : rGood (n0 + 1) n1 r := by
  obtain ⟨c1, c2, c3⟩ := h
  refine ⟨c1, fun b b0 b1 => ?_, fun t t0 t1 => ?_⟩
  · have := c2 b b0 b1
    omega
  · obtain ⟨d1, d2, d3⟩ := c3 t t0 t1
    exact ⟨d1, d2, fun q => d3 (by omega)⟩
theorem rCor.town {n0 nb n1 : Int} {w : Int → Int → Int} {r : Int → Int} (h : rCor n0 nb w r) (h0 : 0 ≤ n0) (h1 : n0 < 10) (hg : rGood n0 n1 r) : rCor (n0 + 1) nb w r := by
  intro b b0 b1
  obtain ⟨c1, c2, c3, c4⟩ := h b b0 b1
  refine ⟨c1, c2, Int.lt_of_lt_of_le c3 (p2_mono (by omega)), fun t t0 t1 => ?_⟩
  by_cases c : t = n0
  · subst c
    rw [bt_top c2 c3, (hg.2.2 t h0 h1).2.2 (Int.le_refl t), bt_zero]
  · exact c4 t t0 (by omega)
theorem RA.town {f f' n n' x x' y y' r : Int → Int} {st se : Int → Int → Int} {px py : Int} (h : RA f n x y r st se) (h10 : n 0 < 10) (hpx : 0 ≤ px ∧ px ≤ 99) (hpy : 0 ≤ py ∧ py ≤ 99)
    (hf : ∀ j, f' j = if j = 0 then n 0 + 1 else if j = 10 + 2 * n 0 then px else if j = 11 + 2 * n 0 then py else f j) (hn : ∀ j, n' j = if j = 0 then n 0 + 1 else n j)
    (hx : ∀ j, x' j = if j = n 0 then px else x j) (hy : ∀ j, y' j = if j = n 0 then py else y j) : RA f' n' x' y' r st se := by
  obtain ⟨hN, hT, hB, hS, hE⟩ := h
  have hN0 := hN
  obtain ⟨⟨a0, a1, a2⟩, ⟨b0, b1, b2⟩, cy, ⟨d0, d1, d2⟩, ⟨e0, e1, e2⟩, ⟨g0, g1, g2⟩, ⟨i0, i1, i2⟩, ⟨j0, j1, j2⟩, ⟨k0, k1, k2⟩⟩ := hN
  have fh : ∀ j, 30 ≤ j → f' j = f j := fun j hj => by rw [hf, if_neg (by omega), if_neg (by omega), if_neg (by omega)]
  have fl : ∀ j, 1 ≤ j → j < 10 → f' j = f j := fun j hj _ => by rw [hf, if_neg (by omega), if_neg (by omega), if_neg (by omega)]
  have nn : ∀ j, j ≠ 0 → n' j = n j := fun j hj => by rw [hn, if_neg hj]
  have n0 : n' 0 = n 0 + 1 := by rw [hn, if_pos rfl]
  refine ⟨?_, ?_, ?_, ?_, ?_⟩
  · unfold RN
    rw [n0, nn 1 (by omega), nn 2 (by omega), nn 3 (by omega), nn 4 (by omega), nn 5 (by omega), nn 6 (by omega), nn 7 (by omega), fl 1 (by omega) (by omega), fl 2 (by omega) (by omega), fl 3 (by omega) (by omega), fl 4 (by omega) (by omega), fl 5 (by omega) (by omega), fl 6 (by omega) (by omega), fl 7 (by omega) (by omega), fl 8 (by omega) (by omega)]
    refine ⟨⟨?_, by omega, by omega⟩, ⟨b0, b1, b2⟩, cy, ⟨d0, d1, d2⟩, ⟨e0, e1, e2⟩, ⟨g0, g1, g2⟩, ⟨i0, i1, i2⟩, ⟨j0, j1, j2⟩, ⟨k0, k1, k2⟩⟩
    rw [hf, if_pos rfl]
  · intro t t0 t1
    rw [n0] at t1
    by_cases c : t = n 0
    · have q1 : f' (10 + 2 * t) = px := by rw [hf, if_neg (by omega), if_pos (by omega)]
      have q2 : f' (11 + 2 * t) = py := by rw [hf, if_neg (by omega), if_neg (by omega), if_pos (by omega)]
      have q3 : x' t = px := by rw [hx, if_pos c]
      have q4 : y' t = py := by rw [hy, if_pos c]
      omega
    · have q1 : f' (10 + 2 * t) = f (10 + 2 * t) := by rw [hf, if_neg (by omega), if_neg (by omega), if_neg (by omega)]
      have q2 : f' (11 + 2 * t) = f (11 + 2 * t) := by rw [hf, if_neg (by omega), if_neg (by omega), if_neg (by omega)]
      have q3 : x' t = x t := by rw [hx, if_neg c]
      have q4 : y' t = y t := by rw [hy, if_neg c]
      rw [q1, q2, q3, q4]
      exact hT t t0 (by omega)
  · obtain ⟨c1, c2, c3⟩ := hB
    unfold RB
    rw [n0, nn 1 (by omega)]
    refine ⟨fun b q0 q1 => ?_, ?_, c3.town⟩
    · rw [fh _ (by omega)]
      exact c1 b q0 q1
    · refine (c2.town a1 h10 c3).congr (by omega) b2 ?_ (fun _ _ _ => rfl)
      intro b e q0 q1 q2 q3
      exact fh _ (by omega)
  · intro k p0 p1
    rw [nn 4 (by omega)] at p1 ⊢
    obtain ⟨c1, c2, c3, c4, c5, c6, c7⟩ := hS k p0 p1
    unfold RS1
    rw [n0, nn 1 (by omega), fh _ (by omega), fh _ (by omega)]
    refine ⟨c1, c2, (c3.town a1 h10 c4).congr (by omega) (by omega) ?_ (fun _ _ _ => rfl), c4.town, c5, c6, c7⟩
    intro b e q0 q1 q2 q3
    exact fh _ (by omega)
  · intro i q0 q1
    rw [nn 5 (by omega)] at q1
    obtain ⟨c1, c2, c3⟩ := hE i q0 q1
    rw [n0]
    refine ⟨fun j p0 p1 => ?_, by omega, c3⟩
    rw [fh _ (by omega)]
    exact c1 j p0 p1
theorem RA.eqs {f n x y r r' : Int → Int} {st se st' se' : Int → Int → Int} (h : RA f n x y r st se) (hr : ∀ j, r' j = r j) (hs : ∀ k j, st' k j = st k j) (he : ∀ k j, se' k j = se k j) : RA f n x y r' st' se' := by
  have e1 : r' = r := funext hr
  have e2 : st' = st := funext fun k => funext (hs k)
  have e3 : se' = se := funext fun k => funext (he k)
  rw [e1, e2, e3]
  exact h
theorem nowA.nums {S T : St} (h : nowA S T) : RN (aI T 0) (aI S 0) (aI S 3) := h.1
theorem rel_town {S T : St} {x y : Int} (h : nowA S T) : w_X_town x y S (fun r S' => w_M_town x y T (fun r' T' => r = r' ∧ nowA S' T' ∧ sameX S S' ∧ sameM T T')) := by
  obtain ⟨⟨a0, a1, a2⟩, -⟩ := h.nums
  refine pX_town (by omega) (fun x0 x1 y0 y1 c => ?_) (fun c => ?_)
  · refine p_town (by omega) (fun _ _ _ _ _ => ?_) (fun c2 => absurd (by omega) c2)
    refine ⟨by omega, ?_, ?_, ?_⟩
    · unfold nowA at h ⊢
      rw [a0]
      refine (h.town (px := x) (py := y) c ⟨x0, x1⟩ ⟨y0, y1⟩ ?_ ?_ ?_ ?_).eqs (fun j => by simp only [aI_aset]; grind) (fun k j => by simp only [aI_aset]; grind) (fun k j => by simp only [aI_aset]; grind)
      · intro j
        simp only [aI_aset]
        grind
      · intro j
        simp only [aI_aset]
        grind
      · intro j
        simp only [aI_aset]
        grind
      · intro j
        simp only [aI_aset]
        grind
    · refine ⟨fun _ _ _ => rfl, rfl, fun _ _ q => q, fun k hk => ?_, ?_⟩
      · funext j
        simp only [aI_aset]
        grind
      · simp only [aI_aset]
        grind
    · refine ⟨fun _ _ _ => rfl, fun k _ _ => ?_, ?_⟩
      · funext j
        simp only [aI_aset]
        grind
      · simp only [aI_aset]
        grind
  · refine p_town (by omega) (fun _ _ _ _ _ => absurd (by omega) c) (fun c2 => ?_)
    exact ⟨rfl, h, ⟨fun _ _ _ => rfl, rfl, fun _ _ q => q, fun _ _ => rfl, rfl⟩, ⟨fun _ _ _ => rfl, fun _ _ _ => rfl, rfl⟩⟩
