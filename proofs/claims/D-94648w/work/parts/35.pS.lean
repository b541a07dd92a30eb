/-! PURE: a step: all is kept, then some of the bones change -/
theorem RA.write {f f' n x y r r' : Int → Int} {st se : Int → Int → Int} (h : RA f n x y r st se) (hl : 0 < n 4 ∧ f (175 + 82 * (n 4 - 1)) = n 1)
    (hf : ∀ j, j ≠ 2 → (j < 30 ∨ 126 ≤ j) → f' j = f j) (h2 : f' 2 = r' 90) (hk : ∀ b, 0 ≤ b → b < n 1 → r' (5 * b) = r (5 * b)) (hB' : RB f' n r') : RA f' n x y r' st se := by
  obtain ⟨hN, hT, hB, hS, hE⟩ := h
  obtain ⟨⟨a0, a1, a2⟩, ⟨b0, b1, b2⟩, cy, ⟨d0, d1, d2⟩, ⟨e0, e1, e2⟩, ⟨g0, g1, g2⟩, ⟨i0, i1, i2⟩, ⟨j0, j1, j2⟩, ⟨k0, k1, k2⟩⟩ := hN
  refine ⟨?_, hT.congr a2 rfl (fun j _ _ => hf j (by omega) (by omega)) (fun _ _ _ => rfl) (fun _ _ _ => rfl), hB', ?_, hE.congr i2 rfl rfl (fun j _ _ => hf j (by omega) (by omega)) (fun _ _ _ _ _ _ => rfl)⟩
  · unfold RN
    rw [hf 0 (by omega) (by omega), hf 1 (by omega) (by omega), hf 3 (by omega) (by omega), hf 4 (by omega) (by omega), hf 5 (by omega) (by omega), hf 6 (by omega) (by omega), hf 7 (by omega) (by omega), hf 8 (by omega) (by omega)]
    exact ⟨⟨a0, a1, a2⟩, ⟨b0, b1, b2⟩, h2, ⟨d0, d1, d2⟩, ⟨e0, e1, e2⟩, ⟨g0, g1, g2⟩, ⟨i0, i1, i2⟩, ⟨j0, j1, j2⟩, ⟨k0, k1, k2⟩⟩
  · intro k p0 p1
    obtain ⟨c1, c2, c3, c4, c5, c6, c7⟩ := hS k p0 p1
    unfold RS1
    rw [hf _ (by omega) (by omega), hf (175 + 82 * k) (by omega) (by omega)]
    refine ⟨c1, c2, c3.congr a2 (by omega) (fun b e q0 q1 q2 q3 => hf _ (by omega) (by omega)) (fun _ _ _ => rfl), c4, c5, fun b q0 q1 => ?_, fun b q0 q1 => ?_⟩
    · rw [hk b q0 q1]
      exact c6 b q0 q1
    · by_cases c : k + 1 < n 4
      · rw [if_pos c] at c7 ⊢
        exact c7 b q0 q1
      · exfalso
        rw [show k = n 4 - 1 by omega, hl.2] at q0
        omega
theorem RA.step {f f' n x y r n' x' y' r' : Int → Int} {st se st' se' : Int → Int → Int} (h : RA f n x y r st se)
    (hn : ∀ j, n' j = if j = 4 then (if n 4 = 20 then 20 else n 4 + 1) else n j) (hx : x' = x) (hy : y' = y) (he : se' = se)
    (hs : ∀ k j, 0 ≤ k → k < 20 → 0 ≤ j → j < 91 → st' k j = if n 4 = 20 then (if k = 19 then r j else st (k + 1) j) else if k = n 4 then r j else st k j)
    (hf : ∀ j, j ≠ 2 → (j < 30 ∨ 126 ≤ j) → f' j = kA f j) (h2 : f' 2 = r' 90) (hk : ∀ b, 0 ≤ b → b < n 1 → r' (5 * b) = r (5 * b)) (hB' : RB f' n r') : RA f' n' x' y' r' st' se' := by
  have hN := h.1
  obtain ⟨⟨a0, a1, a2⟩, ⟨b0, b1, b2⟩, cy, ⟨d0, d1, d2⟩, ⟨e0, e1, e2⟩, ⟨g0, g1, g2⟩, -⟩ := hN
  have n0 : n' 0 = n 0 := by rw [hn, if_neg (by omega)]
  have n1 : n' 1 = n 1 := by rw [hn, if_neg (by omega)]
  have n4 : n' 4 = if n 4 = 20 then 20 else n 4 + 1 := by rw [hn, if_pos rfl]
  have q : n' 4 - 1 = kAt f := by
    rw [n4]
    unfold kAt
    by_cases c : n 4 = 20
    · rw [if_pos c, if_pos (by omega)]
      rfl
    · rw [if_neg c, if_neg (by omega)]
      omega
  refine (h.keep (r' := r) hn hx hy rfl he hs).write ⟨?_, ?_⟩ hf h2 ?_ ?_
  · rw [n4]
    by_cases c : n 4 = 20
    · rw [if_pos c]; omega
    · rw [if_neg c]; omega
  · rw [q, kA_n1 f (by omega), n1]
    exact b0
  · rw [n1]
    exact hk
  · obtain ⟨c1, c2, c3⟩ := hB'
    unfold RB
    rw [n0, n1]
    exact ⟨c1, c2, c3⟩
theorem RB.put {f f' n r r' : Int → Int} {b e v : Int} (h : RB f n r) (h1 : n 1 ≤ 16) (hb : 0 ≤ b ∧ b < n 1) (he : 0 ≤ e ∧ e < 4) (hv : (e = 0 → 1 ≤ v ∧ v ≤ 999) ∧ (e = 1 → 0 ≤ v ∧ v < n 0) ∧ (e = 2 → 0 ≤ v ∧ v < n 0) ∧ (e = 3 → -1 ≤ v ∧ v ≤ 999))
    (h0 : n 0 ≤ 10) (hf : ∀ j, f' j = if j = 31 + 6 * b + e then v else f j) (hr : ∀ j, r' j = if j = 5 * b + 1 + e then v else r j) : RB f' n r' := by
  obtain ⟨c1, c2, c3, c4, c5⟩ := h
  refine ⟨fun i i0 i1 => ?_, fun i i0 i1 => ?_, ?_, fun i i0 i1 => ?_, fun t t0 t1 => ?_⟩
  · rw [hf, if_neg (by omega), hr, if_neg (by omega)]
    exact c1 i i0 i1
  · obtain ⟨d1, d2, d3, d4⟩ := c2 i i0 i1
    have q : f' (31 + 6 * i + 4) = f (31 + 6 * i + 4) := by rw [hf, if_neg (by omega)]
    refine ⟨fun g g0 g1 => ?_, ?_, ?_, fun t t0 t1 => ?_⟩
    · show f' (31 + 6 * i + g) = _
      rw [hf, hr]
      by_cases c : i = b ∧ g = e
      · rw [if_pos (by omega), if_pos (by omega)]
      · rw [if_neg (by omega), if_neg (by omega)]
        exact d1 g g0 g1
    · show 0 ≤ f' (31 + 6 * i + 4)
      rw [q]
      exact d2
    · show f' (31 + 6 * i + 4) < _
      rw [q]
      exact d3
    · show bt (f' (31 + 6 * i + 4)) t = _
      rw [q, hr, if_neg (by omega)]
      exact d4 t t0 t1
  · rw [hr, if_neg (by omega)]
    exact c3
  · have := c4 i i0 i1
    have q0 : r' (5 * i) = r (5 * i) := by rw [hr, if_neg (by omega)]
    have q1 := hr (5 * i + 1)
    have q2 := hr (5 * i + 2)
    have q3 := hr (5 * i + 3)
    have q4 := hr (5 * i + 4)
    grind
  · rw [hr, if_neg (by omega)]
    exact c5 t t0 t1
theorem RB.prove {f f' n r r' : Int → Int} {b t : Int} (h : RB f n r) (h1 : n 1 ≤ 16) (hb : 0 ≤ b ∧ b < n 1) (ht : 0 ≤ t ∧ t < n 0) (h0 : n 0 ≤ 10)
    (hf : ∀ j, f' j = if j = 35 + 6 * b then iOr (f (35 + 6 * b)) (1 * 2 ^ t.toNat) else f j) (hr : ∀ j, r' j = if j = 80 + t then iOr (r (80 + t)) (1 * 2 ^ b.toNat) else r j) : RB f' n r' := by
  obtain ⟨c1, c2, c3, c4, c5⟩ := h
  have p0 : (2 : Int) ^ (n 0).toNat ≤ 65536 := p2_mono (n := 16) (by omega)
  have p1 : (2 : Int) ^ (n 1).toNat ≤ 65536 := p2_mono (n := 16) (by omega)
  have lo : ∀ j, 0 ≤ j → j < 80 → r' j = r j := fun j _ _ => by rw [hr, if_neg (by omega)]
  refine ⟨fun i i0 i1 => ?_, fun i i0 i1 => ?_, ?_, fun i i0 i1 => ?_, fun u u0 u1 => ?_⟩
  · rw [hf, if_neg (by omega), hr, if_neg (by omega)]
    exact c1 i i0 i1
  · obtain ⟨d1, d2, d3, d4⟩ := c2 i i0 i1
    have e5 : ∀ k : Int, 31 + 6 * k + 4 = 35 + 6 * k := fun k => by omega
    dsimp only at d2 d3 d4
    refine ⟨fun g g0 g1 => ?_, ?_, ?_, fun u u0 u1 => ?_⟩
    · show f' (31 + 6 * i + g) = _
      rw [hf, if_neg (by omega), lo _ (by omega) (by omega)]
      exact d1 g g0 g1
    · show 0 ≤ f' (31 + 6 * i + 4)
      rw [hf]
      by_cases c : i = b
      · rw [if_pos (by omega)]
        subst c
        rw [e5] at d2 d3
        exact (iOr_lt ⟨d2, d3⟩ ht (by omega)).1
      · rw [if_neg (by omega)]
        exact d2
    · show f' (31 + 6 * i + 4) < _
      rw [hf]
      by_cases c : i = b
      · rw [if_pos (by omega)]
        subst c
        rw [e5] at d2 d3
        exact (iOr_lt ⟨d2, d3⟩ ht (by omega)).2
      · rw [if_neg (by omega)]
        exact d3
    · show bt (f' (31 + 6 * i + 4)) u = _
      have d4' := d4 u u0 u1
      obtain ⟨k1, k2, k3⟩ := c5 u u0 (by omega)
      rw [hf, hr]
      by_cases c : i = b
      · rw [if_pos (by omega)]
        subst c
        rw [e5] at d2 d3 d4'
        rw [bt_or (by omega) (by omega) u0]
        by_cases c2 : u = t
        · rw [if_pos c2, if_pos (by omega)]
          subst c2
          rw [bt_or (by omega) (by omega) i0, if_pos rfl]
        · rw [if_neg c2, if_neg (by omega)]
          exact d4'
      · rw [if_neg (by omega)]
        by_cases c2 : u = t
        · rw [if_pos (by omega)]
          subst c2
          rw [bt_or (by omega) (by omega) i0, if_neg c]
          exact d4'
        · rw [if_neg (by omega)]
          exact d4'
  · rw [hr, if_neg (by omega)]
    exact c3
  · rw [lo _ (by omega) (by omega), lo _ (by omega) (by omega), lo _ (by omega) (by omega), lo _ (by omega) (by omega), lo _ (by omega) (by omega)]
    exact c4 i i0 i1
  · obtain ⟨k1, k2, k3⟩ := c5 u u0 u1
    rw [hr]
    by_cases c : u = t
    · rw [if_pos (by omega)]
      subst c
      have := iOr_lt (n := n 1) ⟨k1, k2⟩ hb (by omega)
      exact ⟨this.1, this.2, fun q => by omega⟩
    · rw [if_neg (by omega)]
      exact ⟨k1, k2, k3⟩
