/-! PURE: bone -/
theorem gI_gset_s (S : St) (a : Nat) (e : PE) : gI (gset S a e) a = some e := by rw [gI_gset, if_pos rfl]
theorem gset_gset (S : St) (a : Nat) (e e' : PE) : gset (gset S a e) a e' = gset S a e' := by
  unfold gset
  congr 3
  funext x
  by_cases c : x = a
  · simp [c, gI]
  · simp [c, gI]
/-- a row with a bone more -/
def bv (b kd wt ow : Int) (r : Int → Int) : Int → Int := fun j => if j = 5 * b then kd else if j = 5 * b + 1 then wt else if j = 5 * b + 2 then ow else if j = 5 * b + 3 then ow else if j = 5 * b + 4 then -1 else r j
theorem bv_lo {b kd wt ow : Int} {r : Int → Int} {i e : Int} (hi : i < b) (he : e < 5) : bv b kd wt ow r (5 * i + e) = r (5 * i + e) := by
  unfold bv
  rw [if_neg (by omega), if_neg (by omega), if_neg (by omega), if_neg (by omega), if_neg (by omega)]
theorem bv_hi {b kd wt ow : Int} {r : Int → Int} {j : Int} (hb : b < 16) (hj : 80 ≤ j) : bv b kd wt ow r j = r j := by
  unfold bv
  rw [if_neg (by omega), if_neg (by omega), if_neg (by omega), if_neg (by omega), if_neg (by omega)]
theorem rGood.bone {n0 n1 kd wt ow : Int} {r r' : Int → Int} (h : rGood n0 n1 r) (h1 : 0 ≤ n1 ∧ n1 < 16) (hkd : 0 ≤ kd ∧ kd ≤ 19) (hwt : 1 ≤ wt ∧ wt ≤ 999) (how : 0 ≤ ow ∧ ow < n0) (hr : ∀ j, 0 ≤ j → j < 91 → r' j = bv n1 kd wt ow r j) : rGood n0 (n1 + 1) r' := by
  obtain ⟨c1, c2, c3⟩ := h
  refine ⟨?_, fun b b0 b1 => ?_, fun t t0 t1 => ?_⟩
  · rw [hr 90 (by omega) (by omega), bv_hi (by omega) (by omega)]
    exact c1
  · have q0 := hr (5 * b) (by omega) (by omega)
    have q1 := hr (5 * b + 1) (by omega) (by omega)
    have q2 := hr (5 * b + 2) (by omega) (by omega)
    have q3 := hr (5 * b + 3) (by omega) (by omega)
    have q4 := hr (5 * b + 4) (by omega) (by omega)
    by_cases c : b = n1
    · subst c
      unfold bv at q0 q1 q2 q3 q4
      rw [if_pos rfl] at q0
      rw [if_neg (by omega), if_pos rfl] at q1
      rw [if_neg (by omega), if_neg (by omega), if_pos rfl] at q2
      rw [if_neg (by omega), if_neg (by omega), if_neg (by omega), if_pos rfl] at q3
      rw [if_neg (by omega), if_neg (by omega), if_neg (by omega), if_neg (by omega), if_pos rfl] at q4
      omega
    · have z := bv_lo (kd := kd) (wt := wt) (ow := ow) (r := r) (i := b) (b := n1) (e := 0) (by omega) (by omega)
      rw [Int.add_zero] at z
      rw [z] at q0
      rw [bv_lo (by omega) (by omega)] at q1 q2 q3 q4
      have := c2 b b0 (by omega)
      omega
  · obtain ⟨d1, d2, d3⟩ := c3 t t0 t1
    rw [hr (80 + t) (by omega) (by omega), bv_hi (by omega) (by omega)]
    exact ⟨d1, Int.lt_of_lt_of_le d2 (p2_mono (by omega)), d3⟩
theorem rCor.bone {n0 nb b kd wt ow : Int} {w w' : Int → Int → Int} {r r' : Int → Int} (h : rCor n0 nb w r) (h0 : n0 ≤ 10) (hb : nb ≤ b) (hb2 : b < 16) (hw : ∀ i e, 0 ≤ i → i < nb → 0 ≤ e → e < 5 → w' i e = w i e) (hr : ∀ j, 0 ≤ j → j < 91 → r' j = bv b kd wt ow r j) : rCor n0 nb w' r' := by
  intro i i0 i1
  obtain ⟨c1, c2, c3, c4⟩ := h i i0 i1
  refine ⟨fun e e0 e1 => ?_, ?_, ?_, fun t t0 t1 => ?_⟩
  · rw [hw i e i0 i1 e0 (by omega), hr _ (by omega) (by omega), show 5 * i + 1 + e = 5 * i + (1 + e) by omega, bv_lo (by omega) (by omega), show 5 * i + (1 + e) = 5 * i + 1 + e by omega]
    exact c1 e e0 e1
  · rw [hw i 4 i0 i1 (by omega) (by omega)]
    exact c2
  · rw [hw i 4 i0 i1 (by omega) (by omega)]
    exact c3
  · rw [hw i 4 i0 i1 (by omega) (by omega), hr _ (by omega) (by omega), bv_hi (by omega) (by omega)]
    exact c4 t t0 t1
theorem RA.bone {f f' n n' x y r r' : Int → Int} {st se st' : Int → Int → Int} {kd wt ow : Int} (h : RA f n x y r st se) (h16 : n 1 < 16) (hkd : 0 ≤ kd ∧ kd ≤ 19) (hwt : 1 ≤ wt ∧ wt ≤ 999) (how : 0 ≤ ow ∧ ow < n 0)
    (hf : ∀ j, f' j = if j = 1 then n 1 + 1 else if j = 30 + 6 * n 1 then kd else if j = 31 + 6 * n 1 then wt else if j = 32 + 6 * n 1 then ow else if j = 33 + 6 * n 1 then ow else if j = 34 + 6 * n 1 then -1 else if j = 35 + 6 * n 1 then 0 else f j)
    (hn : ∀ j, n' j = if j = 1 then n 1 + 1 else n j) (hr : ∀ j, 0 ≤ j → j < 91 → r' j = bv (n 1) kd wt ow r j)
    (hs : ∀ k j, 0 ≤ k → k < n 4 → 0 ≤ j → j < 91 → st' k j = bv (n 1) kd wt ow (st k) j) : RA f' n' x y r' st' se := by
  obtain ⟨hN, hT, hB, hS, hE⟩ := h
  obtain ⟨⟨a0, a1, a2⟩, ⟨b0, b1, b2⟩, cy, ⟨d0, d1, d2⟩, ⟨e0, e1, e2⟩, ⟨g0, g1, g2⟩, ⟨i0, i1, i2⟩, ⟨j0, j1, j2⟩, ⟨k0, k1, k2⟩⟩ := hN
  have nn : ∀ j, j ≠ 1 → n' j = n j := fun j hj => by rw [hn, if_neg hj]
  have n1 : n' 1 = n 1 + 1 := by rw [hn, if_pos rfl]
  have fo : ∀ j, j ≠ 1 → (j < 30 + 6 * n 1 ∨ 36 + 6 * n 1 ≤ j) → f' j = f j := fun j h1 h2 => by
    rw [hf, if_neg h1, if_neg (by omega), if_neg (by omega), if_neg (by omega), if_neg (by omega), if_neg (by omega), if_neg (by omega)]
  obtain ⟨c1, c2, c3⟩ := hB
  refine ⟨?_, hT.congr a2 (nn 0 (by omega)) (fun j _ _ => fo j (by omega) (by omega)) (fun _ _ _ => rfl) (fun _ _ _ => rfl), ⟨fun b q0 q1 => ?_, fun b q0 q1 => ?_, ?_⟩, fun k p0 p1 => ?_, hE.congr i2 (nn 0 (by omega)) (nn 5 (by omega)) (fun j _ _ => fo j (by omega) (by omega)) (fun _ _ _ _ _ _ => rfl)⟩
  · unfold RN
    rw [n1, nn 0 (by omega), nn 2 (by omega), nn 3 (by omega), nn 4 (by omega), nn 5 (by omega), nn 6 (by omega), nn 7 (by omega), fo 0 (by omega) (by omega), fo 2 (by omega) (by omega), fo 3 (by omega) (by omega), fo 4 (by omega) (by omega), fo 5 (by omega) (by omega), fo 6 (by omega) (by omega), fo 7 (by omega) (by omega), fo 8 (by omega) (by omega), hr 90 (by omega) (by omega), bv_hi (by omega) (by omega)]
    refine ⟨⟨a0, a1, a2⟩, ⟨?_, by omega, by omega⟩, cy, ⟨d0, d1, d2⟩, ⟨e0, e1, e2⟩, ⟨g0, g1, g2⟩, ⟨i0, i1, i2⟩, ⟨j0, j1, j2⟩, ⟨k0, k1, k2⟩⟩
    rw [hf, if_pos rfl]
  · rw [n1] at q1
    by_cases c : b = n 1
    · subst c
      rw [hf, if_neg (by omega), if_pos rfl, hr _ (by omega) (by omega)]
      unfold bv
      rw [if_pos rfl]
    · have z := bv_lo (kd := kd) (wt := wt) (ow := ow) (r := r) (i := b) (b := n 1) (e := 0) (by omega) (by omega)
      rw [Int.add_zero] at z
      rw [fo _ (by omega) (by omega), hr _ (by omega) (by omega), z]
      exact c1 b q0 (by omega)
  · rw [n1] at q1
    rw [nn 0 (by omega)]
    by_cases c : b = n 1
    · subst c
      refine ⟨fun e e0 e1 => ?_, ?_, ?_, fun t t0 t1 => ?_⟩
      · show f' (31 + 6 * n 1 + e) = _
        rw [hf, hr _ (by omega) (by omega)]
        unfold bv
        have : e = 0 ∨ e = 1 ∨ e = 2 ∨ e = 3 := by omega
        rcases this with rfl | rfl | rfl | rfl
        · rw [if_neg (by omega), if_neg (by omega), if_pos (by omega), if_neg (by omega), if_pos (by omega)]
        · rw [if_neg (by omega), if_neg (by omega), if_neg (by omega), if_pos (by omega), if_neg (by omega), if_neg (by omega), if_pos (by omega)]
        · rw [if_neg (by omega), if_neg (by omega), if_neg (by omega), if_neg (by omega), if_pos (by omega), if_neg (by omega), if_neg (by omega), if_neg (by omega), if_pos (by omega)]
        · rw [if_neg (by omega), if_neg (by omega), if_neg (by omega), if_neg (by omega), if_neg (by omega), if_pos (by omega), if_neg (by omega), if_neg (by omega), if_neg (by omega), if_neg (by omega), if_pos (by omega)]
      all_goals (have e4 : f' (31 + 6 * n 1 + 4) = 0 := by rw [hf, if_neg (by omega), if_neg (by omega), if_neg (by omega), if_neg (by omega), if_neg (by omega), if_neg (by omega), if_pos (by omega)])
      · show 0 ≤ f' (31 + 6 * n 1 + 4)
        rw [e4]
        omega
      · show f' (31 + 6 * n 1 + 4) < _
        rw [e4]
        exact Int.pow_pos (by decide)
      · show bt (f' (31 + 6 * n 1 + 4)) t = _
        have z := c3.2.2 t t0 (by omega)
        rw [e4, bt_zero, hr _ (by omega) (by omega), bv_hi (by omega) (by omega), bt_small z.1 z.2.1 (Int.le_refl _)]
    · exact (c2.bone a2 (Int.le_refl _) h16 (fun i e p0 p1 p2 p3 => fo _ (by omega) (by omega)) hr) b q0 (by omega)
  · rw [nn 0 (by omega), n1]
    exact c3.bone ⟨b1, h16⟩ hkd hwt how hr
  · rw [nn 4 (by omega)] at p1 ⊢
    obtain ⟨z1, z2, z3, z4, z5, z6, z7⟩ := hS k p0 p1
    have hsk := hs k
    have hq : ∀ j, 0 ≤ j → j < 91 → (if k + 1 < n 4 then st' (k + 1) else r') j = bv (n 1) kd wt ow (if k + 1 < n 4 then st (k + 1) else r) j := by
      intro j q0 q1
      by_cases c : k + 1 < n 4
      · rw [if_pos c, if_pos c]
        exact hs (k + 1) j (by omega) (by omega) q0 q1
      · rw [if_neg c, if_neg c]
        exact hr j q0 q1
    have gq : rGood (n 0) (n 1) (if k + 1 < n 4 then st (k + 1) else r) := by
      by_cases c : k + 1 < n 4
      · rw [if_pos c]
        exact (hS (k + 1) (by omega) (by omega)).2.2.2.1
      · rw [if_neg c]
        exact c3
    unfold RS1
    rw [nn 0 (by omega), n1, fo _ (by omega) (by omega), fo (175 + 82 * k) (by omega) (by omega)]
    refine ⟨?_, by omega, z3.bone a2 z2.2 h16 (fun i e q0 q1 q2 q3 => fo _ (by omega) (by omega)) (fun j q0 q1 => hsk j p0 p1 q0 q1), z4.bone ⟨b1, h16⟩ hkd hwt how (fun j q0 q1 => hsk j p0 p1 q0 q1), fun t t0 t1 => ?_, fun b q0 q1 => ?_, fun b q0 q1 => ?_⟩
    · rw [hsk 90 p0 p1 (by omega) (by omega), bv_hi (by omega) (by omega)]
      exact z1
    · rw [hsk _ p0 p1 (by omega) (by omega), bv_hi (by omega) (by omega)]
      exact z5 t t0 t1
    · rw [hsk _ p0 p1 (by omega) (by omega), hr _ (by omega) (by omega)]
      unfold bv
      by_cases c : b = n 1
      · rw [if_pos (by omega), if_pos (by omega)]
      · rw [if_neg (by omega), if_neg (by omega), if_neg (by omega), if_neg (by omega), if_neg (by omega), if_neg (by omega), if_neg (by omega), if_neg (by omega), if_neg (by omega), if_neg (by omega)]
        exact z6 b q0 (by omega)
    · refine ⟨fun e p2 p3 => ?_, fun t t0 t1 => ?_⟩
      · rw [hsk _ p0 p1 (by omega) (by omega), hq _ (by omega) (by omega)]
        by_cases c : b = n 1
        · subst c
          unfold bv
          have : e = 0 ∨ e = 1 ∨ e = 2 ∨ e = 3 ∨ e = 4 := by omega
          rcases this with rfl | rfl | rfl | rfl | rfl <;> simp
        · rw [bv_lo (by omega) (by omega), bv_lo (by omega) (by omega)]
          exact (z7 b q0 (by omega)).1 e p2 p3
      · rw [hq _ (by omega) (by omega), bv_hi (by omega) (by omega)]
        by_cases c : b = n 1
        · have z := gq.2.2 t t0 t1
          exact bt_small z.1 z.2.1 (by omega)
        · exact (z7 b q0 (by omega)).2 t t0 t1
theorem pX_bone_77 {S0 : St} {K : Int → St → Prop} {X : St → Prop} {q : Nat} {b : Int} {pf : Int → Int} (hg : gI S0 q = some (.inl (0, 5, pf))) (hb : 0 ≤ b ∧ b < 16) : ∀ (n : Nat) (k : Int) (A : Nat → Int → Int), 0 ≤ k → k ≤ 5 → 5 - k < n →
    X (aall S0 (fun x y => if x = 3 ∧ 5 * b + k ≤ y ∧ y < 5 * b + 5 then pf (y - 5 * b) else A x y)) → l_X_bone_77 b q K X n k (aall S0 A) := by
  intro n
  induction n with
  | zero => intro k A h1 h2 h3; omega
  | succ n ih =>
    intro k A h1 h2 h3 hX
    unfold l_X_bone_77
    refine ⟨fun c => ?_, fun c => ⟨5, pf, hg, by omega, fun _ => pX_puts hb (by omega) ⟨by omega, ?_⟩⟩⟩
    · refine cast (congrArg (fun g => X (aall S0 g)) ?_) hX
      funext x y
      rw [if_neg (by omega)]
    · rw [aset_aall]
      refine ih (k + 1) _ (by omega) (by omega) (by omega) ?_
      refine cast (congrArg (fun g => X (aall S0 g)) ?_) hX
      funext x y
      by_cases c1 : x = 3 ∧ y = 5 * b + k
      · rw [if_pos (by omega), if_neg (by omega), if_pos c1]
        congr 1
        omega
      · by_cases c2 : x = 3 ∧ 5 * b + (k + 1) ≤ y ∧ y < 5 * b + 5
        · rw [if_pos (by omega), if_pos c2]
        · rw [if_neg (by omega), if_neg c2, if_neg c1]
theorem pX_bone_105 {S0 : St} {K : Int → St → Prop} {X : St → Prop} {q : Nat} {b : Int} {pf : Int → Int} (hg : gI S0 q = some (.inl (0, 5, pf))) (hb : 0 ≤ b ∧ b < 16) : ∀ (n : Nat) (k : Int) (A : Nat → Int → Int), 0 ≤ k → k ≤ A 0 4 → A 0 4 ≤ 20 → A 0 4 - k < n →
    X (aall S0 (fun x y => if 15 + k ≤ (x : Int) ∧ (x : Int) < 15 + A 0 4 ∧ 5 * b ≤ y ∧ y < 5 * b + 5 then pf (y - 5 * b) else A x y)) → l_X_bone_105 b q K X n k (aall S0 A) := by
  intro n
  induction n with
  | zero => intro k A h1 h2 h3 h4; omega
  | succ n ih =>
    intro k A h1 h2 h3 h4 hX
    unfold l_X_bone_105
    rw [aI_aall]
    refine fun _ => ⟨fun c => ?_, fun c => ⟨by omega, by omega, 5, pf, hg, by omega, ?_⟩⟩
    · refine cast (congrArg (fun g => X (aall S0 g)) ?_) hX
      funext x y
      rw [if_neg (by omega)]
    · rintro _ rfl
      rw [pcpy_aall]
      have e4 : (if 0 = 15 + Int.toNat k ∧ b * 5 ≤ 4 ∧ 4 < b * 5 + 5 then pf (0 + (4 - b * 5)) else A 0 4) = A 0 4 := if_neg (by omega)
      refine ⟨by omega, ih (k + 1) _ (by omega) (by rw [e4]; omega) (by rw [e4]; omega) (by rw [e4]; omega) ?_⟩
      rw [e4]
      refine cast (congrArg (fun g => X (aall S0 g)) ?_) hX
      funext x y
      by_cases c1 : x = 15 + Int.toNat k ∧ b * 5 ≤ y ∧ y < b * 5 + 5
      · rw [if_pos (by omega), if_neg (by omega), if_pos c1]
        congr 1
        omega
      · by_cases c2 : 15 + (k + 1) ≤ (x : Int) ∧ (x : Int) < 15 + A 0 4 ∧ 5 * b ≤ y ∧ y < 5 * b + 5
        · rw [if_pos (by omega), if_pos c2]
        · rw [if_neg (by omega), if_neg c2, if_neg c1]
theorem pM_bone0 {T : St} {kd wt ow : Int} {K : Int → St → Prop} (ht : 0 ≤ aI T 0 0 ∧ aI T 0 0 ≤ 10) (hb : 0 ≤ aI T 0 1 ∧ aI T 0 1 ≤ 16) (hc : ¬ ((0 ≤ kd ∧ kd ≤ 19) ∧ (1 ≤ wt ∧ wt ≤ 999) ∧ (0 ≤ ow ∧ ow < aI T 0 0) ∧ aI T 0 1 < 16)) (hk : K (-1) T) : w_M_bone kd wt ow T K := by
  unfold w_M_bone
  refine p_isIn (fun _ _ => br1 ?_) (fun _ => br0 hk)
  refine p_isIn (fun _ _ => br1 ?_) (fun _ => br0 hk)
  refine p_isTown ht (fun _ _ => br1 ?_) (fun _ => br0 hk)
  exact fun _ => ⟨fun c => absurd (by omega) hc, fun _ => hk⟩
theorem rel_bone {S T : St} {kd wt ow : Int} {K : Int → St → Prop} (h : nowA S T) (hK : ∀ r S', Post S T Eq (w_M_bone kd wt ow T) r S' → K r S') : w_X_bone kd wt ow S K := by
  have hN := h.nums
  obtain ⟨⟨a0, a1, a2⟩, ⟨b0, b1, b2⟩, cy, ⟨d0, d1, d2⟩, ⟨e0, e1, e2⟩, ⟨g0, g1, g2⟩, ⟨i0, i1, i2⟩, -⟩ := h.nums
  have no : ¬ ((0 ≤ kd ∧ kd ≤ 19) ∧ (1 ≤ wt ∧ wt ≤ 999) ∧ (0 ≤ ow ∧ ow < aI T 0 0) ∧ aI T 0 1 < 16) → K (-1) S := fun hc => hK _ _ (Post.stay (r' := -1) h rfl fun K' hk => pM_bone0 (by omega) (by omega) hc hk)
  unfold w_X_bone
  intro _
  rintro _ rfl
  intro _
  refine p_in (fun x0 x1 => br1 ?_) (fun c => br0 (no (by omega)))
  refine p_in (fun y0 y1 => br1 ?_) (fun c => br0 (no (by omega)))
  refine pX_isTown (by omega) (fun t0 t1 => br1 ?_) (fun c => br0 (no (by omega)))
  refine ⟨fun c16 => ?_, fun c => no (by omega)⟩
  rintro q _ hq rfl
  refine ⟨5, _, gI_gset_s _ _ _, by omega, ?_⟩
  rintro _ rfl
  rw [gset_gset]
  refine ⟨5, _, gI_gset_s _ _ _, by omega, ?_⟩
  rintro _ rfl
  rw [gset_gset]
  refine ⟨5, _, gI_gset_s _ _ _, by omega, ?_⟩
  rintro _ rfl
  rw [gset_gset]
  refine ⟨5, _, gI_gset_s _ _ _, by omega, ?_⟩
  rintro _ rfl
  rw [gset_gset]
  refine ⟨5, _, gI_gset_s _ _ _, by omega, ?_⟩
  rintro _ rfl
  rw [gset_gset]
  obtain ⟨pf, hpf⟩ : ∃ pf : Int → Int, pf = fun y => if y = 4 then -1 else if y = 3 then ow else if y = 2 then ow else if y = 1 then wt else if y = 0 then kd else 0 := ⟨_, rfl⟩
  show ∃ n77 : Nat, l_X_bone_77 (aI S 0 1) q K (fun zS => j_X_bone_102 (aI S 0 1) q zS K) n77 0 (gset S q (.inl (0, 5, fun y => if y = 4 then -1 else if y = 3 then ow else if y = 2 then ow else if y = 1 then wt else if y = 0 then kd else 0)))
  rw [← hpf]
  have hg := gI_gset_s S q (.inl (0, 5, pf))
  refine ⟨6, ?_⟩
  refine pX_bone_77 (S0 := gset S q (.inl (0, 5, pf))) hg (by omega) 6 0 (aI S) (by omega) (by omega) (by omega) ?_
  unfold j_X_bone_102
  refine ⟨21, ?_⟩
  refine pX_bone_105 (S0 := gset S q (.inl (0, 5, pf))) hg (by omega) 21 0 _ (by omega) (by rw [if_neg (by omega)]; omega) (by rw [if_neg (by omega)]; omega) (by rw [if_neg (by omega)]; omega) ?_
  unfold j_X_bone_146
  have e4 : (if (0 : Nat) = 3 ∧ 5 * aI S 0 1 + 0 ≤ 4 ∧ (4 : Int) < 5 * aI S 0 1 + 5 then pf (4 - 5 * aI S 0 1) else aI S 0 4) = aI S 0 4 := if_neg (by omega)
  rw [aI_aall, e4, if_neg (by omega), if_neg (by omega)]
  refine fun _ => ⟨by omega, ?_⟩
  rintro _ rfl
  rw [aset_aall]
  have hr : ∀ r : Int → Int, ∀ j, 0 ≤ j → j < 91 → (if 5 * aI S 0 1 ≤ j ∧ j < 5 * aI S 0 1 + 5 then pf (j - 5 * aI S 0 1) else r j) = bv (aI S 0 1) kd wt ow r j := by
    intro r j j0 j1
    rw [hpf]
    unfold bv
    grind
  refine hK _ _ ⟨aI T 0 1, aset (aset (aset (aset (aset (aset (aset T 0 (30 + 6 * aI T 0 1) kd) 0 (30 + 6 * aI T 0 1 + 1) wt) 0 (30 + 6 * aI T 0 1 + 2) ow) 0 (30 + 6 * aI T 0 1 + 3) ow) 0 (30 + 6 * aI T 0 1 + 4) (-1)) 0 (30 + 6 * aI T 0 1 + 5) 0) 0 1 (aI T 0 1 + 1), b0.symm, ?_, ?_, ?_, fun K' hk => ?_⟩
  · unfold nowA
    rw [aI_aall]
    refine RA.eqs (RA.bone h (kd := kd) (wt := wt) (ow := ow) (r' := fun j => if 5 * aI S 0 1 ≤ j ∧ j < 5 * aI S 0 1 + 5 then pf (j - 5 * aI S 0 1) else aI S 3 j) (st' := fun k j => if (k.toNat : Int) < aI S 0 4 ∧ 5 * aI S 0 1 ≤ j ∧ j < 5 * aI S 0 1 + 5 then pf (j - 5 * aI S 0 1) else aI S (15 + k.toNat) j) (by omega) ⟨x0, x1⟩ ⟨y0, y1⟩ ⟨t0, t1⟩ ?_ ?_ (hr _) ?_) ?_ ?_ ?_
    all_goals skip
    · intro j
      simp only [aI_aset]
      rw [b0]
      grind
    · intro j
      grind
    · intro k j k0 k1 j0 j1
      try dsimp only
      rw [← hr (aI S (15 + k.toNat)) j j0 j1]
      grind
    · intro j
      grind
    · intro k j
      grind
    · intro k j
      grind
  · refine ⟨fun _ _ _ => rfl, rfl, fun a e z => ?_, fun k hk => ?_, ?_⟩
    · show gI (gset S q _) a = some e
      rw [gI_gset]
      by_cases ca : a = q
      · subst ca
        rw [hq] at z
        exact absurd z (by simp)
      · rw [if_neg ca]
        exact z
    · funext j
      rw [aI_aall]
      try dsimp only
      grind
    · rw [aI_aall]
      try dsimp only
      grind
  · refine ⟨fun _ _ _ => rfl, fun k _ _ => ?_, ?_⟩
    · funext j
      simp only [aI_aset]
      grind
    · simp only [aI_aset]
      grind
  · unfold w_M_bone
    refine p_isIn (fun _ _ => br1 ?_) (fun c => absurd (by omega) c)
    refine p_isIn (fun _ _ => br1 ?_) (fun c => absurd (by omega) c)
    refine p_isTown (by omega) (fun _ _ => br1 ?_) (fun c => absurd (by omega) c)
    refine fun _ => ⟨fun _ => p_boneAt (by omega) (fun _ => ?_), fun c => absurd c (by omega)⟩
    refine ⟨by omega, ?_⟩
    rintro _ rfl
    refine ⟨by omega, by omega, ?_⟩
    rintro _ rfl
    refine ⟨by omega, by omega, ?_⟩
    rintro _ rfl
    refine ⟨by omega, by omega, ?_⟩
    rintro _ rfl
    refine ⟨by omega, by omega, ?_⟩
    rintro _ rfl
    refine ⟨by omega, by omega, ?_⟩
    rintro _ rfl
    simp (disch := omega) only [aI_aset_i, aI_aset_s]
    refine fun _ => ⟨by omega, ?_⟩
    rintro _ rfl
    rw [aI_aset_s]
    refine fun _ => ⟨by omega, ?_⟩
    rw [show aI T 0 1 + 1 - 1 = aI T 0 1 by omega]
    exact hk
