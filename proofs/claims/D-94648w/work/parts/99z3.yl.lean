/-! PURE: text(): the law -/
variable {tB : Int}
theorem sumOf.ag {g : Nat → Option PE} {tx tx' : Int → Int} {base : Int} {w : Option Nat} (h : sumOf g tx base w) (h0 : 0 ≤ tx base ∧ tx base ≤ 24) (e : ∀ i, base ≤ i → i < base + 700 → tx' i = tx i) : sumOf g tx' base w := by
  have eb : tx' base = tx base := e _ (by omega) (by omega)
  unfold sumOf at h ⊢
  rw [eb]
  rcases h with ⟨z1, z2⟩ | ⟨q, d, k, φ, z1, z2, z3, z4, z5, z6, z7, z8⟩
  · exact Or.inl ⟨z1, fun k k0 k1 => by rw [e _ (by omega) (by omega)]; exact z2 k k0 k1⟩
  · refine Or.inr ⟨q, d, k, φ, z1, z2, z3, ?_, ?_, z6, z7, ?_⟩
    · rw [e _ (by omega) (by omega)]; exact z4
    · intro j j0 j1
      rw [e _ (by omega) (by omega)]; exact z5 j j0 j1
    · rw [e (base + 2 + 4 * k) (by omega) (by omega), e (base + 3 + 4 * k) (by omega) (by omega)]
      obtain ⟨y1, y2, y3, y4, y5⟩ := z8.1
      exact z8.ag (fun i i0 i1 => e i (by omega) (by omega))
theorem askOf.ag {g : Nat → Option PE} {tx tx' : Int → Int} {base s lim : Int} {w : Option Nat} (h : askOf g tx base s lim w) (h0 : 0 ≤ tx base ∧ tx base ≤ 24) (e : ∀ i, base ≤ i → i < base + 700 → tx' i = tx i) : askOf g tx' base s lim w := by
  have eb : tx' base = tx base := e _ (by omega) (by omega)
  unfold askOf at h ⊢
  rw [eb]
  rcases h with ⟨z1, z2⟩ | ⟨q, d, k, φ, z1, z2, z3, z4, z5, z6, z7, z8⟩
  · exact Or.inl ⟨z1, fun k k0 k1 => by rw [e _ (by omega) (by omega)]; exact z2 k k0 k1⟩
  · refine Or.inr ⟨q, d, k, φ, z1, z2, z3, ?_, ?_, z6, z7, ?_⟩
    · rw [e _ (by omega) (by omega)]; exact z4
    · intro j j0 j1
      rw [e _ (by omega) (by omega)]; exact z5 j j0 j1
    · rw [e (base + 2 + 4 * k) (by omega) (by omega), e (base + 3 + 4 * k) (by omega) (by omega)]
      obtain ⟨y1, y2, y3, y4, y5⟩ := z8.1
      exact z8.ag (fun i i0 i1 => e i (by omega) (by omega))
theorem manyR.ag {tx tx' : Int → Int} {base : Int} {pm : Int → Int} (h : manyR tx base pm) (h0 : 0 ≤ tx base ∧ tx base ≤ 24) (e : ∀ i, base ≤ i → i < base + 700 → tx' i = tx i) : manyR tx' base pm := by
  have eb : tx' base = tx base := e _ (by omega) (by omega)
  intro kd kd0 kd1
  rw [eb]
  rcases h kd kd0 kd1 with ⟨z1, z2⟩ | ⟨z1, k, z2, z3, z4, z5, z6⟩
  · exact Or.inl ⟨z1, fun k k0 k1 => by rw [e _ (by omega) (by omega), e (base + 2 + 4 * k) (by omega) (by omega)]; exact z2 k k0 k1⟩
  · refine Or.inr ⟨z1, k, z2, ?_, ?_, ?_, ?_⟩
    · rw [e _ (by omega) (by omega)]; exact z3
    · rw [e _ (by omega) (by omega)]; exact z4
    · rw [e _ (by omega) (by omega)]; exact z5
    · intro j j0 j1
      rw [e _ (by omega) (by omega), e (base + 2 + 4 * j) (by omega) (by omega)]; exact z6 j j0 j1
theorem doR.ag {g : Nat → Option PE} {tx tx' : Int → Int} {base k : Int} {q : Nat} (h : doR g tx base k q) (k0 : 0 ≤ k ∧ k < 24) (e : ∀ i, base ≤ i → i < base + 700 → tx' i = tx i) : doR g tx' base k q := by
  obtain ⟨s, a, b, c, h1, h2, h3, h4, h5, h6, h7⟩ := h
  refine ⟨s, a, b, c, h1, h2, ?_, ?_, fun z => ?_, fun z => ?_, h7⟩
  · rw [e _ (by omega) (by omega)]; exact h3
  · rw [e _ (by omega) (by omega)]; exact h4
  · rw [e _ (by omega) (by omega)]; exact h5 z
  · rw [e _ (by omega) (by omega)]; exact h6 z
theorem txt.ag {g : Nat → Option PE} {q : Nat} {tx tx' : Int → Int} {base : Int} (h : txt g q tx base) (e : ∀ i, base ≤ i → i < base + 700 → tx' i = tx i) : txt g q tx' base := by
  have eb : tx' base = tx base := e _ (by omega) (by omega)
  obtain ⟨w, h, u, m, l, c, pm, h1, h2, h3, h4, h5, h6, h7, h8, h9⟩ := h
  refine ⟨w, h, u, m, l, c, pm, h1, by rw [eb]; exact h2, fun k k0 k1 => ?_, h4.ag h2 e, h5.ag h2 e, h6.ag h2 e, h7, h8.ag h2 e, ?_⟩
  · rw [eb] at k1
    rw [e _ (by omega) (by omega)]
    exact h3 k k0 k1
  · obtain ⟨n, el, js, z1, z2, z3, z4, z5⟩ := h9
    refine ⟨n, el, js, z1, z2, fun i i0 i1 => ?_, z4, fun i k i0 i1 i2 i3 k0 k1 => ?_⟩
    · obtain ⟨y1, y2⟩ := z3 i i0 i1
      rw [eb]
      exact ⟨y1, y2.ag (by omega) e⟩
    · rw [eb] at k1
      rw [e _ (by omega) (by omega)]
      exact z5 i k i0 i1 i2 i3 k0 k1
theorem REL.txF {S S' T T' : St} {N : Int} (h : REL tB S T) (hN : aI S 0 2 = N) (hA : aI S' = aI S) (hR : rI S' = rI S) (hG : extP (gI S) (gI S')) (hM : ∀ k, k ≠ 2 → k ≠ 4 → aI T' k = aI T k) (h2 : ∀ i, (i < 700 * N ∨ 700 * N + 700 ≤ i) → aI T' 2 i = aI T 2 i) (f3 : fI S' 3 = 0) (f4 : fI T' 4 = 0) (e5 : fI S' 4 = fI T' 5) (e6 : fI S' 5 = fI T' 6) : REL tB S' T' := by
  obtain ⟨h1, h2', ⟨h3, h4, h5, h6⟩, h7, h8, h9, h10⟩ := h
  refine ⟨?_, ?_, ⟨?_, ?_, e5, e6⟩, ?_, ?_, ?_, ?_⟩
  · unfold nowA at h1 ⊢
    rw [hA, hM 0 (by omega) (by omega)]
    exact h1
  · unfold imgA at h2' ⊢
    rw [hA, hM 1 (by omega) (by omega)]
    exact h2'
  · rw [f3, f4]
    omega
  · rw [f3]
    intro i i0 i1
    omega
  · rw [hA, hR, hN]
    intro k k0 k1
    obtain ⟨q, q1, q2⟩ := h7 k k0 (by omega)
    exact ⟨q, q1, (q2.ext hG).ag (fun i i0 i1 => h2 i (by omega))⟩
  · rw [hA]; exact h8
  · rw [hR, hA]; exact h9
  · rw [hR]
    intro j hj k k0 k1 y hy
    obtain ⟨fs, z⟩ := h10 j hj k k0 k1 y hy
    exact ⟨fs, hG _ _ z⟩
theorem REL.txO {S S' T T' : St} {N : Int} {q : Nat} (h : REL tB S T) (hN : aI S 0 2 = N) (hN2 : N ≤ 3) (hA : aI S' = aI (aset S 0 2 (N + 1))) (hR : rI S' = rI (rset S 140 N (some q))) (hG : extP (gI S) (gI S')) (hq : txt (gI S') q (aI T' 2) (700 * N)) (hM0 : aI T' 0 = aI (aset T 0 3 (N + 1)) 0) (hM : ∀ k, k ≠ 0 → k ≠ 2 → k ≠ 4 → aI T' k = aI T k) (h2 : ∀ i, (i < 700 * N ∨ 700 * N + 700 ≤ i) → aI T' 2 i = aI T 2 i) (f3 : fI S' 3 = 0) (f4 : fI T' 4 = 0) (e5 : fI S' 4 = fI T' 5) (e6 : fI S' 5 = fI T' 6) : REL tB S' T' := by
  obtain ⟨h1, h2', ⟨h3, h4, h5, h6⟩, h7, h8, h9, h10⟩ := h
  have A0 : ∀ k, k ≠ 0 → aI S' k = aI S k := fun k hk => by rw [hA]; funext y; rw [aI_aset_j hk]
  have G : ∀ j, aI S' 0 j = if j = 2 then N + 1 else aI S 0 j := fun j => by rw [hA, aI_aset]; simp only [true_and]
  have F : ∀ j, aI T' 0 j = if j = 3 then N + 1 else aI T 0 j := fun j => by rw [hM0, aI_aset]; simp only [true_and]
  have RR : ∀ (x : Nat) (y : Int), rI S' x y = if x = 140 ∧ y = N then some q else rI S x y := fun x y => by rw [hR, rI_rset]
  have g2 : aI S' 0 2 = N + 1 := by rw [G, if_pos rfl]
  obtain ⟨r0, r1, r2, ⟨r3, r3a, r3b⟩, ⟨r4, r4a, r4b⟩, r5, r6, r7, r8⟩ := h1.nums
  refine ⟨?_, ?_, ⟨?_, ?_, e5, e6⟩, ?_, ?_, ?_, ?_⟩
  · unfold nowA at h1 ⊢
    rw [A0 1 (by omega), A0 2 (by omega), A0 3 (by omega), show (fun k : Int => aI S' (15 + k.toNat)) = (fun k : Int => aI S (15 + k.toNat)) from funext fun k => A0 _ (by omega), show (fun k : Int => aI S' (55 + k.toNat)) = (fun k : Int => aI S (55 + k.toNat)) from funext fun k => A0 _ (by omega)]
    refine RA.nums h1 (fun j hj => by rw [F, if_neg (by omega)]) (fun j hj => by rw [G, if_neg (by omega)]) (by rw [G, if_neg (by omega)]; exact Int.le_refl _) ?_
    refine ⟨?_, ?_, ?_, ?_, ?_, ?_, ?_, ?_, ?_⟩
    · rw [F, if_neg (by omega), G, if_neg (by omega)]; exact r0
    · rw [F, if_neg (by omega), G, if_neg (by omega)]; exact r1
    · rw [F, if_neg (by omega)]; exact r2
    · rw [F, if_pos rfl, G, if_pos rfl]; omega
    · rw [F, if_neg (by omega), G 3, if_neg (by omega), G 2, if_pos rfl]; omega
    · rw [F, if_neg (by omega), G, if_neg (by omega)]; exact r5
    · rw [F, if_neg (by omega), G, if_neg (by omega)]; exact r6
    · rw [F, if_neg (by omega), G, if_neg (by omega)]; exact r7
    · rw [F, if_neg (by omega), G, if_neg (by omega)]; exact r8
  · unfold imgA at h2' ⊢
    rw [A0 4 (by omega), A0 5 (by omega), A0 6 (by omega), A0 7 (by omega), show (fun k : Int => aI S' (35 + k.toNat)) = (fun k : Int => aI S (35 + k.toNat)) from funext fun k => A0 _ (by omega), show (fun k : Int => aI S' (67 + k.toNat)) = (fun k : Int => aI S (67 + k.toNat)) from funext fun k => A0 _ (by omega), hM 1 (by omega) (by omega) (by omega)]
    exact h2'
  · rw [f3, f4]
    omega
  · rw [f3]
    intro i i0 i1
    omega
  · rw [g2]
    intro k k0 k1
    by_cases c : k = N
    · exact ⟨q, by rw [RR, if_pos ⟨rfl, c⟩], by rw [c]; exact hq⟩
    · obtain ⟨q', q1, q2⟩ := h7 k k0 (by omega)
      exact ⟨q', by rw [RR, if_neg (fun z => c z.2)]; exact q1, (q2.ext hG).ag (fun i i0 i1 => h2 i (by omega))⟩
  · rw [A0 4 (by omega), g2]
    omega
  · rw [A0 4 (by omega)]
    intro k k0 k1
    rw [RR, if_neg (by omega), RR, if_neg (by omega)]
    exact h9 k k0 k1
  · intro j hj k k0 k1 y hy
    rw [RR] at hy
    by_cases c : j = 140 ∧ k = N
    · rw [if_pos c] at hy
      cases hy
      obtain ⟨w, h, u, m, l, c, pm, z, _⟩ := hq
      exact ⟨_, z⟩
    · rw [if_neg c] at hy
      obtain ⟨fs, z⟩ := h10 j hj k k0 k1 y hy
      exact ⟨fs, hG _ _ z⟩
theorem law_text {S T : St} {K : Int → St → Prop} (h : REL tB S T) (h8 : ∀ k, 0 ≤ k → k < 300 → -128 ≤ aI S 8 k ∧ aI S 8 k ≤ 127) (hB : 40 * fI S 3 + 200 ≤ fI S 200 ∧ 2000 * fI S 3 + 1000 ≤ fI S 201)
    (hK : ∀ r S', PostF tB (w_M_text T) r S' → (fI S 200 - 40 * fI S 3 - 200 ≤ fI S' 200 ∧ fI S 201 - 2000 * fI S 3 - 1000 ≤ fI S' 201) → fI S' 3 ≤ fI S 3 → K r S') : w_X_text S K := by
  have hR := h
  obtain ⟨h1, h2, ⟨h3, h4, h5, h6⟩, -⟩ := h
  obtain ⟨-, -, -, ⟨d0, d1, d2⟩, -⟩ := h1.nums
  obtain ⟨N, eN⟩ : ∃ N, N = aI S 0 2 := ⟨_, rfl⟩
  obtain ⟨n, en⟩ : ∃ n, n = fI S 3 := ⟨_, rfl⟩
  unfold w_X_text
  refine fun _ => ⟨fun c => ?_, fun c => hK _ _ (fun K' hk => tx_full (by omega) (hk T hR)) ⟨by omega, by omega⟩ (Int.le_refl _)⟩
  rw [← eN] at c d0 d1 d2
  rw [← en] at h3 h4 hB
  refine fun _ v4 e4 _ S5 e5 S6 e6 _ => ?_
  have hJ : JR T (fun k => aI S 8 k % 256) n N := JR_at ⟨h3.1.symm, ⟨h3.2.1, h3.2.2.1⟩, fun k k0 k1 => ⟨h4 k k0 k1, by show 0 ≤ aI S 8 k % 256; omega, by show aI S 8 k % 256 ≤ 255; omega⟩⟩ d0 ⟨d1, by omega⟩
  have a6 : aI S6 = aI S := by rw [e6, e5]; rfl
  have r6 : rI S6 = rI S := by rw [e6, e5]; rfl
  have g6 : gI S6 = gI S := by rw [e6, e5]; rfl
  have b6 : fI S6 200 = fI S 200 ∧ fI S6 201 = fI S 201 := by rw [e6, e5, fI_fset_n (by omega), fI_fset_n (by omega), fI_fset_n (by omega), fI_fset_n (by omega)]; exact ⟨rfl, rfl⟩
  have f64 : fI S6 4 = 0 := by rw [e6, fI_fset_n (by omega), e5, fI_fset_s]
  have f65 : fI S6 5 = -1 := by rw [e6, fI_fset_s]
  clear e6 e5
  refine ⟨⟨by omega, by omega⟩, fun q8 S9 hq e9 tq htq => ⟨0, 0, ?_, ?_⟩⟩
  · rw [e9, bset_200, bset_201]
    omega
  have x9 : gI S9 q8 = some (.inr (.inl (3, [.inr (.inr none), .inl 0, .inl 0, .inl 0, .inl 0, .inl 0, .inl 0, .inl 0]))) := by rw [e9, gI_bset, gI_gset_s]
  have f9 : frW S6 S9 (fun _ => False) := by rw [e9]; exact frW.br (frW.new hq)
  have b9 : fI S9 200 = fI S 200 - 1 ∧ fI S9 201 = fI S 201 - 8 := by rw [e9, bset_200, bset_201]; omega
  clear e9
  refine ⟨_, x9, rfl, fun S10 e10 => ⟨[.inr (.inr (some tq)), .inl 0, .inl 0, .inl 0, .inl 0, .inl 0, .inl 0, .inl 0], by rw [e10, gI_gset_s]; rfl, rfl, fun S11 e11 S18 e18 => ?_⟩⟩
  have x18 : xt0 S18 q8 tq n := by unfold xt0; rw [e18, gI_bset, e11, gI_gset_s, en, ← e4]; rfl
  have f18' : frW S9 S18 (fun a => a = q8) := by rw [e18]; exact frW.br (by rw [e11]; exact frW.tr (by rw [e10]; exact frW.tr (frW.br (frW.refl _ _)) (frW.old rfl)) (frW.old rfl))
  have b18 : fI S18 200 = fI S 200 - 1 ∧ fI S18 201 = fI S 201 - 8 := by rw [e18, bset_200, bset_201]; omega
  have f18 : frW S6 S18 (fun _ => False) := frW.trans f9 f18' (fun a z => Or.inr (by rw [z]; exact hq))
  clear e18 e11 e10
  refine ⟨⟨_, x18⟩, 40 * n + 110, 2000 * n + 700, ⟨⟨by omega, by omega⟩, by omega, by omega⟩, ?_⟩
  have t18 : hT (bset S18 (40 * n + 110) (2000 * n + 700)) (fun k => aI S 8 k % 256) n tq := by
    refine ⟨?_, ⟨h3.2.1, h3.2.2.1⟩, fun k k0 k1 => ?_⟩
    · rw [rI_bset, f18'.2.2.1]; exact htq
    · rw [aI_bset, f18.2.1, a6]
      exact ⟨rfl, h8 k k0 (by omega)⟩
  rcases hJ with ⟨f, pl, T2, hf, hpl, tF, hM, hX⟩ | ⟨T2, tF, hM, hX⟩
  · refine hX _ q8 tq _ t18 x18 (by rw [bset_200, bset_201]; omega) (fun q' S' fr ew S26 e26 => ⟨fun q eq => ?_, (fun z => by cases z)⟩)
    cases eq
    obtain ⟨fs, w1, w2, w3⟩ := ew
    have f26 : frX S18 S26 q8 := by rw [e26]; exact fr.bs
    have b26 : fI S26 200 = fI S18 200 - (40 * n + 110) ∧ fI S26 201 = fI S18 201 - (2000 * n + 700) := by rw [e26, bset_200, bset_201]; exact ⟨rfl, rfl⟩
    have g26 : gI S26 q' = some (.inr (.inl (5, fs))) := by rw [e26, gI_bset]; exact w1
    clear e26
    refine ⟨fs, f, g26, w2, fun _ S34 e34 => ⟨fs, pl, by rw [e34]; exact g26, w3, fun _ S40 e40 S41 e41 => ?_⟩⟩
    have b41 : fI S41 200 = fI S26 200 ∧ fI S41 201 = fI S26 201 := by rw [e41, e40, e34, fI_fset_n (by omega), fI_fset_n (by omega), fI_fset_n (by omega), fI_fset_n (by omega), fI_fset_n (by omega), fI_fset_n (by omega)]; exact ⟨rfl, rfl⟩
    have f41 : fI S41 3 = 0 := by rw [e41, fI_fset_s]
    refine hK _ _ (fun K' hk => tx_fault d0 ⟨d1, by omega⟩ (by omega) hpl hM (hk _ ?_)) (by omega) (by omega)
    refine hR.txF eN.symm ?_ ?_ ?_ tF.2.1 tF.2.2 f41 (by rw [fI_fset_s]) ?_ ?_
    · rw [e41, e40, e34]
      show aI S26 = aI S
      rw [f26.2.1, f18.2.1, a6]
    · rw [e41, e40, e34]
      show rI S26 = rI S
      rw [f26.2.2.1, f18.2.2.1, r6]
    · rw [e41, e40, e34]
      intro a e ha
      rw [← g6] at ha
      refine f26.2.2.2 a e (fun z => ?_) (f18.2.2.2 a e id ha)
      rw [z, hq] at ha
      cases ha
    · rw [e41, e40, e34, fI_fset_n (by omega), fI_fset_n (by omega), fI_fset_s, fI_fset_n (by omega), fI_fset_n (by omega), fI_fset_s]
    · rw [e41, e40, fI_fset_n (by omega), fI_fset_s, fI_fset_n (by omega), fI_fset_s]
  · refine hX _ q8 tq _ t18 x18 (by rw [bset_200, bset_201]; omega) (fun q S' fr hqn hqt S26 e26 => ⟨(fun q' z => by cases z), fun _ => ⟨q, rfl, ?_, ?_, ?_⟩⟩)
    · rw [a6]
      omega
    · obtain ⟨w, h, u, m, l, c, pm, z, _⟩ := hqt
      exact ⟨_, by rw [e26, gI_bset]; exact z⟩
    have f26 : frX S18 S26 q8 := by rw [e26]; exact fr.bs
    have b26 : fI S26 200 = fI S18 200 - (40 * n + 110) ∧ fI S26 201 = fI S18 201 - (2000 * n + 700) := by rw [e26, bset_200, bset_201]; exact ⟨rfl, rfl⟩
    have t26 : txt (gI S26) q (aI T2 2) (700 * N) := by rw [e26, gI_bset]; exact hqt
    have F6 : ∀ k, k ≠ 200 → k ≠ 201 → fI S26 k = fI S6 k := fun k k1 k2 => (f26.1 k k1 k2).trans (f18.1 k k1 k2)
    have A6 : aI S26 = aI S := by rw [f26.2.1, f18.2.1, a6]
    have R6 : rI S26 = rI S := by rw [f26.2.2.1, f18.2.2.1, r6]
    clear e26
    rw [a6, ← eN]
    refine fun S44 e44 S48 e48 _ => ?_
    have a48 : aI S48 = aI S := by rw [e48, e44]; exact A6
    rw [a48, ← eN]
    refine ⟨by omega, fun S51 e51 _ => ?_⟩
    have g51 : aI S51 0 2 = N + 1 := by rw [e51, aI_aset_s]
    rw [g51, show N + 1 - 1 = N by omega]
    refine ⟨by omega, ?_⟩
    have b51 : fI S51 200 = fI S26 200 ∧ fI S51 201 = fI S26 201 := by rw [e51, fI_aset, e48, fI_fset_n (by omega), fI_fset_n (by omega), e44]; exact ⟨rfl, rfl⟩
    have f51 : fI S51 3 = 0 := by rw [e51, fI_aset, e48, fI_fset_s]
    refine hK _ _ (fun K' hk => tx_ok d0 ⟨d1, by omega⟩ (tF.2.1 0 (by omega) (by omega)) hM (hk _ ?_)) (by omega) (by omega)
    refine hR.txO (q := q) eN.symm (by omega) ?_ ?_ ?_ ?_ ?_ ?_ tF.2.2 f51 ?_ ?_ ?_
    · rw [e51, e48, e44]
      show aI (aset S26 0 2 (N + 1)) = aI (aset S 0 2 (N + 1))
      funext x y
      rw [aI_aset, aI_aset, A6]
    · rw [e51, e48, e44]
      show rI (rset S26 140 N (some q)) = rI (rset S 140 N (some q))
      funext x y
      rw [rI_rset, rI_rset, R6]
    · rw [e51, e48, e44]
      intro a e ha
      rw [← g6] at ha
      refine f26.2.2.2 a e (fun z => ?_) (f18.2.2.2 a e id ha)
      rw [z, hq] at ha
      cases ha
    · rw [e51, e48, e44]
      exact t26
    · funext y
      rw [aI_aset, aI_aset]
      show (if 0 = 0 ∧ y = 3 then N + 1 else aI T2 0 y) = _
      rw [tF.2.1 0 (by omega) (by omega)]
    · intro k k0 k2 k4
      funext y
      rw [aI_aset_j k0]
      exact congrFun (tF.2.1 k k2 k4) y
    · rw [fI_aset, fI_fset_s]
    · rw [e51, fI_aset, e48, fI_fset_n (by omega), e44, fI_rset, F6 4 (by omega) (by omega), f64, fI_aset, fI_fset_n (by omega), fI_fset_n (by omega), fI_fset_s]
    · rw [e51, fI_aset, e48, fI_fset_n (by omega), e44, fI_rset, F6 5 (by omega) (by omega), f65, fI_aset, fI_fset_n (by omega), fI_fset_s]
