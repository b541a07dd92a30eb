/-! PURE: text(): the twin's sums: minus and brackets -/
theorem one_push {b : Int → Int} {n lim p o w k y0 : Int} {π : List Int} {T : St} (hi : inS b n lim T p π o w 0) (ho : o < 8) (hl : (π.length : Int) ≤ 100) (hk : w + π.length + k ≤ p) (ht : (tk b n p = 40 ∧ y0 = 40) ∨ (tk b n p = 45 ∧ y0 = 2)) :
    ∃ T', inS b n lim T' (te b n p) (y0 :: π) (o + 1) w 0 ∧ frS T T' w ∧ w + (y0 :: π).length + k ≤ te b n p ∧ go T T' := by
  have hi0 := hi
  obtain ⟨h1, h2, h3, ⟨h4, h5⟩, ⟨h6, h6b, h6c⟩, ⟨h7, h7b⟩, h8, h9, h10⟩ := hi
  have tg := te_gt (b := b) (n := n) (p := p) h2.2 (by omega)
  have hcl := cons_len y0 π
  have pk : ∀ k, k ≠ 17 → k ≠ 18 → fI (puS (fset T 18 (o + 1)) y0) k = fI T k := fun k k0 k1 => by
    show fI (fset (aset (fset T 18 (o + 1)) 4 _ y0) 17 _) k = _
    rw [fI_fset_n k0]
    show fI (fset T 18 (o + 1)) k = _
    rw [fI_fset_n k1]
  have pa : ∀ k, k ≠ 4 → aI (puS (fset T 18 (o + 1)) y0) k = aI T k := fun k k0 => by
    funext y
    show aI (aset (fset T 18 (o + 1)) 4 _ y0) k y = _
    rw [aI_aset_j k0]
    rfl
  have f17 : fI (fset T 18 (o + 1)) 17 = π.length := by rw [fI_fset_n (by omega)]; exact h4
  have tp1 : tpM (puS (fset T 18 (o + 1)) y0) b n := h1.kept (pk 4 (by omega) (by omega)) (pa 3 (by omega))
  obtain ⟨T1, v1, v2, v3⟩ := pM_next (p := te b n p) tp1 (by rw [pk 7 (by omega) (by omega)]; exact h3.2.1) (by omega)
  have q4 : aI T1 4 = aI (aset (fset T 18 (o + 1)) 4 (fI (fset T 18 (o + 1)) 17) y0) 4 := by rw [v2.2]; rfl
  refine ⟨T1, ⟨tp1.kept (v2.1 4 (by omega)) (by rw [v2.2]), by omega, v1, ⟨?_, ?_, ?_⟩, ⟨?_, by omega, by omega⟩, ⟨by rw [v2.1 14 (by omega), pk 14 (by omega) (by omega)]; exact h7, h7b⟩, by rw [v2.1 19 (by omega), pk 19 (by omega) (by omega)]; exact h8, by rw [v2.1 12 (by omega), pk 12 (by omega) (by omega)]; exact h9, by rw [v2.1 20 (by omega), pk 20 (by omega) (by omega)]; exact h10⟩, ⟨fun k q0 q1 q2 q3 q5 => by rw [v2.1 k (by omega), pk k q2 q3], fun k q0 q1 => by rw [v2.2, pa k q1], fun i _ => by rw [v2.2, pa 2 (by omega)]⟩, by omega, go_one hi0 (fun Kc hKc => ?_)⟩
  · rw [v2.1 17 (by omega)]
    show fI (fset (aset (fset T 18 (o + 1)) 4 _ y0) 17 _) 17 = _
    rw [fI_fset_s, f17]
    omega
  · rw [q4, f17, aI_aset_s]
  · refine pl_congr π (fun i i0 i1 => ?_) h5
    rw [q4, aI_aset_i (by omega)]
    rfl
  · rw [v2.1 18 (by omega)]
    show fI (fset (aset (fset T 18 (o + 1)) 4 _ y0) 17 _) 18 = _
    rw [fI_fset_n (by omega)]
    show fI (fset T 18 (o + 1)) 18 = _
    rw [fI_fset_s]
  · have hb : tn b n p = -1 := by unfold tn; rw [if_neg (by omega)]
    have hh : j_M_beginOne_106 y0 T Kc := by
      unfold j_M_beginOne_106
      rw [h6]
      refine ⟨fun _ => fun _ => ⟨fun _ => ⟨by omega, ?_⟩, fun z => absurd z (by omega)⟩, fun z => absurd z (by omega)⟩
      rintro _ rfl
      exact pM_push (by rw [f17]; omega) (v3 _ hKc)
    unfold w_M_beginOne
    rw [h3.2.2.1]
    rcases ht with ⟨t1, t2⟩ | ⟨t1, t2⟩
    · rw [t2] at hh
      exact fun _ => ⟨fun _ => pM_nm hi0 (fun _ => ⟨fun _ => ⟨fun z => absurd t1 z, fun _ => hh⟩, fun z => absurd z (by omega)⟩), fun z => absurd z (by omega)⟩
    · rw [t2] at hh
      exact fun _ => ⟨fun _ => pM_nm hi0 (fun _ => ⟨fun _ => ⟨fun _ => ⟨fun z => absurd t1 z, fun _ => hh⟩, fun z => absurd z (by omega)⟩, fun z => absurd z (by omega)⟩), fun z => absurd z (by omega)⟩
theorem rep_len (j : Nat) (r : List Int) : ((List.replicate j (2 : Int) ++ r).length : Int) = j + r.length := by
  rw [List.length_append, List.length_replicate]
  omega
theorem one_minus {b : Int → Int} {n lim p o p' : Int} {χ : (Int → Int) → Int} (ht : tk b n p = 45) (ho : o < 8) (h : MSone b n lim (te b n p) (o + 1) (.inr (χ, p'))) : MSone b n lim p o (.inr (fun v => -χ v, p')) := by
  intro j r T w k hi hr hk hl hj
  have hrl := rep_len j r
  have o0 := hi.2.2.2.2.1
  obtain ⟨T1, u1, u2, u3, u4⟩ := one_push (y0 := 2) (k := k) hi ho (by omega) (by omega) (Or.inr ⟨ht, rfl⟩)
  have tg := te_gt (b := b) (n := n) (p := p) hi.2.1.2 (by omega)
  rw [cons_len] at u3
  have hj1 : ((j + 1 : Nat) : Int) = j + 1 := by omega
  obtain ⟨z1, z2, w1, T2, z3, z4, z5, z6, z7, z8, z9⟩ := h (j + 1) r T1 w k u1 hr (by rw [hj1]; omega) (by rw [hj1]; omega) (by rw [hj1]; omega)
  rw [hj1] at z4 z8
  rw [show o + 1 - ((j : Int) + 1) = o - j by omega, show w1 + ((j : Int) + 1) = w1 + 1 + j by omega] at z4
  have e12 : fI T1 12 = fI T 12 := u2.1 12 (by omega) (by omega) (by omega) (by omega) (by omega)
  have e12b : fI T2 12 = fI T1 12 := z5.1 12 (by omega) (by omega) (by omega) (by omega) (by omega)
  have n300 := z4.1.2.1.2
  have p2n := z4.2.1.2
  have x12 := z4.2.2.2.2.2.2.2.1
  rw [e12] at z6 z7
  have z7' : aI T2 2 (fI T 12 + 100 + 2 * w1) = 2 ∧ aI T2 2 (fI T 12 + 100 + 2 * w1 + 1) = 0 ∧ cel (aI T2 2) (fI T 12 + 100 + 2 * w1 + 2) (List.replicate j 2) := z7
  refine ⟨by omega, z2.neg, w1 + 1, T2, by omega, z4, u2.trans z5 (Int.le_refl _), ?_, ?_, by omega, u4.trans z9⟩
  · exact cS_neg z6 z2 (by omega) z7'.1 (by rw [z7'.2.1]; omega)
  · rw [show fI T 12 + 100 + 2 * (w1 + 1) = fI T 12 + 100 + 2 * w1 + 2 by omega]
    exact z7'.2.2
theorem one_minusF {b : Int → Int} {n lim p o f q : Int} (ht : tk b n p = 45) (ho : o < 8) (h : MSone b n lim (te b n p) (o + 1) (.inl (f, q))) : MSone b n lim p o (.inl (f, q)) := by
  intro j r T w k hi hr hk hl hj
  have hrl := rep_len j r
  have o0 := hi.2.2.2.2.1
  obtain ⟨T1, u1, u2, u3, u4⟩ := one_push (y0 := 2) (k := k) hi ho (by omega) (by omega) (Or.inr ⟨ht, rfl⟩)
  rw [cons_len] at u3
  have hj1 : ((j + 1 : Nat) : Int) = j + 1 := by omega
  exact flS.behind (h (j + 1) r T1 w k u1 hr (by rw [hj1]; omega) (by rw [hj1]; omega) (by rw [hj1]; omega)) u2 (Int.le_refl _) u4
theorem one_parenF {b : Int → Int} {n lim p o f q : Int} (ht : tk b n p = 40) (ho : o < 8) (h : MSsum b n lim (te b n p) (o + 1) (.inl (f, q))) : MSone b n lim p o (.inl (f, q)) := by
  intro j r T w k hi hr hk hl hj
  have hrl := rep_len j r
  have o0 := hi.2.2.2.2.1
  obtain ⟨T1, u1, u2, u3, u4⟩ := one_push (y0 := 40) (k := k) hi ho (by omega) (by omega) (Or.inl ⟨ht, rfl⟩)
  exact flS.behind (h (40 :: (List.replicate j 2 ++ r)) T1 w k u1 (fun a t e => (List.cons.inj e).1.symm) ⟨u3, hk.2⟩ (by rw [cons_len]; omega)) u2 (Int.le_refl _) u4
theorem one_noclose {b : Int → Int} {n lim p o p1 : Int} {φ : (Int → Int) → Int} (ht : tk b n p = 40) (ho : o < 8) (h : MSsum b n lim (te b n p) (o + 1) (.inr (φ, p1))) (h1 : tk b n p1 ≠ 41) : MSone b n lim p o (.inl (1, tq b n p1)) := by
  intro j r T w k hi hr hk hl hj
  have hrl := rep_len j r
  have o0 := hi.2.2.2.2.1
  obtain ⟨T1, u1, u2, u3, u4⟩ := one_push (y0 := 40) (k := k) hi ho (by omega) (by omega) (Or.inl ⟨ht, rfl⟩)
  obtain ⟨z0, -, z1, ops, T2, ⟨wr, a1, a2, a3, a4, a5⟩, z4, z5, z9⟩ := h (40 :: (List.replicate j 2 ++ r)) T1 w k u1 (fun a t e => (List.cons.inj e).1.symm) ⟨u3, hk.2⟩ (by rw [cons_len]; omega)
  obtain ⟨g1, g2, g3, ⟨g4, g5⟩, ⟨g6, g6b, g6c⟩, ⟨g7, g7b⟩, g8, g9, g10⟩ := a1
  have z41 := z4.1
  have cl := cons_len 40 (List.replicate j 2 ++ r)
  have hll : ((ops ++ 40 :: (List.replicate j 2 ++ r)).length : Int) = ops.length + (40 :: (List.replicate j 2 ++ r)).length := by rw [List.length_append]; omega
  obtain ⟨T3, v1, v2, v3, v4, v5⟩ := pM_settle (r := 40 :: (List.replicate j 2 ++ r)) (least := 3) (fun a t e => by have := (List.cons.inj e).1; omega) ops T2 (fun a ha => by have := z4.2 a ha; omega) g5 (by rw [g4]; exact hll) (by omega) g9 (by have := g1.2.1; omega)
  have fr := v1.fr (by have := g1.2.1; omega)
  rw [g7] at fr
  refine ⟨T3, (u2.trans z5 (Int.le_refl _)).trans fr (by have := a2.1; omega), by rw [v1.2.2.2.2 8 (by omega) (by omega) (by omega) (by omega)]; exact g3.1, fun K hK => u4 K _ (z9 K _ ⟨1, ?_⟩)⟩
  unfold l_M_summed_10
  rw [g8]
  refine fun _ => fun _ => ⟨fun z => absurd z (by decide), fun _ => pM_goesOn g5 g4 (by omega) (fun q => ?_) (fun _ => fun _ => ⟨fun _ => ?_, fun z => absurd rfl z⟩)⟩
  · rw [g3.2.2.1] at q
    rcases q with q | q | q | q | q
    · exact absurd q z1.2.2.1
    · exact absurd q z1.2.2.2
    · exact absurd q z1.1
    · exact absurd q z1.2.1
    · exact absurd q.1 h1
  · unfold j_M_summed_52
    refine ⟨_, v5 _ ?_⟩
    rw [v2]
    exact fun _ => ⟨fun z => absurd z (by omega), fun _ => hK⟩
theorem one_paren {b : Int → Int} {n lim p o p1 : Int} {φ : (Int → Int) → Int} (ht : tk b n p = 40) (ho : o < 8) (h : MSsum b n lim (te b n p) (o + 1) (.inr (φ, p1))) (h1 : tk b n p1 = 41) : MSone b n lim p o (.inr (φ, te b n p1)) := by
  intro j r T w k hi hr hk hl hj
  have hrl := rep_len j r
  have o0 := hi.2.2.2.2.1
  have tg := te_gt (b := b) (n := n) (p := p) hi.2.1.2 (by omega)
  obtain ⟨T1, u1, u2, u3, u4⟩ := one_push (y0 := 40) (k := k) hi ho (by omega) (by omega) (Or.inl ⟨ht, rfl⟩)
  obtain ⟨z0, -, z1, ops, T2, ⟨wr, a1, a2, a3, a4, a5⟩, z4, z5, z9⟩ := h (40 :: (List.replicate j 2 ++ r)) T1 w k u1 (fun a t e => (List.cons.inj e).1.symm) ⟨u3, hk.2⟩ (by rw [cons_len]; omega)
  obtain ⟨g1, g2, g3, ⟨g4, g5⟩, ⟨g6, g6b, g6c⟩, ⟨g7, g7b⟩, g8, g9, g10⟩ := a1
  have z41 := z4.1
  have n300 := g1.2.1.2
  have tg1 := te_gt (b := b) (n := n) (p := p1) g2.2 (by omega)
  have cl := cons_len 40 (List.replicate j 2 ++ r)
  have hll : ((ops ++ 40 :: (List.replicate j 2 ++ r)).length : Int) = ops.length + (40 :: (List.replicate j 2 ++ r)).length := by rw [List.length_append]; omega
  obtain ⟨T3, v1, v2, v3, v4, v5⟩ := pM_settle (r := 40 :: (List.replicate j 2 ++ r)) (least := 3) (fun a t e => by have := (List.cons.inj e).1; omega) ops T2 (fun a ha => by have := z4.2 a ha; omega) g5 (by rw [g4]; exact hll) (by omega) g9 (by omega)
  obtain ⟨c1, c2, c3, c4, c5⟩ := v1
  have fr : frS T2 T3 wr := by
    have := (show wrS T2 T3 ops from ⟨c1, c2, c3, c4, c5⟩).fr (by omega)
    rw [g7] at this
    exact this
  have e12 : fI T1 12 = fI T 12 := u2.1 12 (by omega) (by omega) (by omega) (by omega) (by omega)
  have e12b : fI T2 12 = fI T1 12 := z5.1 12 (by omega) (by omega) (by omega) (by omega) (by omega)
  have e12c : fI T3 12 = fI T2 12 := c5 12 (by omega) (by omega) (by omega) (by omega)
  have f14 : fI T3 14 = wr + ops.length := by rw [c1, g7]
  rw [g7] at c2 c3
  have a34 : aI T3 4 = aI T2 4 := c4 4 (by omega)
  have plr : pl (aI T2 4) (List.replicate j 2 ++ r) := (pl_app_r ops _ g5).2
  -- the bracket is taken off, the minuses are written
  obtain ⟨T4, d1, d2, d3, d4, d5⟩ := pM_whole (T := fset (fset T3 17 (fI T3 17 - 1)) 18 (fI T3 18 - 1)) (j := j) hr (by show pl (aI T3 4) _; rw [a34]; exact plr) (by rw [fI_fset_n (by omega), fI_fset_s]; omega) (by omega) (by rw [fI_fset_n (by omega), fI_fset_n (by omega)]; omega) (by rw [fI_fset_n (by omega), fI_fset_n (by omega)]; omega) (by rw [fI_fset_s]; omega)
  obtain ⟨s1, s2, s3, s4, s5⟩ := d1
  have w14 : fI (fset (fset T3 17 (fI T3 17 - 1)) 18 (fI T3 18 - 1)) 14 = wr + ops.length := by rw [fI_fset_n (by omega), fI_fset_n (by omega)]; exact f14
  have w12 : fI (fset (fset T3 17 (fI T3 17 - 1)) 18 (fI T3 18 - 1)) 12 = fI T 12 := by rw [fI_fset_n (by omega), fI_fset_n (by omega)]; omega
  have lrep : ((List.replicate j (2 : Int)).length : Int) = j := by rw [List.length_replicate]
  rw [w14] at s1
  rw [w14, w12] at s2 s3
  rw [lrep] at s1 s3
  have k4 : ∀ k, k ≠ 14 → k ≠ 17 → k ≠ 18 → k ≠ 19 → fI T4 k = fI T2 k := fun k q1 q2 q3 q4 => by rw [s5 k q1 q2 q3 q4, fI_fset_n q3, fI_fset_n q2, c5 k q1 q2 q3 q4]
  have a4k : ∀ k, k ≠ 2 → aI T4 k = aI T2 k := fun k q => by
    rw [s4 k q]
    show aI T3 k = _
    exact c4 k q
  have tp4 : tpM T4 b n := g1.kept (k4 4 (by omega) (by omega) (by omega) (by omega)) (a4k 3 (by omega))
  obtain ⟨T5, q1, q2, q3⟩ := pM_next (p := te b n p1) tp4 (by rw [k4 7 (by omega) (by omega) (by omega) (by omega)]; exact g3.2.1) (by omega)
  have k5 : ∀ k, ¬ (7 ≤ k ∧ k ≤ 11) → k ≠ 14 → k ≠ 17 → k ≠ 18 → k ≠ 19 → fI T5 k = fI T2 k := fun k r0 r1 r2 r3 r4 => by rw [q2.1 k r0, k4 k r1 r2 r3 r4]
  have a5k : ∀ k, k ≠ 2 → aI T5 k = aI T2 k := fun k q => by rw [q2.2, a4k k q]
  have fr5 : frS T2 T5 wr := ⟨k5, fun k q _ => a5k k q, fun i hi => by
    rw [q2.2, s3 i (by omega)]
    show aI T3 2 i = _
    exact fr.2.2 i hi⟩
  have fr15 : frS T T5 w := (u2.trans z5 (Int.le_refl _)).trans fr5 (by have := a2.1; omega)
  refine ⟨by omega, a3, wr + ops.length, T5, a4, ⟨tp4.kept (q2.1 4 (by omega)) (by rw [q2.2]), by omega, q1, ⟨by rw [q2.1 17 (by omega)]; exact d2, ?_⟩, ⟨?_, by omega, by omega⟩, ⟨by rw [q2.1 14 (by omega)]; exact s1, by omega⟩, by rw [q2.1 19 (by omega)]; exact d4, by rw [fr15.1 12 (by omega) (by omega) (by omega) (by omega) (by omega)]; exact hi.2.2.2.2.2.2.2.1, by rw [fr15.1 20 (by omega) (by omega) (by omega) (by omega) (by omega)]; exact hi.2.2.2.2.2.2.2.2⟩, fr15, ?_, by rw [q2.2]; exact s2, by omega, ?_⟩
  · rw [a5k 4 (by omega)]
    exact pl_app_r _ r plr
  · rw [q2.1 18 (by omega), d3, fI_fset_s, v3, g6]
    omega
  · have hP := a2.2 (aI T5 2) (fun i i0 i1 => fr5.2.2 i (Or.inl (by omega))) (by
      refine cel_congr ops _ (fun i i0 i1 => ?_) c2
      rw [q2.2, s3 i (by omega)]
      rfl)
    rw [e12b, e12] at hP
    exact hP
  · refine (u4.trans z9).trans ?_
    rintro K X ⟨m, hm⟩
    refine ⟨m + 1, ?_⟩
    unfold l_M_summed_10
    rw [g8]
    refine fun _ => fun _ => ⟨fun z => absurd z (by decide), fun _ => pM_goesOn g5 g4 (by omega) (fun _ => fun _ => ⟨fun z => absurd z (by decide), fun _ => ?_⟩) (fun z => absurd (Or.inr (Or.inr (Or.inr (Or.inr ⟨by rw [g3.2.2.1]; exact h1, List.mem_append.mpr (Or.inr List.mem_cons_self)⟩)))) z)⟩
    unfold j_M_summed_24
    rw [g8]
    refine fun _ => fun _ => ⟨fun z => absurd z (by decide), fun _ => ?_⟩
    unfold w_M_behindOne
    rw [g3.2.2.1, h1]
    rintro - _ rfl -
    refine ⟨fun z => absurd z (by decide), fun _ => ⟨fun _ => ⟨fun z => absurd z (by decide), fun _ => ⟨fun _ => ⟨_, v5 _ (fun _ => ⟨by omega, ?_⟩)⟩, fun z => absurd z (by decide)⟩⟩, fun z => absurd z (by decide)⟩⟩
    rintro _ rfl
    rw [fI_fset_n (by omega)]
    refine fun _ => ⟨by omega, ?_⟩
    rintro _ rfl
    refine d5 _ (q3 _ (fun _ => ?_))
    unfold j_M_summed_42
    exact ⟨fun _ => hm, fun z => absurd rfl z⟩
