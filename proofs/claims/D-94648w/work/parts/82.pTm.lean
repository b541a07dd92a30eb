/-! PURE: text(): the twin's questions: two sums compared -/
theorem cmO_bd (t : Int) : cmO t = -1 ∨ (10 ≤ cmO t ∧ cmO t ≤ 15) := by
  unfold cmO
  repeat' split
  all_goals omega
theorem cmO_0 {t : Int} (h : 0 ≤ cmO t) : t ≠ 0 := by
  intro e
  rw [e] at h
  exact absurd h (by decide)
theorem pM_nots {j : Nat} : ∀ (m : Nat) (T : St), m ≤ j → (0 ≤ fI T 12 ∧ fI T 12 ≤ 2100) → (0 ≤ fI T 14 ∧ fI T 14 + m ≤ 300) → ∃ T', wrS T T' (List.replicate m 20) ∧ (∀ k, k ≠ 14 → fI T' k = fI T k) ∧ ∀ K : Int → St → Prop, K 0 T' → (j : Int) < 1000 → l_M_asks_105 j K (m + 1) ((j - m : Nat) : Int) T := by
  intro m
  induction m with
  | zero =>
    intro T hm h12 h14
    refine ⟨T, wrS.rf T, fun _ _ => rfl, fun K hK hj => ?_⟩
    unfold l_M_asks_105
    exact ⟨fun _ => hK, fun z => absurd (by omega) z⟩
  | succ m ih =>
    intro T hm h12 h14
    obtain ⟨T', u1, u2, u3⟩ := ih (emS T 20 0) (by omega) (by rw [emS_f (by omega)]; exact h12) (by rw [emS_14]; omega)
    refine ⟨T', wrS.step (T1 := T) rfl rfl (fun _ _ _ _ => rfl) u1, fun k hk => by rw [u2 k hk, emS_f hk], fun K hK hj => ?_⟩
    unfold l_M_asks_105
    refine ⟨fun z => absurd z (by omega), fun _ => pM_emit h12 (by omega) ⟨by omega, ?_⟩⟩
    rw [show ((j - (m + 1) : Nat) : Int) + 1 = ((j - m : Nat) : Int) by omega]
    exact u3 K hK hj
theorem ask_in {b : Int → Int} {n lim p o w : Int} {j : Nat} {T : St} (hn : ¬ isNot b n p) (hi : exS b n lim T p o w) (K : Int → St → Prop) (h : j_M_asks_49 j T K) : ∃ m, l_M_asks_2 K (fun z1 zS => j_M_asks_49 z1 zS K) m j T := by
  refine ⟨1, ?_⟩
  unfold l_M_asks_2
  exact pM_w3 (by decide) (by decide) (by decide) (fun _ => pM_word hi (fun a c => absurd ⟨a, c⟩ hn) (fun _ => fun _ => ⟨fun _ => h, fun z => absurd rfl z⟩))
theorem ask_f1 {b : Int → Int} {n lim p o f q : Int} (hn : ¬ isNot b n p) (hf : f ≠ 0) (h : MSsm b n lim p o (.inl (f, q))) : MSask b n lim p o (.inl (f, q)) := by
  intro j T w k hi hk hj
  obtain ⟨T1, u1, u2, u3⟩ := h T w (j + k) hi (by omega)
  refine ⟨T1, u1, u2, fun K hK => ask_in hn hi K ?_⟩
  unfold j_M_asks_49
  exact u3 _ (fun _ => ⟨fun z => absurd z hf, fun _ => hK⟩)
theorem ask_f2 {b : Int → Int} {n lim p o p1 : Int} {φ : (Int → Int) → Int} (hn : ¬ isNot b n p) (h : MSsm b n lim p o (.inr (φ, p1))) (hc : cmO (tk b n p1) < 0) : MSask b n lim p o (.inl (1, tq b n p1)) := by
  intro j T w k hi hk hj
  obtain ⟨u0, u1, w1, T1, u2, u3, u4, u5, u6, u7⟩ := h T w (j + k) hi (by omega)
  refine ⟨T1, u4, u3.2.2.1.1, fun K hK => ask_in hn hi K ?_⟩
  unfold j_M_asks_49
  exact u7 _ (fun _ => ⟨fun _ => pM_compareOf u3 (fun _ => ⟨fun z => absurd z (by omega), fun _ => hK⟩), fun z => absurd rfl z⟩)
theorem exS.nx {b : Int → Int} {n lim p o w : Int} {T : St} (h : exS b n lim T p o w) (ht : tk b n p ≠ 0) : ∃ T2, exS b n lim T2 (te b n p) o w ∧ frS T T2 w ∧ ∀ K : St → Prop, K T2 → w_M_nextToken T K := by
  have e := fset_self T 18
  rw [h.2.2.2.1.1] at e
  exact h.next e.symm h.2.2.2.1.2 ht
theorem ask_f3 {b : Int → Int} {n lim p o p1 f q : Int} {φ : (Int → Int) → Int} (hn : ¬ isNot b n p) (hf : f ≠ 0) (h : MSsm b n lim p o (.inr (φ, p1))) (hc : 0 ≤ cmO (tk b n p1)) (h2 : MSsm b n lim (te b n p1) o (.inl (f, q))) : MSask b n lim p o (.inl (f, q)) := by
  intro j T w k hi hk hj
  obtain ⟨u0, u1, w1, T1, u2, u3, u4, u5, u6, u7⟩ := h T w (j + k) hi (by omega)
  have tg := te_gt (b := b) (n := n) (p := p1) u3.2.1.2 (cmO_0 hc)
  obtain ⟨T2, v1, v2, v3⟩ := u3.nx (cmO_0 hc)
  obtain ⟨T3, x1, x2, x3⟩ := h2 T2 w1 (j + k) v1 (by omega)
  refine ⟨T3, (u4.trans v2 (by omega)).trans x1 (by omega), x2, fun K hK => ask_in hn hi K ?_⟩
  unfold j_M_asks_49
  exact u7 _ (fun _ => ⟨fun _ => pM_compareOf u3 (fun _ => ⟨fun _ => v3 _ (x3 _ (fun _ => ⟨fun z => absurd z hf, fun _ => hK⟩)), fun z => absurd hc z⟩), fun z => absurd rfl z⟩)
theorem ask_cmp {b : Int → Int} {n lim p o p1 p2 : Int} {φ χ : (Int → Int) → Int} (hn : ¬ isNot b n p) (h : MSsm b n lim p o (.inr (φ, p1))) (hc : 0 ≤ cmO (tk b n p1)) (h2 : MSsm b n lim (te b n p1) o (.inr (χ, p2))) : MSask b n lim p o (.inr (fun v => cmpV (cmO (tk b n p1)) (φ v) (χ v), p2)) := by
  intro j T w k hi hk hj
  obtain ⟨u0, u1, w1, T1, u2, u3, u4, u5, u6, u7⟩ := h T w (j + k) hi (by omega)
  have tg := te_gt (b := b) (n := n) (p := p1) u3.2.1.2 (cmO_0 hc)
  obtain ⟨T2, v1, v2, v3⟩ := u3.nx (cmO_0 hc)
  -- a byte is the sign's: room for its step
  obtain ⟨x0, x1, w2, T3, x2, x3, x4, x5, x6, x7⟩ := h2 T2 w1 (j + k + 1) v1 (by omega)
  have co := cmO_bd (tk b n p1)
  have x3' := x3
  obtain ⟨g1, g2, g3, ⟨g6, g6b, g6c⟩, ⟨g7, g7b⟩, g9, g10⟩ := x3
  have n300 := g1.2.1.2
  have e4 : ∀ k, k ≠ 14 → k ≠ 18 → fI (fset (emS T3 (cmO (tk b n p1)) 0) 18 (o - j)) k = fI T3 k := fun k k0 k1 => by rw [fI_fset_n k1, emS_f k0]
  have e14 : fI (fset (emS T3 (cmO (tk b n p1)) 0) 18 (o - j)) 14 = w2 + 1 := by rw [fI_fset_n (by omega), emS_14, g7]
  obtain ⟨T6, y1, y2, y3⟩ := pM_nots (j := j) j (fset (emS T3 (cmO (tk b n p1)) 0) 18 (o - j)) (Nat.le_refl _) (by rw [e4 12 (by omega) (by omega)]; exact g9) (by rw [e14]; omega)
  obtain ⟨c1, c2, c3, c4, c5⟩ := y1
  have lrep : ((List.replicate j (20 : Int)).length : Int) = j := by rw [List.length_replicate]
  rw [e14] at c1 c2 c3
  rw [e4 12 (by omega) (by omega)] at c2 c3
  rw [lrep] at c1 c3
  have f6 : ∀ k, k ≠ 14 → k ≠ 18 → fI T6 k = fI T3 k := fun k k0 k1 => by rw [y2 k k0, e4 k k0 k1]
  have a6 : ∀ k, k ≠ 2 → aI T6 k = aI T3 k := fun k k0 => by
    rw [c4 k k0]
    show aI (emS T3 _ 0) k = _
    exact emS_a k0
  have cell : ∀ i, i < fI T3 12 + 100 + 2 * (w2 + 1) → aI T6 2 i = aI (emS T3 (cmO (tk b n p1)) 0) 2 i := fun i hi => by
    rw [c3 i (Or.inl hi)]
    rfl
  have fr36 : frS T3 T6 w2 := ⟨fun k _ k1 _ k3 _ => f6 k k1 k3, fun k k0 _ => a6 k k0, fun i hi => by
    rw [c3 i (by omega)]
    show aI (emS T3 _ 0) 2 i = _
    rw [emS_2, g7, if_neg (by omega), if_neg (by omega)]⟩
  have fr26 : frS T2 T6 w1 := x4.trans fr36 (by omega)
  have fr06 : frS T T6 w := (u4.trans v2 (by omega)).trans fr26 (by omega)
  have e12 : fI T1 12 = fI T 12 := u4.1 12 (by omega) (by omega) (by omega) (by omega) (by omega)
  have e12b : fI T2 12 = fI T1 12 := v2.1 12 (by omega) (by omega) (by omega) (by omega) (by omega)
  have e12c : fI T3 12 = fI T2 12 := x4.1 12 (by omega) (by omega) (by omega) (by omega) (by omega)
  refine ⟨by omega, okB.cmp u1 x1, w2 + 1, T6, by omega, ⟨g1.kept (f6 4 (by omega) (by omega)) (a6 3 (by omega)), g2, ⟨?_, ?_, ?_, fun z => ?_, fun z => ?_⟩, ⟨by rw [y2 18 (by omega), fI_fset_s], by omega, by omega⟩, ⟨c1, by omega⟩, by rw [f6 12 (by omega) (by omega)]; exact g9, by rw [f6 20 (by omega) (by omega)]; exact g10⟩, fr06, ?_, ?_, by omega, fun K hK => ask_in hn hi K ?_⟩
  · rw [f6 8 (by omega) (by omega)]; exact g3.1
  · rw [f6 7 (by omega) (by omega)]; exact g3.2.1
  · rw [f6 9 (by omega) (by omega)]; exact g3.2.2.1
  · rw [f6 10 (by omega) (by omega)]; exact g3.2.2.2.1 z
  · rw [f6 11 (by omega) (by omega)]; exact g3.2.2.2.2 z
  · refine cA_cmp (mid := w1) ?_ ?_ u2 (by omega) (op := cmO (tk b n p1)) ?_ (by omega) ?_
    · exact cS_congr u5 (fun i i0 i1 => by rw [(v2.trans fr26 (Int.le_refl _)).2.2 i (Or.inl (by omega))])
    · rw [e12b, e12] at x5
      exact cS_congr x5 (fun i i0 i1 => by rw [fr36.2.2 i (Or.inl (by omega))])
    · rw [cell _ (by omega), emS_2, g7, if_neg (by omega), if_pos (by omega)]
    · rw [cell _ (by omega), emS_2, g7, if_pos (by omega)]
      omega
  · rw [e12c, e12b, e12] at c2
    exact c2
  · unfold j_M_asks_49
    refine u7 _ (fun _ => ⟨fun _ => pM_compareOf u3 (fun _ => ⟨fun _ => v3 _ (x7 _ (fun _ => ⟨fun _ => pM_emit g9 (by rw [g7]; omega) ?_, fun z => absurd rfl z⟩)), fun z => absurd hc z⟩), fun z => absurd rfl z⟩)
    rw [emS_f (by omega), g6]
    refine fun _ => ⟨by omega, ?_⟩
    rintro _ rfl
    have := y3 K hK (by omega)
    rw [show ((j - j : Nat) : Int) = 0 by omega] at this
    exact ⟨j + 1, this⟩
