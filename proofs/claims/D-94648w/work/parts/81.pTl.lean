/-! PURE: text(): a whole sum of the twin -/
/-- the twin between sums -/
def exS (b : Int → Int) (n lim : Int) (T : St) (p o w : Int) : Prop := tpM T b n ∧ (0 ≤ p ∧ p ≤ n) ∧ tokM T b n p ∧ (fI T 18 = o ∧ 0 ≤ o ∧ o ≤ 8) ∧ (fI T 14 = w ∧ 0 ≤ w) ∧ (0 ≤ fI T 12 ∧ fI T 12 ≤ 2100) ∧ ((fI T 20 = 2 ∧ lim = 8) ∨ (fI T 20 ≠ 2 ∧ lim = 5))
theorem inS.ex {b : Int → Int} {n lim p o w wh : Int} {π : List Int} {T : St} (h : inS b n lim T p π o w wh) : exS b n lim T p o w := ⟨h.1, h.2.1, h.2.2.1, h.2.2.2.2.1, h.2.2.2.2.2.1, h.2.2.2.2.2.2.2.1, h.2.2.2.2.2.2.2.2⟩
def MSsm (b : Int → Int) (n lim p o : Int) (res : RSm) : Prop := ∀ (T : St) (w k : Int), exS b n lim T p o w → (w + k ≤ p ∧ 0 ≤ k) →
  match res with
  | .inl (f, q) => ∃ T', frS T T' w ∧ fI T' 8 = q ∧ ∀ K : Int → St → Prop, K f T' → w_M_summed T K
  | .inr (φ, p') => p < p' ∧ okF lim φ ∧ ∃ w1 T', w < w1 ∧ exS b n lim T' p' o w1 ∧ frS T T' w ∧ cSum (aI T' 2) (fI T 12 + 100) w w1 lim φ ∧ w1 + k ≤ p' ∧ ∀ K : Int → St → Prop, K 0 T' → w_M_summed T K
theorem sm_in {b : Int → Int} {n lim p o w : Int} {T : St} (h : exS b n lim T p o w) : inS b n lim (fset (fset T 17 0) 19 0) p [] o w 0 := by
  obtain ⟨h1, h2, h3, ⟨h6, h6b, h6c⟩, ⟨h7, h7b⟩, h9, h10⟩ := h
  have e : ∀ k, k ≠ 17 → k ≠ 19 → fI (fset (fset T 17 0) 19 0) k = fI T k := fun k k0 k1 => by rw [fI_fset_n k1, fI_fset_n k0]
  refine ⟨h1.kept (e 4 (by omega) (by omega)) rfl, h2, ⟨?_, ?_, ?_, fun z => ?_, fun z => ?_⟩, ⟨?_, trivial⟩, ⟨?_, h6b, h6c⟩, ⟨?_, h7b⟩, fI_fset_s _ _ _, ?_, ?_⟩
  · rw [e 8 (by omega) (by omega)]; exact h3.1
  · rw [e 7 (by omega) (by omega)]; exact h3.2.1
  · rw [e 9 (by omega) (by omega)]; exact h3.2.2.1
  · rw [e 10 (by omega) (by omega)]; exact h3.2.2.2.1 z
  · rw [e 11 (by omega) (by omega)]; exact h3.2.2.2.2 z
  · rw [fI_fset_n (by omega), fI_fset_s]; rfl
  · rw [e 18 (by omega) (by omega)]; exact h6
  · rw [e 14 (by omega) (by omega)]; exact h7
  · rw [e 12 (by omega) (by omega)]; exact h9
  · rw [e 20 (by omega) (by omega)]; exact h10
theorem sm_fr {T : St} {w : Int} : frS T (fset (fset T 17 0) 19 0) w := ⟨fun k _ _ k2 _ k4 => by rw [fI_fset_n k4, fI_fset_n k2], fun _ _ _ => rfl, fun _ _ => rfl⟩
theorem MSsum.sm {b : Int → Int} {n lim p o : Int} {res : RSm} (h : MSsum b n lim p o res) (ho : 0 ≤ o) : MSsm b n lim p o res := by
  intro T w k hi hk
  have l0 : (([] : List Int).length : Int) = 0 := rfl
  have z := h [] (fset (fset T 17 0) 19 0) w k (sm_in hi) (fun a t e => absurd e (by simp)) (by rw [l0]; omega) (by rw [l0]; omega)
  cases res with
  | inl x =>
    obtain ⟨f, q⟩ := x
    obtain ⟨T', z1, z2, z3⟩ := z
    refine ⟨T', sm_fr.trans z1 (Int.le_refl _), z2, fun K hK => ?_⟩
    unfold w_M_summed
    rintro _ rfl _ rfl
    exact z3 K hK
  | inr x =>
    obtain ⟨φ, p'⟩ := x
    obtain ⟨z0, -, z1, ops, T2, ⟨wr, a1, a2, a3, a4, a5⟩, z4, z5, z9⟩ := z
    have a1' := a1
    obtain ⟨g1, g2, g3, ⟨g4, g5⟩, ⟨g6, g6b, g6c⟩, ⟨g7, g7b⟩, g8, g9, g10⟩ := a1
    have z41 := z4.1
    have n300 := g1.2.1.2
    rw [l0] at a5
    have hll : ((ops ++ ([] : List Int)).length : Int) = ops.length := by rw [List.append_nil]
    obtain ⟨T3, v1, v2, v3, v4, v5⟩ := pM_settle (r := []) (least := 3) (fun a t e => absurd e (by simp)) ops T2 (fun a ha => by have := z4.2 a ha; omega) g5 (by rw [g4, hll, l0]; omega) (by rw [l0]; omega) g9 (by omega)
    obtain ⟨c1, c2, c3, c4, c5⟩ := v1
    have fr : frS T2 T3 wr := by
      have := (show wrS T2 T3 ops from ⟨c1, c2, c3, c4, c5⟩).fr (by omega)
      rw [g7] at this
      exact this
    rw [g7] at c1 c2 c3
    have e12 : fI T2 12 = fI T 12 := (sm_fr.trans z5 (Int.le_refl w)).1 12 (by omega) (by omega) (by omega) (by omega) (by omega)
    have fr3 : frS T T3 w := (sm_fr.trans z5 (Int.le_refl _)).trans fr (by have := a2.1; omega)
    refine ⟨z0, a3, wr + ops.length, T3, a4, ⟨g1.kept (c5 4 (by omega) (by omega) (by omega) (by omega)) (c4 3 (by omega)), g2, ⟨?_, ?_, ?_, fun z => ?_, fun z => ?_⟩, ⟨by rw [v3]; exact g6, g6b, g6c⟩, ⟨c1, by omega⟩, by rw [c5 12 (by omega) (by omega) (by omega) (by omega)]; exact g9, by rw [c5 20 (by omega) (by omega) (by omega) (by omega)]; exact g10⟩, fr3, ?_, by omega, fun K hK => ?_⟩
    · rw [c5 8 (by omega) (by omega) (by omega) (by omega)]; exact g3.1
    · rw [c5 7 (by omega) (by omega) (by omega) (by omega)]; exact g3.2.1
    · rw [c5 9 (by omega) (by omega) (by omega) (by omega)]; exact g3.2.2.1
    · rw [c5 10 (by omega) (by omega) (by omega) (by omega)]; exact g3.2.2.2.1 z
    · rw [c5 11 (by omega) (by omega) (by omega) (by omega)]; exact g3.2.2.2.2 z
    · have hP := a2.2 (aI T3 2) (fun i i0 i1 => c3 i (Or.inl (by omega))) c2
      rw [e12] at hP
      exact hP
    · unfold w_M_summed
      rintro _ rfl _ rfl
      refine z9 K _ ⟨1, ?_⟩
      unfold l_M_summed_10
      rw [g8]
      refine fun _ => fun _ => ⟨fun z => absurd z (by decide), fun _ => pM_goesOn g5 g4 (by rw [hll]; omega) (fun q => ?_) (fun _ => fun _ => ⟨fun _ => ?_, fun z => absurd rfl z⟩)⟩
      · rw [g3.2.2.1] at q
        rcases q with q | q | q | q | q
        · exact absurd q z1.2.2.1
        · exact absurd q z1.2.2.2
        · exact absurd q z1.1
        · exact absurd q z1.2.1
        · have := q.2
          rw [List.append_nil] at this
          have := z4.2 40 this
          omega
      · unfold j_M_summed_52
        refine ⟨_, v5 _ ?_⟩
        rw [v2, l0]
        exact fun _ => ⟨fun _ => hK, fun z => absurd (Int.le_refl _) z⟩
/-! questions -/
def isNot (b : Int → Int) (n p : Int) : Prop := tk b n p = 2 ∧ tw b n p = W3 110 111 116
def cmO (t : Int) : Int := if t = 60 then 10 else if t = 4 then 11 else if t = 62 then 12 else if t = 5 then 13 else if t = 61 then 14 else if t = 35 then 15 else -1
theorem pM_word {b : Int → Int} {n lim p o w x : Int} {T : St} {K : Int → Prop} (h : exS b n lim T p o w) (h1 : tk b n p = 2 → tw b n p = x → K 1) (h0 : ¬ (tk b n p = 2 ∧ tw b n p = x) → K 0) : w_M_isWord x T K := by
  have h3 := h.2.2.1
  refine pM_isWord (fun a c => ?_) (fun c => ?_)
  · rw [h3.2.2.1] at a
    rw [h3.2.2.2.2 a] at c
    exact h1 a c
  · refine h0 (fun q => c ⟨by rw [h3.2.2.1]; exact q.1, by rw [h3.2.2.2.2 q.1]; exact q.2⟩)
theorem pM_compareOf {b : Int → Int} {n lim p o w : Int} {T : St} {K : Int → Prop} (h : exS b n lim T p o w) (hK : K (cmO (tk b n p))) : w_M_compareOf T K := by
  unfold w_M_compareOf
  rw [h.2.2.1.2.2.1]
  unfold cmO at hK
  refine fun _ => ⟨fun n0 => ⟨fun n1 => ⟨fun n2 => ⟨fun n3 => ⟨fun n4 => ⟨fun n5 => ?_, fun e5 => ?_⟩, fun e4 => ?_⟩, fun e3 => ?_⟩, fun e2 => ?_⟩, fun e1 => ?_⟩, fun e0 => ?_⟩
  · rw [if_neg n0, if_neg n1, if_neg n2, if_neg n3, if_neg n4, if_neg n5] at hK; exact hK
  · rw [if_neg n0, if_neg n1, if_neg n2, if_neg n3, if_neg n4, if_pos e5] at hK; exact hK
  · rw [if_neg n0, if_neg n1, if_neg n2, if_neg n3, if_pos e4] at hK; exact hK
  · rw [if_neg n0, if_neg n1, if_neg n2, if_pos e3] at hK; exact hK
  · rw [if_neg n0, if_neg n1, if_pos e2] at hK; exact hK
  · rw [if_neg n0, if_pos e1] at hK; exact hK
  · rw [if_pos e0] at hK; exact hK
def flA (T : St) (w f q : Int) (j : Nat) : Prop := ∃ T', frS T T' w ∧ fI T' 8 = q ∧ ∀ K : Int → St → Prop, K f T' → ∃ m, l_M_asks_2 K (fun z1 zS => j_M_asks_49 z1 zS K) m j T
/-- one question, behind j nots -/
def MSask (b : Int → Int) (n lim p o : Int) (res : RSm) : Prop := ∀ (j : Nat) (T : St) (w k : Int), exS b n lim T p o w → (w + j + k ≤ p ∧ 0 ≤ k) → (j : Int) ≤ o →
  match res with
  | .inl (f, q) => flA T w f q j
  | .inr (ψ, p') => p < p' ∧ okB lim ψ ∧ ∃ w1 T', w < w1 ∧ exS b n lim T' p' (o - j) (w1 + j) ∧ frS T T' w ∧ cAsk (aI T' 2) (fI T 12 + 100) w w1 lim ψ ∧ cel (aI T' 2) (fI T 12 + 100 + 2 * w1) (List.replicate j 20) ∧ w1 + j + k ≤ p' ∧ ∀ K : Int → St → Prop, K 0 T' → ∃ m, l_M_asks_2 K (fun z1 zS => j_M_asks_49 z1 zS K) m j T
theorem exS.next {b : Int → Int} {n lim p o w o' : Int} {T T1 : St} (h : exS b n lim T p o w) (h18 : T1 = fset T 18 o') (ho : 0 ≤ o' ∧ o' ≤ 8) (ht : tk b n p ≠ 0) : ∃ T2, exS b n lim T2 (te b n p) o' w ∧ frS T T2 w ∧ ∀ K : St → Prop, K T2 → w_M_nextToken T1 K := by
  obtain ⟨h1, h2, h3, ⟨h6, h6b, h6c⟩, ⟨h7, h7b⟩, h9, h10⟩ := h
  subst h18
  have tg := te_gt (b := b) (n := n) (p := p) h2.2 ht
  have tp1 : tpM (fset T 18 o') b n := h1.kept (fI_fset_n (by omega)) rfl
  obtain ⟨T2, v1, v2, v3⟩ := pM_next (p := te b n p) tp1 (by rw [fI_fset_n (by omega)]; exact h3.2.1) (by omega)
  refine ⟨T2, ⟨tp1.kept (v2.1 4 (by omega)) (by rw [v2.2]), by omega, v1, ⟨by rw [v2.1 18 (by omega), fI_fset_s], ho⟩, ⟨by rw [v2.1 14 (by omega), fI_fset_n (by omega)]; exact h7, h7b⟩, by rw [v2.1 12 (by omega), fI_fset_n (by omega)]; exact h9, by rw [v2.1 20 (by omega), fI_fset_n (by omega)]; exact h10⟩, ⟨fun k k0 _ _ k3 _ => by rw [v2.1 k k0, fI_fset_n k3], fun k _ _ => by rw [v2.2]; rfl, fun i _ => by rw [v2.2]; rfl⟩, v3⟩
theorem ask_deep {b : Int → Int} {n lim p : Int} (ht : isNot b n p) : MSask b n lim p 8 (.inl (3, tq b n p)) := by
  intro j T w k hi hk hj
  refine ⟨T, frS.rf T w, hi.2.2.1.1, fun K hK => ⟨1, ?_⟩⟩
  unfold l_M_asks_2
  refine pM_w3 (by decide) (by decide) (by decide) (fun _ => pM_word hi (fun _ _ => fun _ => ⟨fun z => absurd z (by decide), fun _ => ?_⟩) (fun z => absurd ht z))
  rw [hi.2.2.2.1.1]
  exact fun _ => ⟨fun z => absurd rfl z, fun _ => hK⟩
theorem ask_step {b : Int → Int} {n lim p o w : Int} {j : Nat} {T : St} (ht : isNot b n p) (ho : o < 8) (hj : (j : Int) ≤ o) (hi : exS b n lim T p o w) : ∃ T2, exS b n lim T2 (te b n p) (o + 1) w ∧ frS T T2 w ∧ ∀ K : Int → St → Prop, (∃ m, l_M_asks_2 K (fun z1 zS => j_M_asks_49 z1 zS K) m ((j + 1 : Nat) : Int) T2) → ∃ m, l_M_asks_2 K (fun z1 zS => j_M_asks_49 z1 zS K) m j T := by
  have o0 := hi.2.2.2.1
  obtain ⟨T2, u1, u2, u3⟩ := hi.next (o' := o + 1) rfl (by omega) (by have := ht.1; omega)
  refine ⟨T2, u1, u2, ?_⟩
  rintro K ⟨m, hm⟩
  refine ⟨m + 1, ?_⟩
  unfold l_M_asks_2
  refine pM_w3 (by decide) (by decide) (by decide) (fun _ => pM_word hi (fun _ _ => fun _ => ⟨fun z => absurd z (by decide), fun _ => ?_⟩) (fun z => absurd ht z))
  rw [o0.1]
  refine fun _ => ⟨fun _ => ⟨by omega, ?_⟩, fun z => absurd z (by omega)⟩
  rintro _ rfl
  refine ⟨by omega, u3 _ ?_⟩
  rw [show (j : Int) + 1 = ((j + 1 : Nat) : Int) by omega]
  exact hm
theorem ask_notF {b : Int → Int} {n lim p o f q : Int} (ht : isNot b n p) (ho : o < 8) (h : MSask b n lim (te b n p) (o + 1) (.inl (f, q))) : MSask b n lim p o (.inl (f, q)) := by
  intro j T w k hi hk hj
  have tg := te_gt (b := b) (n := n) (p := p) hi.2.1.2 (by have := ht.1; omega)
  obtain ⟨T2, u1, u2, u3⟩ := ask_step ht ho hj hi
  have hj1 : ((j + 1 : Nat) : Int) = j + 1 := by omega
  obtain ⟨T3, z1, z2, z3⟩ := h (j + 1) T2 w k u1 (by rw [hj1]; omega) (by rw [hj1]; omega)
  exact ⟨T3, u2.trans z1 (Int.le_refl _), z2, fun K hK => u3 K (z3 K hK)⟩
theorem ask_not {b : Int → Int} {n lim p o p' : Int} {ψ : (Int → Int) → Int} (ht : isNot b n p) (ho : o < 8) (h : MSask b n lim (te b n p) (o + 1) (.inr (ψ, p'))) : MSask b n lim p o (.inr (fun v => 1 - ψ v, p')) := by
  intro j T w k hi hk hj
  have tg := te_gt (b := b) (n := n) (p := p) hi.2.1.2 (by have := ht.1; omega)
  obtain ⟨T2, u1, u2, u3⟩ := ask_step ht ho hj hi
  have hj1 : ((j + 1 : Nat) : Int) = j + 1 := by omega
  obtain ⟨z1, z2, w1, T3, z3, z4, z5, z6, z7, z8, z9⟩ := h (j + 1) T2 w k u1 (by rw [hj1]; omega) (by rw [hj1]; omega)
  rw [hj1] at z4 z8
  rw [show o + 1 - ((j : Int) + 1) = o - j by omega, show w1 + ((j : Int) + 1) = w1 + 1 + j by omega] at z4
  have e12 : fI T2 12 = fI T 12 := u2.1 12 (by omega) (by omega) (by omega) (by omega) (by omega)
  have e12b : fI T3 12 = fI T2 12 := z5.1 12 (by omega) (by omega) (by omega) (by omega) (by omega)
  have n300 := z4.1.2.1.2
  have p2n := z4.2.1.2
  have x12 := z4.2.2.2.2.2.1
  rw [e12] at z6 z7
  have z7' : aI T3 2 (fI T 12 + 100 + 2 * w1) = 20 ∧ aI T3 2 (fI T 12 + 100 + 2 * w1 + 1) = 0 ∧ cel (aI T3 2) (fI T 12 + 100 + 2 * w1 + 2) (List.replicate j 20) := z7
  refine ⟨by omega, z2.not, w1 + 1, T3, by omega, z4, u2.trans z5 (Int.le_refl _), ?_, ?_, by omega, fun K hK => u3 K (z9 K hK)⟩
  · exact cA_not z6 z2 (by omega) z7'.1 (by rw [z7'.2.1]; omega)
  · rw [show fI T 12 + 100 + 2 * (w1 + 1) = fI T 12 + 100 + 2 * w1 + 2 by omega]
    exact z7'.2.2
