/-! PURE: text(): the twin's questions: and, or -/
def isAnd (b : Int → Int) (n p : Int) : Prop := tk b n p = 2 ∧ tw b n p = W3 97 110 100
def isOr (b : Int → Int) (n p : Int) : Prop := tk b n p = 2 ∧ tw b n p = 28530
/-- ahead of a group; behind a question of it; behind the group; behind its or -/
def HB (K : Int → St → Prop) (x2 : Int) (T : St) : Prop := ∃ m, l_M_either_6 K m 0 x2 1 T
def SB (K : Int → St → Prop) (x2 : Int) (T : St) : Prop := ∃ m, j_M_either_35 x2 T K (l_M_either_6 K m)
def EB (b : Int → Int) (n : Int) (K : Int → St → Prop) (x2 p : Int) (T : St) : Prop := ∃ (y : Int) (m : Nat), ((isOr b n p ∧ y = 1) ∨ (¬ isOr b n p ∧ y = 0)) ∧ j_M_either_73 0 x2 y T K (l_M_either_6 K m)
def JB (b : Int → Int) (n : Int) (K : Int → St → Prop) (p : Int) (T : St) : Prop := ∃ (y : Int) (m : Nat), ((isOr b n p ∧ y = 1) ∨ (¬ isOr b n p ∧ y = 0)) ∧ j_M_either_90 0 y T K (l_M_either_6 K m)
/-- a question read: the steps w .. w1 - 1 -/
def acA (b : Int → Int) (n lim : Int) (T : St) (p o w w1 k : Int) (ψ : (Int → Int) → Int) : Prop := exS b n lim T p o w1 ∧ cAsk (aI T 2) (fI T 12 + 100) w w1 lim ψ ∧ okB lim ψ ∧ w < w1 ∧ w1 + k ≤ p ∧ 0 ≤ k
def MSbL (b : Int → Int) (n lim : Int) (ψ : (Int → Int) → Int) (p o : Int) (res : RSm) : Prop := ∀ (x2 : Int) (T : St) (w w1 k : Int), acA b n lim T p o w w1 k ψ →
  match res with
  | .inl (f, q) => ∃ T', frS T T' w ∧ fI T' 8 = q ∧ ∀ K : Int → St → Prop, K f T' → SB K x2 T
  | .inr (ψ', p') => p ≤ p' ∧ ¬ isAnd b n p' ∧ ∃ w2 T', acA b n lim T' p' o w w2 k ψ' ∧ frS T T' w ∧ ∀ K : Int → St → Prop, EB b n K x2 p' T' → SB K x2 T
def MSboth (b : Int → Int) (n lim p o : Int) (res : RSm) : Prop := ∀ (x2 : Int) (T : St) (w k : Int), exS b n lim T p o w → (w + k ≤ p ∧ 0 ≤ k) →
  match res with
  | .inl (f, q) => ∃ T', frS T T' w ∧ fI T' 8 = q ∧ ∀ K : Int → St → Prop, K f T' → HB K x2 T
  | .inr (ψ', p') => p < p' ∧ ¬ isAnd b n p' ∧ ∃ w2 T', acA b n lim T' p' o w w2 k ψ' ∧ frS T T' w ∧ ∀ K : Int → St → Prop, EB b n K x2 p' T' → HB K x2 T
def MSeL (b : Int → Int) (n lim : Int) (ψ : (Int → Int) → Int) (p o : Int) (res : RSm) : Prop := ∀ (T : St) (w w1 k : Int), acA b n lim T p o w w1 k ψ →
  match res with
  | .inl (f, q) => ∃ T', frS T T' w ∧ fI T' 8 = q ∧ ∀ K : Int → St → Prop, K f T' → JB b n K p T
  | .inr (ψ', p') => p ≤ p' ∧ ∃ w2 T', acA b n lim T' p' o w w2 k ψ' ∧ frS T T' w ∧ ∀ K : Int → St → Prop, K 0 T' → JB b n K p T
def MSei (b : Int → Int) (n lim p o : Int) (res : RSm) : Prop := ∀ (T : St) (w k : Int), exS b n lim T p o w → (w + k ≤ p ∧ 0 ≤ k) →
  match res with
  | .inl (f, q) => ∃ T', frS T T' w ∧ fI T' 8 = q ∧ ∀ K : Int → St → Prop, K f T' → w_M_either T K
  | .inr (ψ', p') => p < p' ∧ ∃ w2 T', acA b n lim T' p' o w w2 k ψ' ∧ frS T T' w ∧ ∀ K : Int → St → Prop, K 0 T' → w_M_either T K
theorem p_35 {b : Int → Int} {n lim p o w x2 : Int} {T : St} {K : Int → St → Prop} {C : Int → Int → Int → St → Prop} (hi : exS b n lim T p o w) (h1 : isAnd b n p → j_M_either_73 1 x2 0 T K C) (h0 : ¬ isAnd b n p → ∀ y, ((isOr b n p ∧ y = 1) ∨ (¬ isOr b n p ∧ y = 0)) → j_M_either_73 0 x2 y T K C) : j_M_either_35 x2 T K C := by
  unfold j_M_either_35 j_M_either_72
  have h3 := hi.2.2.1
  refine pM_w3 (by decide) (by decide) (by decide) (fun _ => pM_word hi (fun a c => fun _ => ?_) (fun c => fun _ => ?_))
  · rw [h3.2.2.1, h3.2.2.2.2 a]
    have no : ¬ tw b n p = 28530 := by rw [c]; decide
    exact fun _ => ⟨fun z => absurd a z, fun _ => fun _ => ⟨fun _ => h1 ⟨a, c⟩, fun z => absurd z no⟩⟩
  · rw [h3.2.2.1]
    refine fun _ => ⟨fun z => h0 c 0 (Or.inr ⟨fun q => z q.1, rfl⟩), fun z => ?_⟩
    rw [h3.2.2.2.2 z]
    exact fun _ => ⟨fun z2 => h0 c 0 (Or.inr ⟨fun q => z2 q.2, rfl⟩), fun z2 => h0 c 1 (Or.inl ⟨⟨z, z2⟩, rfl⟩)⟩
theorem bL_stop {b : Int → Int} {n lim p o : Int} {ψ : (Int → Int) → Int} (h : ¬ isAnd b n p) : MSbL b n lim ψ p o (.inr (ψ, p)) := by
  intro x2 T w w1 k ha
  refine ⟨Int.le_refl _, h, w1, T, ha, frS.rf T w, ?_⟩
  rintro K ⟨y, m, hy, hm⟩
  refine ⟨m, p_35 ha.1 (fun z => absurd z h) (fun _ y' hy' => ?_)⟩
  have e : y' = y := by
    rcases hy with ⟨a, c⟩ | ⟨a, c⟩ <;> rcases hy' with ⟨a', c'⟩ | ⟨a', c'⟩
    · omega
    · exact absurd a a'
    · exact absurd a' a
    · omega
  rw [e]
  exact hm
/-- an and: the next token, then the loop's head with a question waiting -/
theorem bL_and {b : Int → Int} {n lim p o w w1 k x2 : Int} {ψ : (Int → Int) → Int} {T : St} (ht : isAnd b n p) (ha : acA b n lim T p o w w1 k ψ) : ∃ T2, exS b n lim T2 (te b n p) o w1 ∧ frS T T2 w1 ∧ ∀ K : Int → St → Prop, (∃ m, w_M_asks T2 (fun (r19 : Int) (S20 : St) => InR r19 → ((r19 = 0 → w_M_emit 21 0 S20 (fun (S24 : St) => j_M_either_35 x2 S24 K (l_M_either_6 K m))) ∧ (¬ (r19 = 0) → K r19 S20)))) → SB K x2 T := by
  obtain ⟨T2, u1, u2, u3⟩ := ha.1.nx (by have := ht.1; omega)
  refine ⟨T2, u1, u2, ?_⟩
  rintro K ⟨m, hm⟩
  refine ⟨m + 1, p_35 ha.1 (fun _ => ?_) (fun z => absurd ht z)⟩
  unfold j_M_either_73 j_M_either_93 j_M_either_102 j_M_either_107
  refine ⟨fun _ => ⟨fun _ => ⟨fun z => absurd z (by decide), fun _ => u3 _ ?_⟩, fun z => absurd z (by decide)⟩, fun z => absurd z (by decide)⟩
  unfold j_M_either_116 l_M_either_6
  refine ⟨fun z => absurd z (by decide), fun _ => ?_⟩
  unfold w_M_asks at hm ⊢
  obtain ⟨n2, hn2⟩ := hm
  refine ⟨n2, ?_⟩
  have e : (fun (r19 : Int) (S20 : St) => InR r19 → ((r19 = 0 → (((1 : Int) = 0 → j_M_either_35 x2 S20 K (l_M_either_6 K m)) ∧ (¬ ((1 : Int) = 0) → w_M_emit 21 0 S20 (fun (S24 : St) => j_M_either_35 x2 S24 K (l_M_either_6 K m))))) ∧ (¬ (r19 = 0) → K r19 S20))) = (fun (r19 : Int) (S20 : St) => InR r19 → ((r19 = 0 → w_M_emit 21 0 S20 (fun (S24 : St) => j_M_either_35 x2 S24 K (l_M_either_6 K m))) ∧ (¬ (r19 = 0) → K r19 S20))) := by
    funext r S
    simp
  rw [e]
  exact hn2
theorem bL_fault {b : Int → Int} {n lim p o f q : Int} {ψ : (Int → Int) → Int} (ht : isAnd b n p) (hf : f ≠ 0) (h : MSask b n lim (te b n p) o (.inl (f, q))) : MSbL b n lim ψ p o (.inl (f, q)) := by
  intro x2 T w w1 k ha
  have tg := te_gt (b := b) (n := n) (p := p) ha.1.2.1.2 (by have := ht.1; omega)
  obtain ⟨T2, u1, u2, u3⟩ := bL_and (x2 := x2) ht ha
  have o0 := u1.2.2.2.1
  have hk := ha.2.2.2.2
  have wl0 := ha.2.2.2.1
  obtain ⟨T3, v1, v2, v3⟩ := h 0 T2 w1 (k + 1) u1 (by omega) (by omega)
  refine ⟨T3, ((frS.rf T w).trans u2 (by omega)).trans v1 (by omega), v2, fun K hK => u3 K ⟨0, ?_⟩⟩
  unfold w_M_asks
  exact v3 _ (fun _ => ⟨fun z => absurd z hf, fun _ => hK⟩)
/-- a step of two truths is written -/
theorem acA.two {b : Int → Int} {n lim p o w wm w1 k op : Int} {T T2 : St} {ψ χ : (Int → Int) → Int} (h : cAsk (aI T 2) (fI T 12 + 100) w wm lim ψ) (ok : okB lim ψ) (hw : w < wm) (e12 : fI T2 12 = fI T 12) (e : ∀ i, i < fI T 12 + 100 + 2 * wm → aI T2 2 i = aI T 2 i) (g : acA b n lim T2 p o wm w1 (k + 1) χ) (hk : 0 ≤ k) (ho : op = 21 ∨ op = 22) :
    acA b n lim (emS T2 op 0) p o w (w1 + 1) k (fun v => twoV op (ψ v) (χ v)) ∧ frS T2 (emS T2 op 0) w1 ∧ ∀ K : St → Prop, K (emS T2 op 0) → w_M_emit op 0 T2 K := by
  obtain ⟨⟨g1, g2, g3, ⟨g6, g6b, g6c⟩, ⟨g7, g7b⟩, g9, g10⟩, q2, q3, q4, q5, q6⟩ := g
  have n300 := g1.2.1.2
  have m12 : fI (emS T2 op 0) 12 = fI T2 12 := emS_f (by omega)
  have keep : ∀ i, i < fI T2 12 + 100 + 2 * w1 → aI (emS T2 op 0) 2 i = aI T2 2 i := fun i hi => by rw [emS_2, g7, if_neg (by omega), if_neg (by omega)]
  refine ⟨⟨⟨g1.kept (emS_f (by omega)) (emS_a (by omega)), g2, ⟨?_, ?_, ?_, fun z => ?_, fun z => ?_⟩, ⟨by rw [emS_f (by omega)]; exact g6, g6b, g6c⟩, ⟨by rw [emS_14, g7], by omega⟩, by rw [m12]; exact g9, by rw [emS_f (by omega)]; exact g10⟩, ?_, ok.two q3, by omega, by omega, hk⟩, ⟨fun k _ k1 _ _ _ => emS_f k1, fun k k0 _ => emS_a k0, fun i hi => by rw [emS_2, g7, if_neg (by omega), if_neg (by omega)]⟩, fun K hK => pM_emit g9 (by rw [g7]; omega) hK⟩
  · rw [emS_f (by omega)]; exact g3.1
  · rw [emS_f (by omega)]; exact g3.2.1
  · rw [emS_f (by omega)]; exact g3.2.2.1
  · rw [emS_f (by omega)]; exact g3.2.2.2.1 z
  · rw [emS_f (by omega)]; exact g3.2.2.2.2 z
  · rw [m12]
    refine cA_two (mid := wm) (op := op) ?_ ok ?_ q3 hw (by omega) ?_ ho ?_
    · rw [e12]
      exact cA_congr h (fun i i0 i1 => by rw [keep i (by omega), e i i1])
    · exact cA_congr q2 (fun i i0 i1 => keep i i1)
    · rw [emS_2, g7, if_neg (by omega), if_pos rfl]
    · rw [emS_2, g7, if_pos rfl]
      omega
theorem ask0 {b : Int → Int} {n lim p o p' : Int} {χ : (Int → Int) → Int} (h : MSask b n lim p o (.inr (χ, p'))) {T : St} {w k : Int} (hi : exS b n lim T p o w) (hk : w + k ≤ p ∧ 0 ≤ k) : p < p' ∧ ∃ w1 T', acA b n lim T' p' o w w1 k χ ∧ frS T T' w ∧ ∀ K : Int → St → Prop, K 0 T' → w_M_asks T K := by
  have o0 := hi.2.2.2.1
  obtain ⟨z1, z2, w1, T3, z3, z4, z5, z6, -, z8, z9⟩ := h 0 T w k hi (by omega) (by omega)
  have e1 : o - ((0 : Nat) : Int) = o := by omega
  have e2 : w1 + ((0 : Nat) : Int) = w1 := by omega
  rw [e1, e2] at z4
  have e12 : fI T3 12 = fI T 12 := z5.1 12 (by omega) (by omega) (by omega) (by omega) (by omega)
  rw [← e12] at z6
  refine ⟨z1, w1, T3, ⟨z4, z6, z2, z3, by omega, hk.2⟩, z5, fun K hK => ?_⟩
  unfold w_M_asks
  exact z9 K hK
theorem bL_go {b : Int → Int} {n lim p o p2 : Int} {ψ χ : (Int → Int) → Int} {res : RSm} (ht : isAnd b n p) (h : MSask b n lim (te b n p) o (.inr (χ, p2))) (h2 : MSbL b n lim (fun v => twoV 21 (ψ v) (χ v)) p2 o res) : MSbL b n lim ψ p o res := by
  intro x2 T w w1 k ha
  have tg := te_gt (b := b) (n := n) (p := p) ha.1.2.1.2 (by have := ht.1; omega)
  obtain ⟨T2, u1, u2, u3⟩ := bL_and (x2 := x2) ht ha
  have hk := ha.2.2.2.2
  obtain ⟨z1, w2, T3, z2, z3, z4⟩ := ask0 h u1 (k := k + 1) (by omega)
  have fr := u2.trans z3 (Int.le_refl _)
  obtain ⟨y1, y2, y3⟩ := acA.two (op := 21) ha.2.1 ha.2.2.1 ha.2.2.2.1 (fr.1 12 (by omega) (by omega) (by omega) (by omega) (by omega)) (fun i hi => fr.2.2 i (Or.inl hi)) z2 hk.2 (Or.inl rfl)
  have wl := z2.2.2.2.1
  have wl0 := ha.2.2.2.1
  have fr2 : frS T (emS T3 21 0) w := ((frS.rf T w).trans fr (by omega)).trans y2 (by omega)
  have back : ∀ K : Int → St → Prop, SB K x2 (emS T3 21 0) → SB K x2 T := by
    rintro K ⟨m, hm⟩
    exact u3 K ⟨m, z4 _ (fun _ => ⟨fun _ => y3 _ hm, fun z => absurd rfl z⟩)⟩
  have fin := h2 x2 (emS T3 21 0) w (w2 + 1) k y1
  cases res with
  | inl x =>
    obtain ⟨f, q⟩ := x
    obtain ⟨T4, v1, v2, v3⟩ := fin
    exact ⟨T4, fr2.trans v1 (Int.le_refl _), v2, fun K hK => back K (v3 K hK)⟩
  | inr x =>
    obtain ⟨ψ', p'⟩ := x
    obtain ⟨v0, v1, w3, T4, v2, v3, v4⟩ := fin
    exact ⟨by omega, v1, w3, T4, v2, fr2.trans v3 (Int.le_refl _), fun K hK => back K (v4 K hK)⟩
theorem both_in {x2 : Int} {T : St} {K : Int → St → Prop} (h : ∃ m, w_M_asks T (fun (r19 : Int) (S20 : St) => InR r19 → ((r19 = 0 → j_M_either_35 x2 S20 K (l_M_either_6 K m)) ∧ (¬ (r19 = 0) → K r19 S20)))) : HB K x2 T := by
  obtain ⟨m, hm⟩ := h
  refine ⟨m + 1, ?_⟩
  unfold l_M_either_6
  refine ⟨fun z => absurd z (by decide), fun _ => ?_⟩
  have e : (fun (r19 : Int) (S20 : St) => InR r19 → ((r19 = 0 → (((0 : Int) = 0 → j_M_either_35 x2 S20 K (l_M_either_6 K m)) ∧ (¬ ((0 : Int) = 0) → w_M_emit 21 0 S20 (fun (S24 : St) => j_M_either_35 x2 S24 K (l_M_either_6 K m))))) ∧ (¬ (r19 = 0) → K r19 S20))) = (fun (r19 : Int) (S20 : St) => InR r19 → ((r19 = 0 → j_M_either_35 x2 S20 K (l_M_either_6 K m)) ∧ (¬ (r19 = 0) → K r19 S20))) := by
    funext r S
    simp
  rw [e]
  exact hm
theorem both_fault {b : Int → Int} {n lim p o f q : Int} (hf : f ≠ 0) (h : MSask b n lim p o (.inl (f, q))) : MSboth b n lim p o (.inl (f, q)) := by
  intro x2 T w k hi hk
  have o0 := hi.2.2.2.1
  obtain ⟨T3, v1, v2, v3⟩ := h 0 T w k hi (by omega) (by omega)
  refine ⟨T3, v1, v2, fun K hK => both_in ⟨0, ?_⟩⟩
  unfold w_M_asks
  exact v3 _ (fun _ => ⟨fun z => absurd z hf, fun _ => hK⟩)
theorem both_ok {b : Int → Int} {n lim p o p1 : Int} {ψ : (Int → Int) → Int} {res : RSm} (h : MSask b n lim p o (.inr (ψ, p1))) (h2 : MSbL b n lim ψ p1 o res) : MSboth b n lim p o res := by
  intro x2 T w k hi hk
  obtain ⟨z1, w1, T3, z2, z3, z4⟩ := ask0 h hi hk
  have back : ∀ K : Int → St → Prop, SB K x2 T3 → HB K x2 T := by
    rintro K ⟨m, hm⟩
    exact both_in ⟨m, z4 _ (fun _ => ⟨fun _ => hm, fun z => absurd rfl z⟩)⟩
  have fin := h2 x2 T3 w w1 k z2
  cases res with
  | inl x =>
    obtain ⟨f, q⟩ := x
    obtain ⟨T4, v1, v2, v3⟩ := fin
    exact ⟨T4, z3.trans v1 (Int.le_refl _), v2, fun K hK => back K (v3 K hK)⟩
  | inr x =>
    obtain ⟨ψ', p'⟩ := x
    obtain ⟨v0, v1, w3, T4, v2, v3, v4⟩ := fin
    exact ⟨by omega, v1, w3, T4, v2, z3.trans v3 (Int.le_refl _), fun K hK => back K (v4 K hK)⟩
/-! or -/
theorem eL_stop {b : Int → Int} {n lim p o : Int} {ψ : (Int → Int) → Int} (h : ¬ isOr b n p) : MSeL b n lim ψ p o (.inr (ψ, p)) := by
  intro T w w1 k ha
  refine ⟨Int.le_refl _, w1, T, ha, frS.rf T w, fun K hK => ⟨0, 1, Or.inr ⟨h, rfl⟩, ?_⟩⟩
  unfold j_M_either_90 j_M_either_93 j_M_either_107 j_M_either_116 l_M_either_6
  exact ⟨fun z => absurd rfl z, fun _ => ⟨fun _ => ⟨fun _ => ⟨fun _ => hK, fun z => absurd rfl z⟩, fun z => absurd rfl z⟩, fun z => absurd rfl z⟩⟩
theorem eL_or {b : Int → Int} {n lim p o w w1 k : Int} {ψ : (Int → Int) → Int} {T : St} (ht : isOr b n p) (ha : acA b n lim T p o w w1 k ψ) : ∃ T2, exS b n lim T2 (te b n p) o w1 ∧ frS T T2 w1 ∧ ∀ K : Int → St → Prop, HB K 1 T2 → JB b n K p T := by
  obtain ⟨T2, u1, u2, u3⟩ := ha.1.nx (by have := ht.1; omega)
  refine ⟨T2, u1, u2, ?_⟩
  rintro K ⟨m, hm⟩
  refine ⟨1, m, Or.inl ⟨ht, rfl⟩, ?_⟩
  unfold j_M_either_90 j_M_either_93 j_M_either_102 j_M_either_107 j_M_either_116
  exact ⟨fun z => absurd rfl z, fun _ => ⟨fun z => absurd z (by decide), fun _ => ⟨fun z => absurd z (by decide), fun _ => u3 _ hm⟩⟩⟩
theorem eL_fault {b : Int → Int} {n lim p o f q : Int} {ψ : (Int → Int) → Int} (ht : isOr b n p) (h : MSboth b n lim (te b n p) o (.inl (f, q))) : MSeL b n lim ψ p o (.inl (f, q)) := by
  intro T w w1 k ha
  have tg := te_gt (b := b) (n := n) (p := p) ha.1.2.1.2 (by have := ht.1; omega)
  obtain ⟨T2, u1, u2, u3⟩ := eL_or ht ha
  have hk := ha.2.2.2.2
  have wl0 := ha.2.2.2.1
  obtain ⟨T3, v1, v2, v3⟩ := h 1 T2 w1 (k + 1) u1 (by omega)
  exact ⟨T3, ((frS.rf T w).trans u2 (by omega)).trans v1 (by omega), v2, fun K hK => u3 K (v3 K hK)⟩
theorem eL_go {b : Int → Int} {n lim p o p2 : Int} {ψ χ : (Int → Int) → Int} {res : RSm} (ht : isOr b n p) (h : MSboth b n lim (te b n p) o (.inr (χ, p2))) (h2 : MSeL b n lim (fun v => twoV 22 (ψ v) (χ v)) p2 o res) : MSeL b n lim ψ p o res := by
  intro T w w1 k ha
  have tg := te_gt (b := b) (n := n) (p := p) ha.1.2.1.2 (by have := ht.1; omega)
  obtain ⟨T2, u1, u2, u3⟩ := eL_or ht ha
  have hk := ha.2.2.2.2
  obtain ⟨z1, -, w2, T3, z2, z3, z4⟩ := h 1 T2 w1 (k + 1) u1 (by omega)
  have fr := u2.trans z3 (Int.le_refl _)
  obtain ⟨y1, y2, y3⟩ := acA.two (op := 22) ha.2.1 ha.2.2.1 ha.2.2.2.1 (fr.1 12 (by omega) (by omega) (by omega) (by omega) (by omega)) (fun i hi => fr.2.2 i (Or.inl hi)) z2 hk.2 (Or.inr rfl)
  have wl := z2.2.2.2.1
  have wl0 := ha.2.2.2.1
  have fr2 : frS T (emS T3 22 0) w := ((frS.rf T w).trans fr (by omega)).trans y2 (by omega)
  have back : ∀ K : Int → St → Prop, JB b n K p2 (emS T3 22 0) → JB b n K p T := by
    rintro K ⟨y, m, hy, hm⟩
    refine u3 K (z4 K ⟨y, m, hy, ?_⟩)
    unfold j_M_either_73
    exact ⟨fun z => absurd rfl z, fun _ => ⟨fun z => absurd z (by decide), fun _ => y3 _ hm⟩⟩
  have fin := h2 (emS T3 22 0) w (w2 + 1) k y1
  cases res with
  | inl x =>
    obtain ⟨f, q⟩ := x
    obtain ⟨T4, v1, v2, v3⟩ := fin
    exact ⟨T4, fr2.trans v1 (Int.le_refl _), v2, fun K hK => back K (v3 K hK)⟩
  | inr x =>
    obtain ⟨ψ', p'⟩ := x
    obtain ⟨v0, w3, T4, v2, v3, v4⟩ := fin
    exact ⟨by omega, w3, T4, v2, fr2.trans v3 (Int.le_refl _), fun K hK => back K (v4 K hK)⟩
theorem ei_fault {b : Int → Int} {n lim p o f q : Int} (h : MSboth b n lim p o (.inl (f, q))) : MSei b n lim p o (.inl (f, q)) := by
  intro T w k hi hk
  obtain ⟨T3, v1, v2, v3⟩ := h 0 T w k hi hk
  exact ⟨T3, v1, v2, fun K hK => v3 K hK⟩
theorem ei_ok {b : Int → Int} {n lim p o p1 : Int} {ψ : (Int → Int) → Int} {res : RSm} (h : MSboth b n lim p o (.inr (ψ, p1))) (h2 : MSeL b n lim ψ p1 o res) : MSei b n lim p o res := by
  intro T w k hi hk
  obtain ⟨z1, -, w1, T3, z2, z3, z4⟩ := h 0 T w k hi hk
  have back : ∀ K : Int → St → Prop, JB b n K p1 T3 → w_M_either T K := by
    rintro K ⟨y, m, hy, hm⟩
    refine z4 K ⟨y, m, hy, ?_⟩
    unfold j_M_either_73
    exact ⟨fun z => absurd rfl z, fun _ => ⟨fun _ => hm, fun z => absurd rfl z⟩⟩
  have fin := h2 T3 w w1 k z2
  cases res with
  | inl x =>
    obtain ⟨f, q⟩ := x
    obtain ⟨T4, v1, v2, v3⟩ := fin
    exact ⟨T4, z3.trans v1 (Int.le_refl _), v2, fun K hK => back K (v3 K hK)⟩
  | inr x =>
    obtain ⟨ψ', p'⟩ := x
    obtain ⟨v0, w3, T4, v2, v3, v4⟩ := fin
    exact ⟨by omega, w3, T4, v2, z3.trans v3 (Int.le_refl _), fun K hK => back K (v4 K hK)⟩
