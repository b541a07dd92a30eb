/-! PURE: text(): the twin's sums: rules of one -/
theorem one_in {b : Int → Int} {n lim p o w : Int} {π : List Int} {T : St} (hi : inS b n lim T p π o w 0) (K : Int → St → Prop) (X : St → Prop) (m : Nat) (h : w_M_beginOne T (fun r8 S9 => InR r8 → j_M_summed_42 r8 S9 K X (l_M_summed_10 K X m))) : ∃ m, l_M_summed_10 K X m T := by
  have h8 := hi.2.2.2.2.2.2.1
  refine ⟨m + 1, ?_⟩
  unfold l_M_summed_10 j_M_summed_24
  rw [h8]
  exact fun _ => fun _ => ⟨fun _ => fun _ => fun _ => ⟨fun _ => h, fun z => absurd rfl z⟩, fun z => absurd rfl z⟩
theorem one_stop {b : Int → Int} {n lim p o w f : Int} {π : List Int} {T : St} (hi : inS b n lim T p π o w 0) (hf : f ≠ 0 ∧ InR f) (h : ∀ Kc : Int → St → Prop, Kc f T → w_M_beginOne T Kc) : flS T w f (tq b n p) :=
  ⟨T, frS.rf T w, hi.2.2.1.1, fun K hk => one_in hi K _ 0 (h _ (fun _ => ⟨fun z => absurd z hf.1, fun _ => hk⟩))⟩
/-- letters' name, or none -/
def tn (b : Int → Int) (n p : Int) : Int := if tk b n p = 2 then nmW (tw b n p) else -1
theorem pM_nm {b : Int → Int} {n lim p o w wh : Int} {π : List Int} {T : St} {K : Int → Prop} (hi : inS b n lim T p π o w wh) (hK : K (tn b n p)) : w_M_nameOf T K := by
  refine pM_nameOf ?_
  unfold tn at hK
  have h3 := hi.2.2.1
  rw [h3.2.2.1]
  by_cases c : tk b n p = 2
  · rw [if_pos c] at hK ⊢
    rw [h3.2.2.2.2 c]
    exact hK
  · rw [if_neg c] at hK ⊢
    exact hK
theorem nmW_bd (w : Int) : -1 ≤ nmW w ∧ nmW w ≤ 7 := by
  unfold nmW
  repeat' split
  all_goals omega
theorem tn_bd (b : Int → Int) (n p : Int) : -1 ≤ tn b n p ∧ tn b n p ≤ 7 := by
  unfold tn
  split
  · exact nmW_bd _
  · omega
/-- a step is written, the next token read, the minuses written -/
theorem one_emit {b : Int → Int} {n lim p o w o0 v0 k : Int} {j : Nat} {r : List Int} {T : St} {φ : (Int → Int) → Int} (hi : inS b n lim T p (List.replicate j 2 ++ r) o w 0) (hr : ∀ a t, r = a :: t → a ≠ 2) (hk : w + (j + r.length) + k ≤ p ∧ 0 ≤ k) (hl : (j + r.length : Int) ≤ 3 * o + 2) (hj : (j : Int) ≤ o) (ht : tk b n p ≠ 0) (ok : okF lim φ)
    (hc : ∀ (tx : Int → Int) (c lo : Int), tx (c + 2 * lo) = o0 → tx (c + 2 * lo + 1) = v0 → (0 ≤ c ∧ 0 ≤ lo ∧ lo + 1 ≤ 300 ∧ c + 2 * (lo + 1) ≤ 2800) → cSum tx c lo (lo + 1) lim φ) :
    ∃ w1 T', w < w1 ∧ inS b n lim T' (te b n p) r (o - j) (w1 + j) 1 ∧ frS T T' w ∧ cSum (aI T' 2) (fI T 12 + 100) w w1 lim φ ∧ cel (aI T' 2) (fI T 12 + 100 + 2 * w1) (List.replicate j 2) ∧ w1 + j + r.length + k ≤ te b n p ∧ ∀ Kc : St → Prop, Kc T' → w_M_emit o0 v0 T (fun S => w_M_nextToken S (fun S => w_M_whole S Kc)) := by
  obtain ⟨h1, h2, h3, ⟨h4, h5⟩, ⟨h6, h6b, h6c⟩, ⟨h7, h7b⟩, h8, h9, h10⟩ := hi
  have tg := te_gt (b := b) (n := n) (p := p) h2.2 ht
  have n300 := h1.2.1.2
  have hll : ((List.replicate j (2 : Int) ++ r).length : Int) = j + r.length := by rw [List.length_append, List.length_replicate]; omega
  have tp1 : tpM (emS T o0 v0) b n := h1.kept (emS_f (by omega)) (emS_a (by omega))
  obtain ⟨T1, v1, v2, v3⟩ := pM_next (p := te b n p) tp1 (by rw [emS_f (by omega)]; exact h3.2.1) (by omega)
  have k1 : ∀ k, ¬ (7 ≤ k ∧ k ≤ 11) → k ≠ 14 → fI T1 k = fI T k := fun k k0 k1 => by rw [v2.1 k k0, emS_f k1]
  have f14 : fI T1 14 = w + 1 := by rw [v2.1 14 (by omega), emS_14, h7]
  have a4 : aI T1 4 = aI T 4 := by rw [v2.2]; exact emS_a (by omega)
  obtain ⟨T2, u1, u2, u3, u4, u5⟩ := pM_whole (T := T1) (j := j) hr (by rw [a4]; exact h5) (by rw [k1 17 (by omega) (by omega), h4]; exact hll) (by omega) (by rw [k1 12 (by omega) (by omega)]; exact h9) (by rw [f14]; omega) (by rw [k1 18 (by omega) (by omega)]; omega)
  have lrep : ((List.replicate j (2 : Int)).length : Int) = j := by rw [List.length_replicate]
  obtain ⟨g1, g2, g3, g4, g5⟩ := u1
  rw [f14, k1 12 (by omega) (by omega)] at g2 g3
  rw [f14] at g1
  rw [lrep] at g1 g3
  have cell : ∀ i, i < fI T 12 + 100 + 2 * (w + 1) → aI T2 2 i = aI (emS T o0 v0) 2 i := fun i hi => by rw [g3 i (Or.inl hi), v2.2]
  have kk : ∀ k, ¬ (7 ≤ k ∧ k ≤ 11) → k ≠ 14 → k ≠ 17 → k ≠ 18 → k ≠ 19 → fI T2 k = fI T k := fun k q0 q1 q2 q3 q4 => by rw [g5 k q1 q2 q3 q4, k1 k q0 q1]
  refine ⟨w + 1, T2, by omega, ⟨tp1.kept ?_ ?_, by omega, ?_, ⟨u2, ?_⟩, ⟨by rw [u3, k1 18 (by omega) (by omega), h6], by omega, by omega⟩, ⟨by rw [g1], by omega⟩, u4, by rw [kk 12 (by omega) (by omega) (by omega) (by omega) (by omega)]; exact h9, by rw [kk 20 (by omega) (by omega) (by omega) (by omega) (by omega)]; exact h10⟩, ⟨kk, fun k q0 q1 => ?_, fun i hi => ?_⟩, ?_, g2, by omega, fun Kc hKc => pM_emit h9 (by rw [h7]; omega) (v3 _ (u5 Kc hKc))⟩
  · rw [g5 4 (by omega) (by omega) (by omega) (by omega), v2.1 4 (by omega)]
  · rw [g4 3 (by omega), v2.2]
  · refine ⟨?_, ?_, ?_, fun z => ?_, fun z => ?_⟩
    · rw [g5 8 (by omega) (by omega) (by omega) (by omega)]; exact v1.1
    · rw [g5 7 (by omega) (by omega) (by omega) (by omega)]; exact v1.2.1
    · rw [g5 9 (by omega) (by omega) (by omega) (by omega)]; exact v1.2.2.1
    · rw [g5 10 (by omega) (by omega) (by omega) (by omega)]; exact v1.2.2.2.1 z
    · rw [g5 11 (by omega) (by omega) (by omega) (by omega)]; exact v1.2.2.2.2 z
  · rw [g4 4 (by omega), a4]
    exact pl_app_r _ r h5
  · rw [g4 k q0, v2.2, emS_a q0]
  · rw [g3 i (by omega), v2.2, emS_2, h7, if_neg (by omega), if_neg (by omega)]
  · refine hc _ _ _ ?_ ?_ (by omega)
    · rw [cell _ (by omega), emS_2, h7, if_neg (by omega), if_pos rfl]
    · rw [cell _ (by omega), emS_2, h7, if_pos rfl]
theorem go_one {b : Int → Int} {n lim p o w : Int} {π : List Int} {T T' : St} (hi : inS b n lim T p π o w 0) (h : ∀ Kc : Int → St → Prop, Kc 0 T' → w_M_beginOne T Kc) : go T T' := by
  rintro K X ⟨m, hm⟩
  refine one_in hi K X m (h _ (fun _ => ?_))
  unfold j_M_summed_42
  exact ⟨fun _ => hm, fun z => absurd rfl z⟩
theorem one_num {b : Int → Int} {n lim p o : Int} (ht : tk b n p = 1) (hv : 0 ≤ tm b n p ∧ tm b n p ≤ 9999) : MSone b n lim p o (.inr (fun _ => tm b n p, te b n p)) := by
  intro j r T w k hi hr hk hl hj
  have tg := te_gt (b := b) (n := n) (p := p) hi.2.1.2 (by omega)
  have h3 := hi.2.2.1
  obtain ⟨w1, T', u1, u2, u3, u4, u5, u6, u7⟩ := one_emit (o0 := 0) (v0 := tm b n p) hi hr hk hl hj (by omega) (okF.num hv) (fun tx c lo e1 e2 hb => cS_num hb e1 e2 hv)
  refine ⟨tg.1, okF.num hv, w1, T', u1, u2, u3, u4, u5, u6, go_one hi (fun Kc hKc => ?_)⟩
  unfold w_M_beginOne
  rw [h3.2.2.1, ht, h3.2.2.2.1 ht]
  exact fun _ => ⟨fun z => absurd rfl z, fun _ => fun _ => ⟨fun _ => u7 _ hKc, fun z => absurd hv.2 z⟩⟩
theorem one_numF {b : Int → Int} {n lim p o : Int} (ht : tk b n p = 1) (hv : 9999 < tm b n p) : MSone b n lim p o (.inl (2, tq b n p)) := by
  intro j r T w k hi hr hk hl hj
  have h3 := hi.2.2.1
  refine one_stop hi (by decide) (fun Kc hKc => ?_)
  unfold w_M_beginOne
  rw [h3.2.2.1, ht, h3.2.2.2.1 ht]
  exact fun _ => ⟨fun z => absurd rfl z, fun _ => fun _ => ⟨fun z => absurd z (by omega), fun _ => hKc⟩⟩
theorem one_name {b : Int → Int} {n lim p o : Int} (ht : 0 ≤ tn b n p) (hb : tn b n p < lim) : MSone b n lim p o (.inr (fun v => v (tn b n p), te b n p)) := by
  intro j r T w k hi hr hk hl hj
  have k2 : tk b n p = 2 := by
    by_cases c : tk b n p = 2
    · exact c
    · unfold tn at ht
      rw [if_neg c] at ht
      omega
  have tg := te_gt (b := b) (n := n) (p := p) hi.2.1.2 (by omega)
  have h3 := hi.2.2.1
  have nb := tn_bd b n p
  obtain ⟨w1, T', u1, u2, u3, u4, u5, u6, u7⟩ := one_emit (o0 := 1) (v0 := tn b n p) hi hr hk hl hj (by omega) (okF.name ⟨ht, hb⟩) (fun tx c lo e1 e2 hb' => cS_name hb' e1 e2 ⟨ht, hb, by omega⟩)
  refine ⟨tg.1, okF.name ⟨ht, hb⟩, w1, T', u1, u2, u3, u4, u5, u6, go_one hi (fun Kc hKc => ?_)⟩
  unfold w_M_beginOne
  rw [h3.2.2.1, k2]
  refine fun _ => ⟨fun _ => pM_nm hi (fun _ => ⟨fun z => absurd ht (by omega), fun _ => pM_nm hi (fun _ => pM_isBarred (fun z1 z2 => ?_) (fun _ => br0 (pM_nm hi (fun _ => u7 _ hKc))))⟩), fun z => absurd z (by decide)⟩
  rcases hi.2.2.2.2.2.2.2.2 with ⟨q1, q2⟩ | ⟨q1, q2⟩
  · exact absurd q1 z2
  · omega
theorem one_nameF {b : Int → Int} {n lim p o : Int} (ht : 0 ≤ tn b n p) (hb : lim ≤ tn b n p) : MSone b n lim p o (.inl (5, tq b n p)) := by
  intro j r T w k hi hr hk hl hj
  have k2 : tk b n p = 2 := by
    by_cases c : tk b n p = 2
    · exact c
    · unfold tn at ht
      rw [if_neg c] at ht
      omega
  have h3 := hi.2.2.1
  have nb := tn_bd b n p
  refine one_stop hi (by decide) (fun Kc hKc => ?_)
  unfold w_M_beginOne
  rw [h3.2.2.1, k2]
  refine fun _ => ⟨fun _ => pM_nm hi (fun _ => ⟨fun z => absurd ht (by omega), fun _ => pM_nm hi (fun _ => pM_isBarred (fun z1 z2 => br1 hKc) (fun z => ?_))⟩), fun z => absurd z (by decide)⟩
  rcases hi.2.2.2.2.2.2.2.2 with ⟨q1, q2⟩ | ⟨q1, q2⟩
  · omega
  · exact absurd ⟨by omega, q1⟩ z
theorem one_stray {b : Int → Int} {n lim p o : Int} (ht : tk b n p ≠ 1 ∧ tk b n p ≠ 40 ∧ tk b n p ≠ 45) (hb : tn b n p < 0) : MSone b n lim p o (.inl (1, tq b n p)) := by
  intro j r T w k hi hr hk hl hj
  have h3 := hi.2.2.1
  refine one_stop hi (by decide) (fun Kc hKc => ?_)
  unfold w_M_beginOne
  rw [h3.2.2.1]
  refine fun _ => ⟨fun _ => pM_nm hi (fun _ => ⟨fun _ => ⟨fun _ => ⟨fun _ => ?_, fun z => absurd z ht.2.2⟩, fun z => absurd z ht.2.1⟩, fun z => absurd hb z⟩), fun z => absurd z ht.1⟩
  unfold j_M_beginOne_106
  exact ⟨fun z => absurd rfl z, fun _ => hKc⟩
theorem one_deep {b : Int → Int} {n lim p : Int} (ht : tk b n p = 40 ∨ tk b n p = 45) : MSone b n lim p 8 (.inl (3, tq b n p)) := by
  intro j r T w k hi hr hk hl hj
  have h3 := hi.2.2.1
  have h6 := hi.2.2.2.2.1.1
  have hb : tn b n p = -1 := by unfold tn; rw [if_neg (by omega)]
  refine one_stop hi (by decide) (fun Kc hKc => ?_)
  have hh : ∀ y0 : Int, y0 ≠ 0 → j_M_beginOne_106 y0 T Kc := by
    intro y0 hy
    unfold j_M_beginOne_106
    rw [h6]
    exact ⟨fun _ => fun _ => ⟨fun z => absurd rfl z, fun _ => hKc⟩, fun z => absurd z hy⟩
  unfold w_M_beginOne
  rw [h3.2.2.1]
  exact fun _ => ⟨fun _ => pM_nm hi (fun _ => ⟨fun _ => ⟨fun _ => ⟨fun _ => absurd ht (by omega), fun z => hh 2 (by decide)⟩, fun z => hh 40 (by decide)⟩, fun z => absurd z (by omega)⟩), fun z => absurd z (by omega)⟩
