/-! PURE: text(): the twin's doings: swap, steal, lend -/
theorem done_99 {s x : Int} {T : St} {K : Int → St → Prop} {b : Int → Int} {n lim p o w : Int} (hs : s = 5 ∨ s = 6) (hi : exS b n lim T p o w) (h1 : woP b n p (dW s) → j_M_done_99 x s 1 T K) (h0 : ¬ woP b n p (dW s) → K 1 T) : (¬ s = 5 → w_M_isTo T (fun r25 => (r25 = 0 ∨ r25 = 1) → j_M_done_99 x s r25 T K)) ∧ (s = 5 → w_M_w4 119 105 116 104 (fun r27 => InL r27 → w_M_isWord r27 T (fun r29 => (r29 = 0 ∨ r29 = 1) → j_M_done_99 x s r29 T K))) := by
  have z0 : ¬ woP b n p (dW s) → j_M_done_99 x s 0 T K := by
    intro c
    unfold j_M_done_99 w_M_step j_M_done_103
    exact ⟨fun z => absurd rfl z, fun _ => fun _ => ⟨fun z => absurd z (by decide), fun _ => h0 c⟩⟩
  unfold dW at h1 z0
  refine ⟨fun c => ?_, fun c => ?_⟩
  · rw [if_neg c] at h1 z0
    exact pM_isTo hi (fun q => fun _ => h1 q) (fun q => fun _ => z0 q)
  · rw [if_pos c] at h1 z0
    exact pM_w4 (by decide) (by decide) (by decide) (by decide) (fun _ => pM_word hi (fun a d => fun _ => h1 ⟨a, d⟩) (fun q => fun _ => z0 q))
theorem e15 {s : Int} (hs : s = 4 ∨ s = 5 ∨ s = 6) : dH1 s = 15 := by
  unfold dH1
  rw [if_neg (by omega), if_neg (by omega)]
theorem lent_in {x : Int} {T : St} {K : Int → St → Prop} (h : w_M_lent x T (fun r S => InR r → K r S)) : w_M_done x 4 T K := by
  unfold w_M_done
  exact ⟨fun _ => ⟨fun z => absurd rfl z, fun _ => h⟩, fun z => absurd z (by decide)⟩
theorem lent_24 {x r : Int} {T : St} {K : Int → St → Prop} (hr : r ≠ 0) (h : K r T) : j_M_lent_24 x r T (fun r S => InR r → K r S) := by
  unfold j_M_lent_24 j_M_lent_39 j_M_lent_61
  exact ⟨fun _ => ⟨fun _ => ⟨fun z => absurd z hr, fun _ => fun _ => h⟩, fun z => absurd z hr⟩, fun z => absurd z hr⟩
theorem lent_39 {x r : Int} {T : St} {K : Int → St → Prop} (hr : r ≠ 0) (h : K r T) : j_M_lent_39 x r T (fun r S => InR r → K r S) := by
  unfold j_M_lent_39 j_M_lent_61
  exact ⟨fun _ => ⟨fun z => absurd z hr, fun _ => fun _ => h⟩, fun z => absurd z hr⟩
/-- the first figure of swap, steal, lend; then the word -/
theorem d2_in {b : Int → Int} {n lim p o w s x : Int} {T : St} (hs : s = 4 ∨ s = 5 ∨ s = 6) (h : nuP b n p 0 15) (hi : exS b n lim T p o w) (hx : 0 ≤ x ∧ x + 3 < 2800) : ∃ T2, exS b n lim T2 (te b n p) o w ∧ frH T T2 x ∧ aI T2 2 (x + 1) = tm b n p ∧ p < te b n p ∧
    (¬ woP b n (te b n p) (dW s) → ∀ K : Int → St → Prop, K 1 T2 → w_M_done x s T K) ∧
    (woP b n (te b n p) (dW s) → ∃ T3, exS b n lim T3 (te b n (te b n p)) o w ∧ frH T T3 x ∧ aI T3 2 (x + 1) = tm b n p ∧ te b n p < te b n (te b n p) ∧ ∀ K : Int → St → Prop, (s = 4 → j_M_lent_24 x 0 T3 (fun r S => InR r → K r S)) → (s ≠ 4 → j_M_done_103 x s 0 T3 K) → w_M_done x s T K) := by
  have tg := te_gt (b := b) (n := n) (p := p) hi.2.1.2 (by have := h.1; omega)
  obtain ⟨T2, u1, u2, u3, u4, u5⟩ := fig_ok (x := x) (y := x + 1) hi h (by omega)
  refine ⟨T2, u1, u2, u3, tg.1, fun c K hK => ?_, fun c => ?_⟩
  · by_cases c4 : s = 4
    · subst c4
      refine lent_in ?_
      unfold w_M_lent
      refine ⟨by omega, u5 _ (fun _ => ⟨fun z => absurd rfl z, fun _ => pM_isTo u1 (fun q => absurd q c) (fun _ => fun _ => ?_)⟩)⟩
      unfold w_M_step
      exact ⟨fun z => absurd rfl z, fun _ => fun _ => lent_24 (by decide) hK⟩
    · exact done_56 (by omega) hx (u5 _ (fun _ => ⟨fun z => absurd rfl z, fun _ => done_99 (by omega) u1 (fun q => absurd q c) (fun _ => hK)⟩))
  · have tg2 := te_gt (b := b) (n := n) (p := te b n p) u1.2.1.2 (by have := c.1; omega)
    obtain ⟨T3, v1, v2, v3, v4⟩ := wo_next (x := x) u1 c
    refine ⟨T3, v1, u2.trans v2, by rw [v3]; exact u3, tg2.1, fun K k4 k5 => ?_⟩
    by_cases c4 : s = 4
    · subst c4
      refine lent_in ?_
      unfold w_M_lent
      exact ⟨by omega, u5 _ (fun _ => ⟨fun z => absurd rfl z, fun _ => pM_isTo u1 (fun _ => fun _ => v4 _ (fun _ => k4 rfl)) (fun q => absurd c q)⟩)⟩
    · refine done_56 (by omega) hx (u5 _ (fun _ => ⟨fun z => absurd rfl z, fun _ => done_99 (by omega) u1 (fun _ => ?_) (fun q => absurd c q)⟩))
      unfold j_M_done_99
      exact v4 _ (fun _ => k5 c4)
theorem d2_f {b : Int → Int} {n s p : Int} (hs : s = 4 ∨ s = 5 ∨ s = 6) (h : nuP b n p 0 (dH1 s)) (h1 : ¬ woP b n (te b n p) (dW s)) : MSdone b n s p (.inl (1, tq b n (te b n p))) := by
  intro lim o w x T hi hx
  rw [e15 hs] at h
  obtain ⟨T2, u1, u2, u3, u4, u5, -⟩ := d2_in hs h hi hx
  exact ⟨T2, u2, u1.2.2.1.1, u5 h1⟩
theorem d3_f {b : Int → Int} {n s p : Int} (hs : s = 4 ∨ s = 5 ∨ s = 6) (h : nuP b n p 0 (dH1 s)) (h1 : woP b n (te b n p) (dW s)) (h2 : ¬ nuP b n (te b n (te b n p)) 0 (dH2 s)) : MSdone b n s p (.inl (nuF b n (te b n (te b n p)), tq b n (te b n (te b n p)))) := by
  intro lim o w x T hi hx
  rw [e15 hs] at h
  have nf := nuF_ne b n (te b n (te b n p))
  obtain ⟨T2, -, -, -, -, -, u6⟩ := d2_in hs h hi hx
  obtain ⟨T3, v1, v2, v3, v4, v5⟩ := u6 h1
  refine ⟨T3, v2, v1.2.2.1.1, fun K hK => v5 K (fun c => ?_) (fun c => ?_)⟩
  · subst c
    unfold j_M_lent_24
    exact ⟨fun z => absurd rfl z, fun _ => ⟨by omega, fig_f v1 h2 (fun _ => lent_39 nf hK)⟩⟩
  · unfold j_M_done_103
    unfold dH2 at h2
    refine ⟨fun _ => ⟨by omega, fun c5 => ?_, fun c5 => ?_⟩, fun z => absurd rfl z⟩
    · rw [if_neg c5] at h2
      exact fig_f v1 h2 (fun _ => hK)
    · rw [if_pos c5] at h2
      exact fig_f v1 h2 (fun _ => hK)
theorem d3_ok {b : Int → Int} {n s p : Int} (hs : s = 5 ∨ s = 6) (h : nuP b n p 0 (dH1 s)) (h1 : woP b n (te b n p) (dW s)) (h2 : nuP b n (te b n (te b n p)) 0 (dH2 s)) : MSdone b n s p (.inr (tm b n p, tm b n (te b n (te b n p)), -1, te b n (te b n (te b n p)))) := by
  intro lim o w x T hi hx
  rw [e15 (by omega)] at h
  obtain ⟨T2, -, -, -, u4, -, u6⟩ := d2_in (s := s) (by omega) h hi hx
  obtain ⟨T3, v1, v2, v3, v4, v5⟩ := u6 h1
  have tg := te_gt (b := b) (n := n) (p := te b n (te b n p)) v1.2.1.2 (by have := h2.1; omega)
  obtain ⟨T4, x1, x2, x3, x4, x5⟩ := fig_ok (x := x) (y := x + 2) v1 h2 (by omega)
  refine ⟨by omega, T4, x1, v2.trans x2, by rw [x4 _ (by omega)]; exact v3, fun _ => x3, fun z => absurd hs (by omega), fun K hK => v5 K (fun c => absurd hs (by omega)) (fun c => ?_)⟩
  unfold j_M_done_103
  unfold dH2 at x5
  refine ⟨fun _ => ⟨by omega, fun c5 => ?_, fun c5 => ?_⟩, fun z => absurd rfl z⟩
  · rw [if_neg c5] at x5
    exact x5 _ (fun _ => hK)
  · rw [if_pos c5] at x5
    exact x5 _ (fun _ => hK)
/-- lend: for, and the years -/
theorem d4_in {b : Int → Int} {n lim p o w x : Int} {T : St} (h : nuP b n p 0 (dH1 4)) (h1 : woP b n (te b n p) (dW 4)) (h2 : nuP b n (te b n (te b n p)) 0 (dH2 4)) (hi : exS b n lim T p o w) (hx : 0 ≤ x ∧ x + 3 < 2800) :
    ∃ T4, exS b n lim T4 (te b n (te b n (te b n p))) o w ∧ frH T T4 x ∧ aI T4 2 (x + 1) = tm b n p ∧ aI T4 2 (x + 2) = tm b n (te b n (te b n p)) ∧ p < te b n (te b n (te b n p)) ∧ ∀ K : Int → St → Prop, j_M_lent_39 x 0 T4 (fun r S => InR r → K r S) → w_M_done x 4 T K := by
  rw [e15 (by omega)] at h
  obtain ⟨T2, -, -, -, u4, -, u6⟩ := d2_in (Or.inl rfl) h hi hx
  obtain ⟨T3, v1, v2, v3, v4, v5⟩ := u6 h1
  have tg := te_gt (b := b) (n := n) (p := te b n (te b n p)) v1.2.1.2 (by have := h2.1; omega)
  obtain ⟨T4, x1, x2, x3, x4, x5⟩ := fig_ok (x := x) (y := x + 2) v1 h2 (by omega)
  refine ⟨T4, x1, v2.trans x2, by rw [x4 _ (by omega)]; exact v3, x3, by omega, fun K hK => v5 K (fun _ => ?_) (fun z => absurd rfl z)⟩
  unfold j_M_lent_24
  exact ⟨fun z => absurd rfl z, fun _ => ⟨by omega, x5 _ (fun _ => hK)⟩⟩
theorem d4_f {b : Int → Int} {n p : Int} (h : nuP b n p 0 (dH1 4)) (h1 : woP b n (te b n p) (dW 4)) (h2 : nuP b n (te b n (te b n p)) 0 (dH2 4)) (h3 : ¬ woP b n (te b n (te b n (te b n p))) (W3 102 111 114)) : MSdone b n 4 p (.inl (1, tq b n (te b n (te b n (te b n p))))) := by
  intro lim o w x T hi hx
  obtain ⟨T4, u1, u2, -, -, -, u5⟩ := d4_in h h1 h2 hi hx
  refine ⟨T4, u2, u1.2.2.1.1, fun K hK => u5 K ?_⟩
  unfold j_M_lent_39
  refine ⟨fun z => absurd rfl z, fun _ => pM_w3 (by decide) (by decide) (by decide) (fun _ => pM_word u1 (fun a c => absurd ⟨a, c⟩ h3) (fun _ => fun _ => ?_))⟩
  unfold w_M_step j_M_lent_61
  exact ⟨fun z => absurd rfl z, fun _ => fun _ => ⟨fun z => absurd z (by decide), fun _ => fun _ => hK⟩⟩
theorem d5_in {b : Int → Int} {n lim p o w x : Int} {T : St} (h : nuP b n p 0 (dH1 4)) (h1 : woP b n (te b n p) (dW 4)) (h2 : nuP b n (te b n (te b n p)) 0 (dH2 4)) (h3 : woP b n (te b n (te b n (te b n p))) (W3 102 111 114)) (hi : exS b n lim T p o w) (hx : 0 ≤ x ∧ x + 3 < 2800) :
    ∃ T5, exS b n lim T5 (te b n (te b n (te b n (te b n p)))) o w ∧ frH T T5 x ∧ aI T5 2 (x + 1) = tm b n p ∧ aI T5 2 (x + 2) = tm b n (te b n (te b n p)) ∧ p < te b n (te b n (te b n (te b n p))) ∧ ∀ K : Int → St → Prop, j_M_lent_61 x 0 T5 (fun r S => InR r → K r S) → w_M_done x 4 T K := by
  obtain ⟨T4, u1, u2, u3, u3b, u4, u5⟩ := d4_in h h1 h2 hi hx
  have tg := te_gt (b := b) (n := n) (p := te b n (te b n (te b n p))) u1.2.1.2 (by have := h3.1; omega)
  obtain ⟨T5, v1, v2, v3, v4⟩ := wo_next (x := x) u1 h3
  refine ⟨T5, v1, u2.trans v2, by rw [v3]; exact u3, by rw [v3]; exact u3b, by omega, fun K hK => u5 K ?_⟩
  unfold j_M_lent_39
  exact ⟨fun z => absurd rfl z, fun _ => pM_w3 (by decide) (by decide) (by decide) (fun _ => pM_word u1 (fun _ _ => fun _ => v4 _ (fun _ => hK)) (fun q => absurd h3 q))⟩
theorem d5_f {b : Int → Int} {n p : Int} (h : nuP b n p 0 (dH1 4)) (h1 : woP b n (te b n p) (dW 4)) (h2 : nuP b n (te b n (te b n p)) 0 (dH2 4)) (h3 : woP b n (te b n (te b n (te b n p))) (W3 102 111 114)) (h4 : ¬ nuP b n (te b n (te b n (te b n (te b n p)))) 1 99) : MSdone b n 4 p (.inl (nuF b n (te b n (te b n (te b n (te b n p)))), tq b n (te b n (te b n (te b n (te b n p)))))) := by
  intro lim o w x T hi hx
  obtain ⟨T5, u1, u2, -, -, -, u5⟩ := d5_in h h1 h2 h3 hi hx
  refine ⟨T5, u2, u1.2.2.1.1, fun K hK => u5 K ?_⟩
  unfold j_M_lent_61
  exact ⟨fun _ => ⟨by omega, fig_f u1 h4 (fun _ => fun _ => hK)⟩, fun z => absurd rfl z⟩
theorem d5_ok {b : Int → Int} {n p : Int} (h : nuP b n p 0 (dH1 4)) (h1 : woP b n (te b n p) (dW 4)) (h2 : nuP b n (te b n (te b n p)) 0 (dH2 4)) (h3 : woP b n (te b n (te b n (te b n p))) (W3 102 111 114)) (h4 : nuP b n (te b n (te b n (te b n (te b n p)))) 1 99) : MSdone b n 4 p (.inr (tm b n p, tm b n (te b n (te b n p)), tm b n (te b n (te b n (te b n (te b n p)))), te b n (te b n (te b n (te b n (te b n p)))))) := by
  intro lim o w x T hi hx
  obtain ⟨T5, u1, u2, u3, u3b, u4, u5⟩ := d5_in h h1 h2 h3 hi hx
  have tg := te_gt (b := b) (n := n) (p := te b n (te b n (te b n (te b n p)))) u1.2.1.2 (by have := h4.1; omega)
  obtain ⟨T6, x1, x2, x3, x4, x5⟩ := fig_ok (x := x) (y := x + 3) u1 h4 (by omega)
  refine ⟨by omega, T6, x1, u2.trans x2, by rw [x4 _ (by omega)]; exact u3, fun _ => by rw [x4 _ (by omega)]; exact u3b, fun _ => x3, fun K hK => u5 K ?_⟩
  unfold j_M_lent_61
  exact ⟨fun _ => ⟨by omega, x5 _ (fun _ => fun _ => hK)⟩, fun z => absurd rfl z⟩
