/-! PURE: text(): the twin's clauses: their words; kinds -/
def soW (w : Int) : Int := if w = W4 119 111 114 110 then 0 else if w = W4 104 111 108 121 then 1 else if w = W6 117 110 108 105 107 101 then 2 else if w = W4 107 105 110 100 then 3 else if w = W4 108 101 110 100 then 4 else if w = W4 115 119 97 112 then 5 else if w = W5 115 116 101 97 108 then 6 else if w = W4 98 117 114 110 then 7 else if w = W4 112 97 115 115 then 8 else -1
def soF (b : Int → Int) (n p : Int) : Int := if tk b n p = 2 then soW (tw b n p) else -1
theorem soW_bd (w : Int) : -1 ≤ soW w ∧ soW w ≤ 8 := by
  unfold soW
  repeat' split
  all_goals omega
theorem soF_bd (b : Int → Int) (n p : Int) : -1 ≤ soF b n p ∧ soF b n p ≤ 8 := by
  unfold soF
  split
  · exact soW_bd _
  · omega
theorem pM_sortOf {b : Int → Int} {n lim p o w : Int} {T : St} {K : Int → Prop} (hi : exS b n lim T p o w) (hK : K (soF b n p)) : w_M_sortOf T K := by
  unfold soF at hK
  unfold w_M_sortOf
  have nx : ∀ (x : Int) (A B : Prop) , ((tk b n p = 2 ∧ tw b n p = x) → A) → (¬ (tk b n p = 2 ∧ tw b n p = x) → B) → w_M_isWord x T (fun r => (r = 0 ∨ r = 1) → ((r = 0 → B) ∧ (¬ r = 0 → A))) := fun x A B hA hB => pM_word hi (fun a c => br1 (hA ⟨a, c⟩)) (fun q => br0 (hB q))
  by_cases c : tk b n p = 2
  · rw [if_pos c] at hK
    unfold soW at hK
    refine pM_w4 (by decide) (by decide) (by decide) (by decide) (fun _ => nx _ _ _ (fun q => by rw [if_pos q.2] at hK; exact hK) (fun q0 => ?_))
    rw [if_neg (fun z => q0 ⟨c, z⟩)] at hK
    refine pM_w4 (by decide) (by decide) (by decide) (by decide) (fun _ => nx _ _ _ (fun q => by rw [if_pos q.2] at hK; exact hK) (fun q0 => ?_))
    rw [if_neg (fun z => q0 ⟨c, z⟩)] at hK
    refine pM_w6 (by decide) (by decide) (by decide) (by decide) (by decide) (by decide) (fun _ => nx _ _ _ (fun q => by rw [if_pos q.2] at hK; exact hK) (fun q0 => ?_))
    rw [if_neg (fun z => q0 ⟨c, z⟩)] at hK
    refine pM_w4 (by decide) (by decide) (by decide) (by decide) (fun _ => nx _ _ _ (fun q => by rw [if_pos q.2] at hK; exact hK) (fun q0 => ?_))
    rw [if_neg (fun z => q0 ⟨c, z⟩)] at hK
    refine pM_w4 (by decide) (by decide) (by decide) (by decide) (fun _ => nx _ _ _ (fun q => by rw [if_pos q.2] at hK; exact hK) (fun q0 => ?_))
    rw [if_neg (fun z => q0 ⟨c, z⟩)] at hK
    refine pM_w4 (by decide) (by decide) (by decide) (by decide) (fun _ => nx _ _ _ (fun q => by rw [if_pos q.2] at hK; exact hK) (fun q0 => ?_))
    rw [if_neg (fun z => q0 ⟨c, z⟩)] at hK
    refine pM_w5 (by decide) (by decide) (by decide) (by decide) (by decide) (fun _ => nx _ _ _ (fun q => by rw [if_pos q.2] at hK; exact hK) (fun q0 => ?_))
    rw [if_neg (fun z => q0 ⟨c, z⟩)] at hK
    refine pM_w4 (by decide) (by decide) (by decide) (by decide) (fun _ => nx _ _ _ (fun q => by rw [if_pos q.2] at hK; exact hK) (fun q0 => ?_))
    rw [if_neg (fun z => q0 ⟨c, z⟩)] at hK
    refine pM_w4 (by decide) (by decide) (by decide) (by decide) (fun _ => nx _ _ _ (fun q => by rw [if_pos q.2] at hK; exact hK) (fun q0 => ?_))
    rw [if_neg (fun z => q0 ⟨c, z⟩)] at hK
    exact hK
  · rw [if_neg c] at hK
    refine pM_w4 (by decide) (by decide) (by decide) (by decide) (fun _ => nx _ _ _ (fun q => absurd q.1 c) (fun _ => ?_))
    refine pM_w4 (by decide) (by decide) (by decide) (by decide) (fun _ => nx _ _ _ (fun q => absurd q.1 c) (fun _ => ?_))
    refine pM_w6 (by decide) (by decide) (by decide) (by decide) (by decide) (by decide) (fun _ => nx _ _ _ (fun q => absurd q.1 c) (fun _ => ?_))
    refine pM_w4 (by decide) (by decide) (by decide) (by decide) (fun _ => nx _ _ _ (fun q => absurd q.1 c) (fun _ => ?_))
    refine pM_w4 (by decide) (by decide) (by decide) (by decide) (fun _ => nx _ _ _ (fun q => absurd q.1 c) (fun _ => ?_))
    refine pM_w4 (by decide) (by decide) (by decide) (by decide) (fun _ => nx _ _ _ (fun q => absurd q.1 c) (fun _ => ?_))
    refine pM_w5 (by decide) (by decide) (by decide) (by decide) (by decide) (fun _ => nx _ _ _ (fun q => absurd q.1 c) (fun _ => ?_))
    refine pM_w4 (by decide) (by decide) (by decide) (by decide) (fun _ => nx _ _ _ (fun q => absurd q.1 c) (fun _ => ?_))
    exact pM_w4 (by decide) (by decide) (by decide) (by decide) (fun _ => nx _ _ _ (fun q => absurd q.1 c) (fun _ => hK))
/-- a kind told ahead -/
def told (T : St) (c kd : Int) : Prop := ∃ k, 0 ≤ k ∧ k < c ∧ aI T 2 (fI T 12 + 1 + 4 * k) = 3 ∧ aI T 2 (fI T 12 + 2 + 4 * k) = kd
theorem kd_loop {T : St} {x c : Int} {K : Int → St → Prop} {X : Prop} (h12 : 0 ≤ fI T 12 ∧ fI T 12 ≤ 2100) (hc : aI T 2 (fI T 12) = c) (hc2 : 0 ≤ c ∧ c ≤ 24) (h1 : told T c (fI T 10) → K 4 T) (h0 : ¬ told T c (fI T 10) → X) : ∀ (m : Nat) (k : Int), 0 ≤ k → k ≤ c → c - k < m → (∀ i, 0 ≤ i → i < k → ¬ (aI T 2 (fI T 12 + 1 + 4 * i) = 3 ∧ aI T 2 (fI T 12 + 2 + 4 * i) = fI T 10)) → l_M_kind_23 x T K X m k := by
  intro m
  induction m with
  | zero => intro k k0 k1 k2; omega
  | succ m ih =>
    intro k k0 k1 k2 hk
    have nx : ¬ (aI T 2 (fI T 12 + 1 + 4 * k) = 3 ∧ aI T 2 (fI T 12 + 2 + 4 * k) = fI T 10) → k < c → j_M_kind_79 x k T K X (l_M_kind_23 x T K X m) := by
      intro hn hl
      unfold j_M_kind_79
      refine ⟨by omega, ih (k + 1) (by omega) (by omega) (by omega) (fun i i0 i1 => ?_)⟩
      by_cases e : i = k
      · rw [e]; exact hn
      · exact hk i i0 (by omega)
    unfold l_M_kind_23
    rw [hc]
    refine fun _ => ⟨by omega, fun _ => ⟨fun z => h0 ?_, fun z => ⟨by omega, by omega, by omega, by omega, fun _ => ⟨fun n3 => nx (fun q => n3 q.1) (by omega), fun e3 => ⟨by omega, by omega, by omega, fun _ => fun _ => ⟨fun nn => nx (fun q => nn q.2) (by omega), fun ee => h1 ⟨k, k0, by omega, e3, ee⟩⟩⟩⟩⟩⟩⟩
    rintro ⟨i, i0, i1, i2, i3⟩
    exact hk i i0 (by omega) ⟨i2, i3⟩
theorem pM_kind {b : Int → Int} {n lim p o w x c : Int} {T : St} {K : Int → St → Prop} (hi : exS b n lim T p o w) (hc : aI T 2 (fI T 12) = c) (hc2 : 0 ≤ c ∧ c ≤ 24) (h1 : nuP b n p 0 19 → told T c (tm b n p) → K 4 T) (h0 : ¬ (nuP b n p 0 19 ∧ told T c (tm b n p)) → j_M_kind_85 x T K) : w_M_kind x T K := by
  have h3 := hi.2.2.1
  unfold w_M_kind
  rw [h3.2.2.1]
  refine fun _ => ⟨fun z => h0 (fun q => z q.1.1), fun z => fun _ => ?_⟩
  have e10 := h3.2.2.2.1 z
  rw [e10]
  refine p_isIn (fun a d => fun _ => ⟨fun z2 => absurd z2 (by decide), fun _ => ⟨25, ?_⟩⟩) (fun q => fun _ => ⟨fun _ => h0 (fun q2 => q ⟨q2.1.2.1, q2.1.2.2⟩), fun z2 => absurd rfl z2⟩)
  exact kd_loop hi.2.2.2.2.2.1 hc hc2 (fun t => by rw [e10] at t; exact h1 ⟨z, a, d⟩ t) (fun t => h0 (fun q => by rw [e10] at t; exact t q.2)) 25 0 (by omega) (by omega) (by omega) (fun i i0 i1 => absurd i1 (by omega))
/-- behind that: the kind, many, how many -/
def MSkd (b : Int → Int) (n p : Int) (res : RSd) : Prop := ∀ (lim o w x : Int) (T : St), exS b n lim T p o w → (0 ≤ x ∧ x + 3 < 2800) →
  match res with
  | .inl (f, q) => ∃ T', frH T T' x ∧ fI T' 8 = q ∧ ∀ K : Int → St → Prop, K f T' → j_M_kind_85 x T (fun r S => InR r → K r S)
  | .inr (a, c, _, p') => p < p' ∧ ∃ T', exS b n lim T' p' o w ∧ frH T T' x ∧ aI T' 2 (x + 1) = a ∧ aI T' 2 (x + 2) = c ∧ ∀ K : Int → St → Prop, K 0 T' → j_M_kind_85 x T (fun r S => InR r → K r S)
theorem kd_120 {x r : Int} {T : St} {K : Int → St → Prop} (hr : r ≠ 0) (h : K r T) : j_M_kind_120 x r T (fun r S => InR r → K r S) := by
  unfold j_M_kind_120
  exact ⟨fun z => absurd z hr, fun _ => fun _ => h⟩
theorem k1_f {b : Int → Int} {n p : Int} (h : ¬ nuP b n p 0 19) : MSkd b n p (.inl (nuF b n p, tq b n p)) := by
  intro lim o w x T hi hx
  have nf := nuF_ne b n p
  refine ⟨T, frH.rf T x, hi.2.2.1.1, fun K hK => ?_⟩
  unfold j_M_kind_85
  exact ⟨by omega, fig_f hi h (fun _ => ⟨fun _ => kd_120 nf hK, fun z => absurd z nf⟩)⟩
theorem k2_in {b : Int → Int} {n lim p o w x : Int} {T : St} (h : nuP b n p 0 19) (hi : exS b n lim T p o w) (hx : 0 ≤ x ∧ x + 3 < 2800) : ∃ T2, exS b n lim T2 (te b n p) o w ∧ frH T T2 x ∧ aI T2 2 (x + 1) = tm b n p ∧ p < te b n p ∧
    (¬ woP b n (te b n p) (W4 109 97 110 121) → ∀ K : Int → St → Prop, K 1 T2 → j_M_kind_85 x T (fun r S => InR r → K r S)) ∧
    (woP b n (te b n p) (W4 109 97 110 121) → ∃ T3, exS b n lim T3 (te b n (te b n p)) o w ∧ frH T T3 x ∧ aI T3 2 (x + 1) = tm b n p ∧ te b n p < te b n (te b n p) ∧ ∀ K : Int → St → Prop, j_M_kind_120 x 0 T3 (fun r S => InR r → K r S) → j_M_kind_85 x T (fun r S => InR r → K r S)) := by
  have tg := te_gt (b := b) (n := n) (p := p) hi.2.1.2 (by have := h.1; omega)
  obtain ⟨T2, u1, u2, u3, u4, u5⟩ := fig_ok (x := x) (y := x + 1) hi h (by omega)
  refine ⟨T2, u1, u2, u3, tg.1, fun c K hK => ?_, fun c => ?_⟩
  · unfold j_M_kind_85
    refine ⟨by omega, u5 _ (fun _ => ⟨fun z => absurd rfl z, fun _ => pM_w4 (by decide) (by decide) (by decide) (by decide) (fun _ => pM_word u1 (fun a d => absurd ⟨a, d⟩ c) (fun _ => fun _ => ?_))⟩)⟩
    unfold w_M_step
    exact ⟨fun z => absurd rfl z, fun _ => fun _ => kd_120 (by decide) hK⟩
  · have tg2 := te_gt (b := b) (n := n) (p := te b n p) u1.2.1.2 (by have := c.1; omega)
    obtain ⟨T3, v1, v2, v3, v4⟩ := wo_next (x := x) u1 c
    refine ⟨T3, v1, u2.trans v2, by rw [v3]; exact u3, tg2.1, fun K hK => ?_⟩
    unfold j_M_kind_85
    exact ⟨by omega, u5 _ (fun _ => ⟨fun z => absurd rfl z, fun _ => pM_w4 (by decide) (by decide) (by decide) (by decide) (fun _ => pM_word u1 (fun _ _ => fun _ => v4 _ (fun _ => hK)) (fun q => absurd c q))⟩)⟩
theorem k2_f {b : Int → Int} {n p : Int} (h : nuP b n p 0 19) (h1 : ¬ woP b n (te b n p) (W4 109 97 110 121)) : MSkd b n p (.inl (1, tq b n (te b n p))) := by
  intro lim o w x T hi hx
  obtain ⟨T2, u1, u2, u3, u4, u5, -⟩ := k2_in h hi hx
  exact ⟨T2, u2, u1.2.2.1.1, u5 h1⟩
theorem k3_f {b : Int → Int} {n p : Int} (h : nuP b n p 0 19) (h1 : woP b n (te b n p) (W4 109 97 110 121)) (h2 : ¬ nuP b n (te b n (te b n p)) 1 9) : MSkd b n p (.inl (nuF b n (te b n (te b n p)), tq b n (te b n (te b n p)))) := by
  intro lim o w x T hi hx
  obtain ⟨T2, -, -, -, -, -, u6⟩ := k2_in h hi hx
  obtain ⟨T3, v1, v2, v3, v4, v5⟩ := u6 h1
  refine ⟨T3, v2, v1.2.2.1.1, fun K hK => v5 K ?_⟩
  unfold j_M_kind_120
  exact ⟨fun _ => ⟨by omega, fig_f v1 h2 (fun _ => fun _ => hK)⟩, fun z => absurd rfl z⟩
theorem k_ok {b : Int → Int} {n p : Int} (h : nuP b n p 0 19) (h1 : woP b n (te b n p) (W4 109 97 110 121)) (h2 : nuP b n (te b n (te b n p)) 1 9) : MSkd b n p (.inr (tm b n p, tm b n (te b n (te b n p)), 0, te b n (te b n (te b n p)))) := by
  intro lim o w x T hi hx
  obtain ⟨T2, -, -, -, u4, -, u6⟩ := k2_in h hi hx
  obtain ⟨T3, v1, v2, v3, v4, v5⟩ := u6 h1
  have tg := te_gt (b := b) (n := n) (p := te b n (te b n p)) v1.2.1.2 (by have := h2.1; omega)
  obtain ⟨T4, x1, x2, x3, x4, x5⟩ := fig_ok (x := x) (y := x + 2) v1 h2 (by omega)
  refine ⟨by omega, T4, x1, v2.trans x2, by rw [x4 _ (by omega)]; exact v3, x3, fun K hK => v5 K ?_⟩
  unfold j_M_kind_120
  exact ⟨fun _ => ⟨by omega, x5 _ (fun _ => fun _ => hK)⟩, fun z => absurd rfl z⟩
