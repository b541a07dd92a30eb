/-! PURE: played -/
variable {tB : Int}
theorem law_does {S T : St} {x k : Int} {q : Nat} {K : Int → St → Prop} (h : REL tB S T) (hx : 0 ≤ x ∧ x ≤ 3) (hk : 0 ≤ k ∧ k < 24) (hd : doR (gI S) (aI T 2) (700 * x) k q)
    (hK : ∀ r S', (r = 0 ∨ r = 1) → EX tB S T (w_M_isPlayed (700 * x + 1 + 4 * k) T) r S' → K r S') : w_X_does q S K := by
  obtain ⟨s, a, b, c, hq, hs, e1, e2, e3, e4, ra, rb, rc⟩ := hd
  have q1 : 700 * x + 1 + 4 * k + 1 = 700 * x + 2 + 4 * k := by omega
  have q2 : 700 * x + 1 + 4 * k + 2 = 700 * x + 3 + 4 * k := by omega
  have q3 : 700 * x + 1 + 4 * k + 3 = 700 * x + 4 + 4 * k := by omega
  have ob : ∃ fs : List PV, gI S q = some (.inr (.inl (13, fs))) := ⟨_, hq⟩
  have ga : ∀ L : Int → Prop, L a → w_X13_a q S L := fun L hL => ⟨_, _, hq, rfl, fun _ => hL⟩
  have gb : ∀ L : Int → Prop, L b → w_X13_b q S L := fun L hL => ⟨_, _, hq, rfl, fun _ => hL⟩
  have gc : ∀ L : Int → Prop, L c → w_X13_c q S L := fun L hL => ⟨_, _, hq, rfl, fun _ => hL⟩
  have inM : ∀ K' : Int → St → Prop, (s = 4 → w_M_lend a b c T (fun (r15 : Int) (S16 : St) => InR r15 → ((r15 < 0 → K' 0 S16) ∧ (¬ (r15 < 0) → K' 1 S16)))) → (s = 5 → w_M_swap a b T (fun (r18 : Int) (S19 : St) => (r18 = 0 ∨ r18 = 1) → K' r18 S19)) → (s = 6 → w_M_steal a b T (fun (r20 : Int) (S21 : St) => (r20 = 0 ∨ r20 = 1) → K' r20 S21)) → (s = 7 → w_M_burn a T (fun (r22 : Int) (S23 : St) => InR r22 → ((r22 < 0 → K' 0 S23) ∧ (¬ (r22 < 0) → K' 1 S23)))) → (s = 8 → w_M_pass a T (fun (r25 : Int) (S26 : St) => InR r25 → ((r25 < 0 → K' 0 S26) ∧ (¬ (r25 < 0) → K' 1 S26)))) → w_M_isPlayed (700 * x + 1 + 4 * k) T K' := by
    intro K' h4 h5 h6 h7 h8
    unfold w_M_isPlayed
    rw [q1, q2, q3]
    refine ⟨by omega, by omega, fun _ => ?_⟩
    rintro _ rfl
    refine fun _ => ⟨by omega, by omega, fun _ => ?_⟩
    rintro _ rfl
    refine fun _ => ⟨by omega, fun _ => ⟨fun z => ⟨by omega, by omega, fun _ => ?_⟩, fun z => ?_, fun z => ?_, fun z => ?_, fun z => ?_, fun z => absurd (by omega) z⟩⟩
    · rw [e2, e3 (by omega), e4 (by omega)]
      exact h4 (by omega)
    · rw [e2, e3 (by omega)]
      exact h5 (by omega)
    · rw [e2, e3 (by omega)]
      exact h6 (by omega)
    · rw [e2]
      exact h7 (by omega)
    · rw [e2]
      exact h8 (by omega)
  unfold w_X_does
  refine ⟨ob, _, _, hq, rfl, fun _ => fun _ => ⟨fun z => ⟨ob, ga _ (fun _ => ⟨ob, gb _ (fun _ => ⟨ob, gc _ (fun _ => ?_)⟩)⟩)⟩, fun z => ⟨ob, ga _ (fun _ => ⟨ob, gb _ (fun _ => ?_)⟩)⟩, fun z => ⟨ob, ga _ (fun _ => ⟨ob, gb _ (fun _ => ?_)⟩)⟩, fun z => ⟨ob, ga _ (fun _ => ?_)⟩, fun z => ⟨ob, ga _ (fun _ => ?_)⟩⟩⟩
  · refine rel_lends h.1 (fun r S' hp r01 => ?_)
    obtain ⟨r', he, T', t1, t2, t3, t4, hw⟩ := Post.ex h hp
    refine hK _ _ r01 ⟨T', t1, t2, t3, t4, fun K' hk => inM K' (fun _ => hw _ (fun _ => ?_)) (fun _ => by omega) (fun _ => by omega) (fun _ => by omega) (fun _ => by omega)⟩
    rcases he with ⟨rfl, c1, -⟩ | ⟨rfl, rfl⟩
    · exact ⟨fun z => absurd z (by omega), fun _ => hk⟩
    · exact ⟨fun _ => hk, fun z => absurd (by decide) z⟩
  · refine rel_swap h.1 (fun r S' hp r01 => ?_)
    obtain ⟨r', rfl, T', t1, t2, t3, t4, hw⟩ := Post.ex h hp
    exact hK _ _ r01 ⟨T', t1, t2, t3, t4, fun K' hk => inM K' (fun _ => by omega) (fun _ => hw _ (fun _ => hk)) (fun _ => by omega) (fun _ => by omega) (fun _ => by omega)⟩
  · refine rel_steal h.1 (fun r S' hp r01 => ?_)
    obtain ⟨r', rfl, T', t1, t2, t3, t4, hw⟩ := Post.ex h hp
    exact hK _ _ r01 ⟨T', t1, t2, t3, t4, fun K' hk => inM K' (fun _ => by omega) (fun _ => by omega) (fun _ => hw _ (fun _ => hk)) (fun _ => by omega) (fun _ => by omega)⟩
  · refine rel_burn h.1 (fun r S' hp _ => ?_)
    obtain ⟨r', ⟨rfl, rb⟩, T', t1, t2, t3, t4, hw⟩ := Post.ex h hp
    refine ⟨fun z => hK _ _ (Or.inl rfl) ⟨T', t1, t2, t3, t4, fun K' hk => inM K' (fun _ => by omega) (fun _ => by omega) (fun _ => by omega) (fun _ => hw _ (fun _ => ⟨fun _ => hk, fun z2 => absurd (by omega) z2⟩)) (fun _ => by omega)⟩, fun z => hK _ _ (Or.inr rfl) ⟨T', t1, t2, t3, t4, fun K' hk => inM K' (fun _ => by omega) (fun _ => by omega) (fun _ => by omega) (fun _ => hw _ (fun _ => ⟨fun z2 => absurd z2 (by omega), fun _ => hk⟩)) (fun _ => by omega)⟩⟩
  · refine law_pass h (fun r S' rb hp _ => ?_)
    obtain ⟨T', t1, t2, t3, t4, hw⟩ := hp
    refine ⟨fun z => hK _ _ (Or.inl rfl) ⟨T', t1, t2, t3, t4, fun K' hk => inM K' (fun _ => by omega) (fun _ => by omega) (fun _ => by omega) (fun _ => by omega) (fun _ => hw _ (fun _ => ⟨fun _ => hk, fun z2 => absurd (by omega) z2⟩))⟩, fun z => hK _ _ (Or.inr rfl) ⟨T', t1, t2, t3, t4, fun K' hk => inM K' (fun _ => by omega) (fun _ => by omega) (fun _ => by omega) (fun _ => by omega) (fun _ => hw _ (fun _ => ⟨fun z2 => absurd z2 (by omega), fun _ => hk⟩))⟩⟩
theorem pM_skip {T : St} {x : Int} {K : Int → St → Prop} (hx : 0 ≤ x ∧ x ≤ 3) (hn : aI T 2 (700 * x) ≤ 24) (hs : ∀ k, 0 ≤ k → k < aI T 2 (700 * x) → 0 ≤ aI T 2 (700 * x + 1 + 4 * k)) : ∀ (d : Nat) (k k2 : Int), k2 - k = d → 0 ≤ k → k2 ≤ aI T 2 (700 * x) → (∀ j, k ≤ j → j < k2 → aI T 2 (700 * x + 1 + 4 * j) ≤ 3) → (∃ n, l_M_played_21 x K n k2 T) → ∃ n, l_M_played_21 x K n k T := by
  intro d
  induction d with
  | zero =>
    intro k k2 h1 h2 h3 h4 h5
    rw [show k = k2 by omega]
    exact h5
  | succ d ih =>
    intro k k2 h1 h2 h3 h4 h5
    obtain ⟨n, hn2⟩ := ih (k + 1) k2 (by omega) (by omega) h3 (fun j j0 j1 => h4 j (by omega) j1) h5
    refine ⟨n + 1, ?_⟩
    have s1 := h4 k (by omega) (by omega)
    unfold l_M_played_21 w_M_isPlayed
    refine ⟨by omega, by omega, fun _ => ⟨fun c => absurd c (by omega), fun _ => ⟨by omega, by omega, by omega, by omega, by omega, fun _ => ?_⟩⟩⟩
    rintro _ rfl
    refine fun _ => ⟨by omega, by omega, fun _ => ?_⟩
    rintro _ rfl
    refine fun _ => ⟨by omega, fun _ => ⟨fun c => absurd c (by omega), fun c => absurd c (by omega), fun c => absurd c (by omega), fun c => absurd c (by omega), fun c => absurd c (by omega), fun _ => fun _ => ⟨fun _ => ⟨by omega, hn2⟩, fun z => absurd z (by decide)⟩⟩⟩
theorem pX_get {S : St} {l : Nat} {n i : Int} {el : Int → Nat} {K : Option Nat → Prop} (h : lst (gI S) l n el) (hn : n ≤ 1000) (hi : 0 ≤ i ∧ i < n) (hK : K (some (el i))) : w_J2_get l i S K := by
  obtain ⟨fs, ed, pn, pf, h1, h2, h3, h4, h5, h6⟩ := h
  refine ⟨fs, n, h1, h3, fun _ => ?_⟩
  unfold w_J15_checkIndex w_J5_checkIndex_null
  refine ⟨fun z => absurd z (by omega), fun _ => ⟨fun _ => fun _ => fun _ => ⟨⟨_, h1⟩, fs, ed, h1, h2, pn, pf, h4, by omega, ?_⟩, fun z => absurd hi.2 z⟩⟩
  rw [h6 i hi.1 hi.2]
  exact hK
theorem pX_size {S : St} {l : Nat} {n : Int} {el : Int → Nat} {K : Int → Prop} (h : lst (gI S) l n el) (hK : K n) : w_J2_size l S K := by
  obtain ⟨fs, ed, pn, pf, h1, h2, h3, h4, h5, h6⟩ := h
  exact ⟨fs, n, h1, h3, fun _ => hK⟩
theorem lst.obj {g : Nat → Option PE} {l : Nat} {n : Int} {el : Int → Nat} (h : lst g l n el) : ∃ fs : List PV, g l = some (.inr (.inl (14, fs))) := by
  obtain ⟨fs, ed, pn, pf, h1, -⟩ := h
  exact ⟨fs, h1⟩
theorem law_played_in {S T : St} {x : Int} {l : Nat} {n : Int} {el : Int → Nat} {js : Int → Int} {K : Int → St → Prop} (hx : 0 ≤ x ∧ x ≤ 3) (hnC : 0 ≤ aI T 2 (700 * x) ∧ aI T 2 (700 * x) ≤ 24) (hs : ∀ k, 0 ≤ k → k < aI T 2 (700 * x) → 0 ≤ aI T 2 (700 * x + 1 + 4 * k) ∧ aI T 2 (700 * x + 1 + 4 * k) ≤ 8)
    (hl : lst (gI S) l n el) (hn : 0 ≤ n ∧ n ≤ 24) (hj : ∀ i, 0 ≤ i → i < n → (0 ≤ js i ∧ js i < aI T 2 (700 * x)) ∧ doR (gI S) (aI T 2) (700 * x) (js i) (el i)) (hm : ∀ i, 0 ≤ i → i + 1 < n → js i < js (i + 1))
    (hg : ∀ i k, 0 ≤ i → i ≤ n → (0 < i → js (i - 1) < k) → (i < n → k < js i) → 0 ≤ k → k < aI T 2 (700 * x) → aI T 2 (700 * x + 1 + 4 * k) ≤ 3) :
    ∀ (m : Nat) (i k : Int) (S' T' : St), 0 ≤ i → i ≤ n → n - i < m → REL tB S' T' → extP (gI S) (gI S') → aI T' 2 = aI T 2 → aI T' 0 3 = aI T 0 3 → (0 ≤ k ∧ k ≤ aI T 2 (700 * x)) → (0 < i → js (i - 1) < k) → (i < n → k ≤ js i) →
    (∀ r S2, (∃ T2, REL tB S2 T2 ∧ ∀ K' : Int → St → Prop, K' r T2 → ∃ n, l_M_played_21 x K' n k T') → K r S2) → l_X_played_26 l K m i S' := by
  intro m
  induction m with
  | zero => intro i k S' T' i0 i1 i2; omega
  | succ m ih =>
    intro i k S' T' i0 i1 i2 h he h2 h3 hk hp hq hK
    have hl' := hl.ext he
    have hb : aI T' 2 (700 * x) = aI T 2 (700 * x) := by rw [h2]
    have sk : ∀ (K' : Int → St → Prop) (k2 : Int), k ≤ k2 → k2 ≤ aI T 2 (700 * x) → (∀ j, k ≤ j → j < k2 → aI T 2 (700 * x + 1 + 4 * j) ≤ 3) → (∃ n, l_M_played_21 x K' n k2 T') → ∃ n, l_M_played_21 x K' n k T' := by
      intro K' k2 q0 q1 q2 q3
      exact pM_skip hx (by omega) (fun k k0 k1 => by rw [h2]; rw [h2] at k1; exact (hs k k0 k1).1) (k2 - k).toNat k k2 (by omega) hk.1 (by omega) (fun j j0 j1 => by rw [h2]; exact q2 j j0 j1) q3
    unfold l_X_played_26
    refine ⟨hl'.obj, pX_size hl' (fun _ => ⟨fun c => ?_, fun c => ⟨hl'.obj, pX_get hl' (by omega) (by omega) ⟨el i, rfl, ?_⟩⟩⟩)⟩
    · have ei : i = n := by omega
      refine hK _ _ ⟨T', h, fun K' hk' => sk K' (aI T 2 (700 * x)) hk.2 (Int.le_refl _) (fun j j0 j1 => hg i j i0 i1 (fun z => by have := hp z; omega) (fun z => absurd z (by omega)) (by omega) j1) ⟨1, ?_⟩⟩
      unfold l_M_played_21
      exact ⟨by omega, by omega, fun _ => ⟨fun _ => hk', fun c2 => absurd (by omega) c2⟩⟩
    · obtain ⟨⟨j0, j1⟩, hd⟩ := hj i i0 (by omega)
      have hd' : doR (gI S') (aI T' 2) (700 * x) (js i) (el i) := by rw [h2]; exact hd.ext he
      have hd0 := hd'
      obtain ⟨s, a, b, c', hob, -⟩ := hd0
      refine ⟨⟨_, hob⟩, law_does h hx (by omega) hd' (fun r S2 r01 hex _ => ⟨fun c1 => ?_, fun c0 => ?_⟩)⟩
      · obtain ⟨T2, t1, t2, t3, t4, hw⟩ := hex
        have er : r = 1 := by omega
        subst er
        refine ⟨by omega, ih (i + 1) (js i + 1) S2 T2 (by omega) (by omega) (by omega) t1 (he.trans t2) (by rw [t3, h2]) (by rw [t4, h3]) (by omega) (fun _ => by rw [show i + 1 - 1 = i by omega]; omega) (fun z => by have := hm i i0 z; omega) (fun r S3 hx3 => ?_)⟩
        obtain ⟨T3, u1, hw3⟩ := hx3
        refine hK _ _ ⟨T3, u1, fun K' hk' => sk K' (js i) (hq (by omega)) (by omega) (fun j q0 q1 => hg i j i0 i1 (fun z => by have := hp z; omega) (fun _ => q1) (by omega) (by omega)) ?_⟩
        obtain ⟨n3, hn3⟩ := hw3 K' hk'
        refine ⟨n3 + 1, ?_⟩
        unfold l_M_played_21
        refine ⟨by omega, by omega, fun _ => ⟨fun c2 => absurd c2 (by omega), fun _ => ⟨by omega, by omega, by omega, hw _ (fun _ => ⟨fun _ => ⟨by omega, hn3⟩, fun z => absurd z (by decide)⟩)⟩⟩⟩
      · obtain ⟨T2, t1, t2, t3, t4, hw⟩ := hex
        subst c0
        have hl2 := hl.ext (he.trans t2)
        refine ⟨hl2.obj, pX_get hl2 (by omega) (by omega) ⟨el i, rfl, ⟨_, t2 _ _ hob⟩, ⟨_, t2 _ _ hob⟩, _, _, t2 _ _ hob, rfl, fun _ => fun _ => ?_⟩⟩
        refine hK _ _ ⟨T2, t1, fun K' hk' => sk K' (js i) (hq (by omega)) (by omega) (fun j q0 q1 => hg i j i0 i1 (fun z => by have := hp z; omega) (fun _ => q1) (by omega) (by omega)) ⟨1, ?_⟩⟩
        unfold l_M_played_21
        exact ⟨by omega, by omega, fun _ => ⟨fun c2 => absurd c2 (by omega), fun _ => ⟨by omega, by omega, by omega, hw _ (fun _ => ⟨fun z => absurd rfl z, fun _ => hk'⟩)⟩⟩⟩
theorem law_played {S T : St} {x : Int} {K : Int → St → Prop} (h : REL tB S T) (hK : ∀ r S', PostF tB (w_M_played x T) r S' → K r S') : w_X_played x S K := by
  obtain ⟨-, -, -, ⟨d0, d1, d2⟩, -⟩ := h.1.nums
  unfold w_X_played w_X_isText
  refine fun _ => ⟨by omega, p_in (fun x0 x1 => fun _ => br1r ⟨by omega, ?_⟩) (fun c => fun _ => br0r (hK _ _ (fun K' hk => ?_)))⟩
  · obtain ⟨q, hq, w, ho, u, m, l, cc, pm, t1, t2, t3, t4, t5, t6, t7, t8, n, el, js, u1, u2, u3, u4, u5⟩ := h.2.2.2.1 x x0 (by omega)
    have un : 0 ≤ n := by
      obtain ⟨fs, ed, pn, pf, z1, z2, z3, z4, z5, z6⟩ := u1
      omega
    refine ⟨q, hq, _, _, t1, rfl, 25, law_played_in (T := T) (by omega) t2 t3 u1 ⟨un, u2⟩ u3 u4 u5 25 0 0 S T (by omega) un (by omega) h (extP.refl _) rfl rfl (by omega) (fun z => absurd z (by omega)) (fun z => (u3 0 (by omega) z).1.1) (fun r S2 hx => hK _ _ (fun K' hk => ?_))⟩
    obtain ⟨T2, v1, hw⟩ := hx
    unfold w_M_played
    exact fun _ => ⟨by omega, p_isIn (fun _ _ => br1r (hw K' (hk T2 v1))) (fun c => absurd (by omega) c)⟩
  · unfold w_M_played
    exact fun _ => ⟨by omega, p_isIn (fun _ _ => absurd (by omega) c) (fun _ => br0r (hk T h))⟩
