/-! PURE: text(): the twin's doings: figures and words -/
def nuP (b : Int → Int) (n p lo hi : Int) : Prop := tk b n p = 1 ∧ lo ≤ tm b n p ∧ tm b n p ≤ hi
def nuF (b : Int → Int) (n p : Int) : Int := if tk b n p = 1 then 2 else 1
def woP (b : Int → Int) (n p x : Int) : Prop := tk b n p = 2 ∧ tw b n p = x
/-- tokens alone, and the cells x + 1 .. x + 3 of the clause -/
def frH (T T' : St) (x : Int) : Prop := (∀ k, ¬ (7 ≤ k ∧ k ≤ 11) → fI T' k = fI T k) ∧ (∀ k, k ≠ 2 → aI T' k = aI T k) ∧ ∀ i, (i < x + 1 ∨ x + 3 < i) → aI T' 2 i = aI T 2 i
theorem frH.rf (T : St) (x : Int) : frH T T x := ⟨fun _ _ => rfl, fun _ _ => rfl, fun _ _ => rfl⟩
theorem frH.trans {T T1 T2 : St} {x : Int} (h : frH T T1 x) (h2 : frH T1 T2 x) : frH T T2 x := ⟨fun k hk => by rw [h2.1 k hk, h.1 k hk], fun k hk => by rw [h2.2.1 k hk, h.2.1 k hk], fun i hi => by rw [h2.2.2 i hi, h.2.2 i hi]⟩
theorem exS.nxH {b : Int → Int} {n lim p o w : Int} {T T1 : St} (h : exS b n lim T p o w) (hf : fI T1 = fI T) (ha : ∀ k, k ≠ 2 → aI T1 k = aI T k) (ht : tk b n p ≠ 0) : ∃ T2, exS b n lim T2 (te b n p) o w ∧ (∀ k, ¬ (7 ≤ k ∧ k ≤ 11) → fI T2 k = fI T k) ∧ aI T2 = aI T1 ∧ ∀ K : St → Prop, K T2 → w_M_nextToken T1 K := by
  obtain ⟨h1, h2, h3, ⟨h6, h6b, h6c⟩, ⟨h7, h7b⟩, h9, h10⟩ := h
  have tg := te_gt (b := b) (n := n) (p := p) h2.2 ht
  have tp1 : tpM T1 b n := h1.kept (by rw [hf]) (ha 3 (by omega))
  obtain ⟨T2, v1, v2, v3⟩ := pM_next (p := te b n p) tp1 (by rw [hf]; exact h3.2.1) (by omega)
  have ff : ∀ k, ¬ (7 ≤ k ∧ k ≤ 11) → fI T2 k = fI T k := fun k hk => by rw [v2.1 k hk, hf]
  exact ⟨T2, ⟨tp1.kept (v2.1 4 (by omega)) (by rw [v2.2]), by omega, v1, ⟨by rw [ff 18 (by omega)]; exact h6, h6b, h6c⟩, ⟨by rw [ff 14 (by omega)]; exact h7, h7b⟩, by rw [ff 12 (by omega)]; exact h9, by rw [ff 20 (by omega)]; exact h10⟩, ff, v2.2, v3⟩
theorem fig_f {b : Int → Int} {n lim p o w x lo hi : Int} {T : St} (h : exS b n lim T p o w) (hn : ¬ nuP b n p lo hi) {K : Int → St → Prop} (hK : K (nuF b n p) T) : w_M_figure x lo hi T K := by
  have h3 := h.2.2.1
  unfold w_M_figure
  rw [h3.2.2.1]
  unfold nuF at hK
  refine fun _ => ⟨fun c => fun _ => ?_, fun c => by rw [if_neg c] at hK; exact hK⟩
  rw [if_pos c] at hK
  rw [h3.2.2.2.1 c]
  exact p_isIn (fun a d => absurd ⟨c, a, d⟩ hn) (fun _ => br0r hK)
theorem fig_ok {b : Int → Int} {n lim p o w x y lo hi : Int} {T : St} (h : exS b n lim T p o w) (hn : nuP b n p lo hi) (hy : 0 ≤ y ∧ y < 2800 ∧ x + 1 ≤ y ∧ y ≤ x + 3) : ∃ T2, exS b n lim T2 (te b n p) o w ∧ frH T T2 x ∧ aI T2 2 y = tm b n p ∧ (∀ i, i ≠ y → aI T2 2 i = aI T 2 i) ∧ ∀ K : Int → St → Prop, K 0 T2 → w_M_figure y lo hi T K := by
  have h3 := h.2.2.1
  obtain ⟨T2, u1, u2, u3, u4⟩ := h.nxH (T1 := aset T 2 y (tm b n p)) rfl (fun k hk => by funext i; exact aI_aset_j hk) (by have := hn.1; omega)
  have oth : ∀ i, i ≠ y → aI T2 2 i = aI T 2 i := fun i hi => by rw [u3]; exact aI_aset_i hi
  refine ⟨T2, u1, ⟨u2, fun k hk => by rw [u3]; funext i; exact aI_aset_j hk, fun i hi => oth i (by omega)⟩, by rw [u3]; exact aI_aset_s _ _ _ _, oth, fun K hK => ?_⟩
  unfold w_M_figure
  rw [h3.2.2.1, h3.2.2.2.1 hn.1]
  refine fun _ => ⟨fun c => fun _ => p_isIn (fun a d => br1r ⟨by omega, ?_⟩) (fun z => absurd ⟨hn.2.1, hn.2.2⟩ z), fun c => absurd hn.1 c⟩
  rintro _ rfl
  exact u4 _ hK
theorem wo_next {b : Int → Int} {n lim p o w x v : Int} {T : St} (h : exS b n lim T p o w) (hn : woP b n p v) : ∃ T2, exS b n lim T2 (te b n p) o w ∧ frH T T2 x ∧ aI T2 = aI T ∧ ∀ K : Int → St → Prop, K 0 T2 → w_M_step 1 T K := by
  obtain ⟨T2, u1, u2, u3, u4⟩ := h.nxH rfl (fun _ _ => rfl) (by have := hn.1; omega)
  refine ⟨T2, u1, ⟨u2, fun k _ => by rw [u3], fun i _ => by rw [u3]⟩, u3, fun K hK => ?_⟩
  unfold w_M_step
  exact ⟨fun _ => u4 _ hK, fun z => absurd z (by decide)⟩
theorem pM_isTo {b : Int → Int} {n lim p o w : Int} {T : St} {K : Int → Prop} (h : exS b n lim T p o w) (h1 : woP b n p 29807 → K 1) (h0 : ¬ woP b n p 29807 → K 0) : w_M_isTo T K := by
  have h3 := h.2.2.1
  unfold w_M_isTo
  rw [h3.2.2.1]
  refine fun _ => ⟨fun c => h0 (fun q => c q.1), fun c => ?_⟩
  rw [h3.2.2.2.2 c]
  exact fun _ => ⟨fun c2 => h0 (fun q => c2 q.2), fun c2 => h1 ⟨c, c2⟩⟩
/-- the word behind the first figure; the figures' bounds -/
def dW (s : Int) : Int := if s = 5 then W4 119 105 116 104 else 29807
def dH1 (s : Int) : Int := if s = 7 then 9 else if s = 8 then 99 else 15
def dH2 (s : Int) : Int := if s = 5 then 15 else 9
abbrev RSd : Type := (Int × Int) ⊕ (Int × Int × Int × Int)
def MSdone (b : Int → Int) (n s p : Int) (res : RSd) : Prop := ∀ (lim o w x : Int) (T : St), exS b n lim T p o w → (0 ≤ x ∧ x + 3 < 2800) →
  match res with
  | .inl (f, q) => ∃ T', frH T T' x ∧ fI T' 8 = q ∧ ∀ K : Int → St → Prop, K f T' → w_M_done x s T K
  | .inr (a, c, d, p') => p < p' ∧ ∃ T', exS b n lim T' p' o w ∧ frH T T' x ∧ aI T' 2 (x + 1) = a ∧ (s ≤ 6 → aI T' 2 (x + 2) = c) ∧ (s = 4 → aI T' 2 (x + 3) = d) ∧ ∀ K : Int → St → Prop, K 0 T' → w_M_done x s T K
theorem nuF_ne (b : Int → Int) (n p : Int) : nuF b n p ≠ 0 := by
  unfold nuF
  split <;> decide
/-- burn, pass -/
theorem done_34 {s x : Int} {T : St} {K : Int → St → Prop} (hs : s = 7 ∨ s = 8) (hx : 0 ≤ x ∧ x + 3 < 2800) (h : w_M_figure (x + 1) 0 (dH1 s) T (fun r S => InR r → K r S)) : w_M_done x s T K := by
  have e : j_M_done_34 x s T K := by
    unfold j_M_done_34
    unfold dH1 at h
    refine ⟨by omega, fun c => ?_, fun c => ?_⟩
    · rw [if_neg c, if_pos (by omega)] at h; exact h
    · rw [if_pos c] at h; exact h
  unfold w_M_done
  exact ⟨fun _ => ⟨fun _ => ⟨fun _ => e, fun _ => ⟨fun z => absurd hs (by omega), fun _ => e⟩⟩, fun z => absurd hs (by omega)⟩, fun z => absurd hs (by omega)⟩
theorem d1_ok {b : Int → Int} {n s p : Int} (hs : s = 7 ∨ s = 8) (h : nuP b n p 0 (dH1 s)) : MSdone b n s p (.inr (tm b n p, -1, -1, te b n p)) := by
  intro lim o w x T hi hx
  have tg := te_gt (b := b) (n := n) (p := p) hi.2.1.2 (by have := h.1; omega)
  obtain ⟨T2, u1, u2, u3, u4, u5⟩ := fig_ok (x := x) (y := x + 1) hi h (by omega)
  exact ⟨tg.1, T2, u1, u2, u3, fun z => absurd hs (by omega), fun z => absurd hs (by omega), fun K hK => done_34 hs hx (u5 _ (fun _ => hK))⟩
/-- swap, steal: the first figure, then the word -/
theorem done_56 {s x : Int} {T : St} {K : Int → St → Prop} (hs : s = 5 ∨ s = 6) (hx : 0 ≤ x ∧ x + 3 < 2800)
    (h : w_M_figure (x + 1) 0 15 T (fun r S => InR r → ((¬ r = 0 → j_M_done_103 x s r S K) ∧ (r = 0 → ((¬ s = 5 → w_M_isTo S (fun r25 => (r25 = 0 ∨ r25 = 1) → j_M_done_99 x s r25 S K)) ∧ (s = 5 → w_M_w4 119 105 116 104 (fun r27 => InL r27 → w_M_isWord r27 S (fun r29 => (r29 = 0 ∨ r29 = 1) → j_M_done_99 x s r29 S K)))))))) : w_M_done x s T K := by
  unfold w_M_done
  exact ⟨fun _ => ⟨fun _ => ⟨fun z => absurd hs (by omega), fun _ => ⟨fun _ => ⟨by omega, h⟩, fun z => absurd hs (by omega)⟩⟩, fun z => absurd hs (by omega)⟩, fun z => absurd hs (by omega)⟩
theorem d1_f {b : Int → Int} {n s p : Int} (hs : 4 ≤ s ∧ s ≤ 8) (h : ¬ nuP b n p 0 (dH1 s)) : MSdone b n s p (.inl (nuF b n p, tq b n p)) := by
  intro lim o w x T hi hx
  have nf := nuF_ne b n p
  refine ⟨T, frH.rf T x, hi.2.2.1.1, fun K hK => ?_⟩
  by_cases c : s = 7 ∨ s = 8
  · exact done_34 c hx (fig_f hi h (fun _ => hK))
  · have e15 : dH1 s = 15 := by unfold dH1; rw [if_neg (by omega), if_neg (by omega)]
    rw [e15] at h
    by_cases c4 : s = 4
    · subst c4
      unfold w_M_done w_M_lent
      refine ⟨fun _ => ⟨fun z => absurd rfl z, fun _ => ⟨by omega, fig_f hi h (fun _ => ⟨fun _ => ?_, fun z => absurd z nf⟩)⟩⟩, fun z => absurd z (by decide)⟩
      unfold j_M_lent_24 j_M_lent_39 j_M_lent_61
      exact ⟨fun _ => ⟨fun _ => ⟨fun z => absurd z nf, fun _ => fun _ => hK⟩, fun z => absurd z nf⟩, fun z => absurd z nf⟩
    · refine done_56 (by omega) hx (fig_f hi h (fun _ => ⟨fun _ => ?_, fun z => absurd z nf⟩))
      unfold j_M_done_103
      exact ⟨fun z => absurd z nf, fun _ => hK⟩
