/-! PURE: text(): ArrayList.add, boxes, of the component -/
/-- all but the cells of P, the room and new cells is as it was -/
def frW (S S' : St) (P : Nat → Prop) : Prop := (∀ k, k ≠ 200 → k ≠ 201 → fI S' k = fI S k) ∧ aI S' = aI S ∧ rI S' = rI S ∧ ∀ a e, ¬ P a → gI S a = some e → gI S' a = some e
theorem frW.refl (S : St) (P : Nat → Prop) : frW S S P := ⟨fun _ _ _ => rfl, rfl, rfl, fun _ _ _ h => h⟩
theorem frW.trans {S S1 S2 : St} {P Q : Nat → Prop} (h : frW S S1 P) (h' : frW S1 S2 Q) (hq : ∀ a, Q a → P a ∨ gI S a = none) : frW S S2 P :=
  ⟨fun k a c => (h'.1 k a c).trans (h.1 k a c), h'.2.1.trans h.2.1, h'.2.2.1.trans h.2.2.1, fun a e c q => h'.2.2.2 a e (fun z => by rcases hq a z with y | y; exact c y; rw [y] at q; cases q) (h.2.2.2 a e c q)⟩
theorem frW.tr {S S1 S2 : St} {P : Nat → Prop} (h : frW S S1 P) (h' : frW S1 S2 P) : frW S S2 P := h.trans h' (fun _ z => Or.inl z)
theorem frW.mono {S S' : St} {P Q : Nat → Prop} (h : frW S S' P) (hq : ∀ a, P a → Q a ∨ gI S a = none) : frW S S' Q :=
  ⟨h.1, h.2.1, h.2.2.1, fun a e c q => h.2.2.2 a e (fun z => by rcases hq a z with y | y; exact c y; rw [y] at q; cases q) q⟩
theorem frW.bs {S S1 : St} {P : Nat → Prop} {a b c d : Int} (h : frW (bset S a b) S1 P) : frW S (bset S1 c d) P := ⟨fun k k1 k2 => by rw [fI_bset k1 k2, h.1 k k1 k2, fI_bset k1 k2], h.2.1, h.2.2.1, h.2.2.2⟩
theorem frW.bl {S S1 : St} {P : Nat → Prop} {a b : Int} (h : frW (bset S a b) S1 P) : frW S S1 P := ⟨fun k k1 k2 => by rw [h.1 k k1 k2, fI_bset k1 k2], h.2.1, h.2.2.1, h.2.2.2⟩
theorem frW.br {S S1 : St} {P : Nat → Prop} {c d : Int} (h : frW S S1 P) : frW S (bset S1 c d) P := ⟨fun k k1 k2 => by rw [fI_bset k1 k2, h.1 k k1 k2], h.2.1, h.2.2.1, h.2.2.2⟩
theorem frW.new {S : St} {P : Nat → Prop} {q : Nat} {e : PE} (h : gI S q = none) : frW S (gset S q e) P :=
  ⟨fun _ _ _ => rfl, rfl, rfl, fun a f _ q1 => by rw [gI_gset_n (fun z => by rw [z, h] at q1; cases q1)]; exact q1⟩
theorem frW.old {S : St} {P : Nat → Prop} {q : Nat} {e : PE} (h : P q) : frW S (gset S q e) P :=
  ⟨fun _ _ _ => rfl, rfl, rfl, fun a f c q1 => by rw [gI_gset_n (fun z => c (by rw [z]; exact h))]; exact q1⟩
theorem isEl.fr {S S' : St} {P : Nat → Prop} {y : Nat} (h : isEl S y) (f : frW S S' P) (hp : ¬ P y) : isEl S' y := by
  obtain ⟨ci, fs, e, c⟩ := h
  exact ⟨ci, fs, f.2.2.2 _ _ hp e, c⟩
theorem isEl.n14 {S : St} {y l : Nat} {fs : List PV} (h : isEl S y) (e : gI S l = some (.inr (.inl (14, fs)))) : y ≠ l := by
  intro z
  obtain ⟨ci, gs, e1, c⟩ := h
  rw [z, e] at e1
  cases e1
  omega
theorem isEl.n8 {S : St} {y l : Nat} {a : Nat × Nat × (Int → Option Nat)} (h : isEl S y) (e : gI S l = some (.inr (.inr a))) : y ≠ l := by
  intro z
  obtain ⟨ci, gs, e1, c⟩ := h
  rw [z, e] at e1
  cases e1
theorem isEl.nn {S : St} {y l : Nat} (h : isEl S y) (e : gI S l = none) : y ≠ l := by
  intro z
  obtain ⟨ci, gs, e1, c⟩ := h
  rw [z, e] at e1
  cases e1
theorem x_copyOf {S : St} {v : Nat} {n : Nat} {pf : Int → Option Nat} {m : Int} {K : Option Nat → St → Prop} (h : gI S v = some (.inr (.inr (8, n, pf)))) (hm : (n : Int) < m ∧ m ≤ 450) (hel : ∀ i : Int, 0 ≤ i → i < n → ∀ y, pf i = some y → isEl S y) (hB : 1 ≤ fI S 200 ∧ m ≤ fI S 201)
    (hK : ∀ (q : Nat) (pf' : Int → Option Nat) (S' : St), gI S q = none → (∀ i : Int, 0 ≤ i → i < n → pf' i = pf i) → frW S S' (fun _ => False) → gI S' q = some (.inr (.inr (8, m.toNat, pf'))) → K (some q) S') : w_J14_copyOf v m S K := by
  refine ⟨n, pf, h, 1, m, ⟨⟨by omega, hB.1⟩, by omega, hB.2⟩, ⟨by omega, by omega⟩, by rw [bset_200, bset_201]; exact ⟨Int.le_refl _, Int.le_refl _⟩, fun q S2 hq e2 => ?_⟩
  subst e2
  have hq' : gI S q = none := hq
  have hv : v ≠ q := fun z => by rw [z, hq'] at h; cases h
  have g1 : gI (bset (gset (bset S 1 m) q (.inr (.inr (8, m.toNat, fun _ => none)))) (fI (bset S 1 m) 200 - 1) (fI (bset S 1 m) 201 - m)) v = some (.inr (.inr (8, n, pf))) := by
    rw [gI_bset, gI_gset_n hv]; exact h
  have g2 : gI (bset (gset (bset S 1 m) q (.inr (.inr (8, m.toNat, fun _ => none)))) (fI (bset S 1 m) 200 - 1) (fI (bset S 1 m) 201 - m)) q = some (.inr (.inr (8, m.toNat, fun _ => none))) := by
    rw [gI_bset, gI_gset_s]
  have f1 : frW S (bset (gset (bset S 1 m) q (.inr (.inr (8, m.toNat, fun _ => none)))) (fI (bset S 1 m) 200 - 1) (fI (bset S 1 m) 201 - m)) (fun _ => False) := frW.bs (frW.new hq)
  generalize hX : bset (gset (bset S 1 m) q (.inr (.inr (8, m.toNat, fun _ => none)))) (fI (bset S 1 m) 200 - 1) (fI (bset S 1 m) 201 - m) = X at g1 g2 f1 ⊢
  have hmin : min (n : Int) m = n := by omega
  refine ⟨n, pf, g1, fun _ => ⟨n, pf, m.toNat, _, g1, g2, by rw [hmin]; omega, fun i i0 i1 y hy => (hel i i0 (by omega) y hy).fr f1 id, fun S3 e3 S4 e4 => ⟨q, rfl, ?_⟩⟩⟩
  subst e3
  subst e4
  rw [hmin]
  refine hK q (fun x => if 0 ≤ x ∧ x < (n : Int) then pf x else none) _ hq' (fun i i0 i1 => if_pos ⟨i0, i1⟩) (frW.br (f1.trans (Q := fun a => a = q) (frW.old rfl) (fun a z => Or.inr (by rw [z]; exact hq')))) ?_
  rw [gI_bset, gI_gset_s]
theorem x_grow {S : St} {l ed pn : Nat} {md : Int} {pf : Int → Option Nat} {K : Option Nat → St → Prop} (h1 : gI S l = some (.inr (.inl (14, [.inl md, .inr (.inr (some ed)), .inl (pn : Int)])))) (h2 : gI S ed = some (.inr (.inr (8, pn, pf)))) (hp : pn ≤ 300) (hz : pn = 0 → rI S 500 0 = some ed)
    (hel : ∀ i : Int, 0 ≤ i → i < pn → ∀ y, pf i = some y → isEl S y) (hB : 1 ≤ fI S 200 ∧ 450 ≤ fI S 201)
    (hK : ∀ (q pn' : Nat) (pf' : Int → Option Nat) (S' : St), gI S q = none → (pn < pn' ∧ pn' ≤ 450) → (∀ i : Int, 0 ≤ i → i < pn → pf' i = pf i) → frW S S' (fun a => a = l) → gI S' l = some (.inr (.inl (14, [.inl md, .inr (.inr (some q)), .inl (pn : Int)]))) → gI S' q = some (.inr (.inr (8, pn', pf'))) → K (some q) S') : w_J2_grow l S K := by
  refine ⟨_, _, h1, rfl, fun _ => ⟨by constructor <;> omega, ⟨_, h1⟩, 1, 450, ⟨⟨by omega, hB.1⟩, by omega, hB.2⟩, ?_⟩⟩
  refine ⟨_, ed, h1, rfl, pn, pf, h2, fun _ v30 hv _ => ⟨fun c => ?_, fun c => ?_⟩⟩
  · subst hv
    have e2 : (2 : Int) ^ (Int.toNat 1) = 2 := by decide
    unfold j_J2_grow_2_20
    rw [e2]
    have hd : 0 ≤ (pn : Int) / 2 ∧ (pn : Int) / 2 ≤ 150 ∧ (pn : Int) / 2 * 2 ≤ pn := by omega
    have hm : max ((pn : Int) + 1 - pn) ((pn : Int) / 2) = max 1 ((pn : Int) / 2) := by congr 1; omega
    refine ⟨by constructor <;> omega, ?_⟩
    unfold w_J13_newLength
    rw [hm]
    generalize hM : max 1 ((pn : Int) / 2) = M
    have hMb : 1 ≤ M ∧ M ≤ 150 := by omega
    refine ⟨by constructor <;> omega, fun v3 e3 _ => ⟨fun z => by omega, fun _ => ⟨fun z => by omega, fun _ _ => ?_⟩⟩⟩
    refine ⟨_, ed, h1, rfl, 1, 450, ⟨⟨by omega, by rw [bset_200]; omega⟩, by omega, by rw [bset_201]; omega⟩, x_copyOf (n := pn) (pf := pf) h2 (by omega) hel (by rw [bset_200, bset_201]; omega) (fun q pf' S1 hq hpf f1 g1 S2 e4 => ⟨q, rfl, ?_⟩)⟩
    subst e4
    have hq' : gI S q = none := hq
    have f2 : frW S (bset S1 (fI (bset S 1 450) 200 - 1) (fI (bset S 1 450) 201 - 450)) (fun _ => False) := frW.br (frW.bl (frW.bl f1))
    have gl : gI (bset S1 (fI (bset S 1 450) 200 - 1) (fI (bset S 1 450) 201 - 450)) l = some (.inr (.inl (14, [.inl md, .inr (.inr (some ed)), .inl (pn : Int)]))) := f2.2.2.2 _ _ id h1
    have gq : gI (bset S1 (fI (bset S 1 450) 200 - 1) (fI (bset S 1 450) 201 - 450)) q = some (.inr (.inr (8, v3.toNat, pf'))) := g1
    have hlq : q ≠ l := fun z => by rw [z, h1] at hq'; cases hq'
    refine ⟨_, gl, rfl, fun S3 e5 S4 e6 => ⟨q, rfl, ?_⟩⟩
    subst e5
    subst e6
    refine hK q v3.toNat pf' _ hq' (by omega) hpf (frW.br (frW.tr (frW.mono f2 (fun _ z => z.elim)) (frW.old rfl))) ?_ ?_
    · rw [gI_bset, gI_gset_s]; rfl
    · rw [gI_bset, gI_gset_n hlq]; exact gq
  · have e0 : pn = 0 := by omega
    subst e0
    refine ⟨_, ed, h1, rfl, fun q36 hq36 _ => ⟨fun _ => ?_, fun z => absurd (Option.some.inj ((hz rfl).symm.trans hq36)) z⟩⟩
    have e10 : max 10 ((((0 : Nat) : Int)) + 1) = 10 := by decide
    rw [e10]
    refine ⟨⟨by omega, by omega⟩, ⟨by rw [bset_200, bset_201]; omega, fun q S1 hq e1 => ?_⟩⟩
    subst e1
    have hq' : gI S q = none := hq
    have hlq : l ≠ q := fun z => by rw [← z, h1] at hq'; cases hq'
    refine ⟨_, by rw [gI_bset, gI_gset_n hlq]; exact h1, rfl, fun S2 e2 S3 e3 => ⟨q, rfl, ?_⟩⟩
    subst e2
    subst e3
    refine hK q 10 (fun _ => none) _ hq' (by omega) (fun i i0 i1 => by omega) (frW.br (frW.tr (frW.bs (frW.new hq)) (frW.old rfl))) ?_ ?_
    · rw [gI_bset, gI_gset_s]; rfl
    · rw [gI_bset, gI_gset_n hlq.symm, gI_bset, gI_gset_s]; rfl
/-- the empty array -/
def eC (S : St) : Prop := ∃ e0 : Nat, rI S 500 0 = some e0 ∧ gI S e0 = some (.inr (.inr (8, 0, fun _ => none)))
theorem eC.fr {S S' : St} {P : Nat → Prop} (h : eC S) (f : frW S S' P) (hP : ∀ a, P a → rI S 500 0 ≠ some a) : eC S' := by
  obtain ⟨e0, h1, h2⟩ := h
  exact ⟨e0, by rw [f.2.2.1]; exact h1, f.2.2.2 _ _ (fun z => hP _ z h1) h2⟩
/-- a list under construction -/
def liX (S : St) (l : Nat) (sz : Int) (ed : Nat) (el : Int → Nat) : Prop := eC S ∧ ∃ (pn : Nat) (pf : Int → Option Nat), gI S l = some (.inr (.inl (14, [.inl sz, .inr (.inr (some ed)), .inl sz]))) ∧ gI S ed = some (.inr (.inr (8, pn, pf))) ∧ (0 ≤ sz ∧ sz ≤ pn ∧ pn ≤ 450) ∧ (pn = 0 → rI S 500 0 = some ed) ∧ ∀ i, 0 ≤ i → i < sz → pf i = some (el i) ∧ isEl S (el i)
theorem liX.bs {S : St} {l ed : Nat} {sz c d : Int} {el : Int → Nat} (h : liX S l sz ed el) : liX (bset S c d) l sz ed el := h
theorem liX.fr {S S' : St} {l ed : Nat} {sz : Int} {el : Int → Nat} {P : Nat → Prop} (h : liX S l sz ed el) (f : frW S S' P) (hl : ¬ P l) (he : ¬ P ed) (hel : ∀ y, P y → ¬ isEl S y ∧ rI S 500 0 ≠ some y) : liX S' l sz ed el := by
  obtain ⟨h0, pn, pf, h1, h2, h3, h4, h5⟩ := h
  exact ⟨h0.fr f (fun a z => (hel a z).2), pn, pf, f.2.2.2 _ _ hl h1, f.2.2.2 _ _ he h2, h3, fun z => by rw [f.2.2.1]; exact h4 z, fun i i0 i1 => ⟨(h5 i i0 i1).1, (h5 i i0 i1).2.fr f (fun z => (hel _ z).1 (h5 i i0 i1).2)⟩⟩
/-- the end of add: there is room -/
theorem x_add1 {S : St} {l ed pn y : Nat} {md sz : Int} {pf : Int → Option Nat} {K : St → Prop} (h1 : gI S l = some (.inr (.inl (14, [.inl md, .inr (.inr (some ed)), .inl sz])))) (h2 : gI S ed = some (.inr (.inr (8, pn, pf)))) (hs : 0 ≤ sz ∧ sz < pn ∧ sz < 300) (hy : isEl S y)
    (hK : ∀ S', frW S S' (fun a => a = l ∨ a = ed) → gI S' l = some (.inr (.inl (14, [.inl md, .inr (.inr (some ed)), .inl (sz + 1)]))) → gI S' ed = some (.inr (.inr (8, pn, fun z => if z = sz then some y else pf z))) → K S') : j_J2_add_2_11 l y ed sz S K := by
  have hle : l ≠ ed := fun z => by rw [z, h2] at h1; cases h1
  refine ⟨pn, pf, h2, ⟨hs.1, hs.2.1⟩, hy, fun S1 e1 => ⟨by constructor <;> omega, ?_⟩⟩
  subst e1
  refine ⟨_, by rw [gI_gset_n hle]; exact h1, rfl, fun S2 e2 => ?_⟩
  subst e2
  refine hK _ (frW.tr (frW.old (Or.inr rfl)) (frW.old (Or.inl rfl))) ?_ ?_
  · rw [gI_gset_s]; rfl
  · rw [gI_gset_n hle.symm, gI_gset_s]
theorem x_add {S : St} {l ed y : Nat} {sz : Int} {el : Int → Nat} {K : Int → St → Prop} (h : liX S l sz ed el) (hy : isEl S y) (hs : sz < 300) (hB : 1 ≤ fI S 200 ∧ 450 ≤ fI S 201)
    (hK : ∀ (S' : St) (ed' : Nat), (ed' = ed ∧ rI S 500 0 ≠ some ed ∨ gI S ed' = none) → frW S S' (fun a => a = l ∨ (a = ed ∧ rI S 500 0 ≠ some ed)) → gI S' ed ≠ none → liX S' l (sz + 1) ed' (fun i => if i = sz then y else el i) → K 1 S') : w_J2_add l y S K := by
  obtain ⟨h0, pn, pf, h1, h2, h3, h4, h5⟩ := h
  obtain ⟨e0, h01, h02⟩ := h0
  refine ⟨_, sz, h1, rfl, fun _ => ⟨by constructor <;> omega, ⟨_, h1, rfl, fun S1 e1 => ?_⟩⟩⟩
  have hle : l ≠ ed := fun z => by rw [z, h2] at h1; cases h1
  have hl0 : l ≠ e0 := fun z => by rw [z, h02] at h1; cases h1
  have g1 : gI S1 l = some (.inr (.inl (14, [.inl (sz + 1), .inr (.inr (some ed)), .inl sz]))) := by rw [e1, gI_gset_s]; rfl
  have g2 : gI S1 ed = some (.inr (.inr (8, pn, pf))) := by rw [e1, gI_gset_n hle.symm]; exact h2
  have f1 : frW S S1 (fun a => a = l) := by rw [e1]; exact frW.old rfl
  have hB1 : fI S1 200 = fI S 200 ∧ fI S1 201 = fI S 201 := by rw [e1]; exact ⟨rfl, rfl⟩
  have hy1 : isEl S1 y := hy.fr f1 (fun z => hy.n14 h1 z)
  have hr1 : rI S1 500 0 = some e0 := by rw [f1.2.2.1]; exact h01
  clear e1
  refine ⟨_, ed, g1, rfl, _, sz, g1, rfl, fun _ => ⟨⟨_, g1⟩, 1, 450, ⟨⟨by omega, by omega⟩, by omega, by omega⟩, pn, pf, g2, fun _ => ⟨fun c => ?_, fun c => ⟨⟨_, g1⟩, 1, 450, ⟨⟨by omega, by rw [bset_200]; omega⟩, by omega, by rw [bset_201]; omega⟩, ?_⟩⟩⟩⟩
  · have hne : rI S 500 0 ≠ some ed := fun z => by
      have : e0 = ed := Option.some.inj (h01.symm.trans z)
      rw [← this, h02] at h2
      have hz : 0 = pn := by injection h2 with h2; injection h2 with h2; injection h2 with h2; injection h2 with _ h2; injection h2
      omega
    refine x_add1 (S := bset S1 1 450) (pn := pn) (pf := pf) g1 g2 (by omega) hy1 (fun S2 f2 k1 k2 S3 e3 => ?_)
    subst e3
    have f3 : frW S (bset S2 (fI S1 200 - 1) (fI S1 201 - 450)) (fun a => a = l ∨ (a = ed ∧ rI S 500 0 ≠ some ed)) :=
      frW.tr (f1.mono (fun a z => Or.inl (Or.inl z))) (frW.bs (f2.mono (fun a z => Or.inl (z.imp id (fun w => ⟨w, hne⟩)))))
    refine hK _ ed (Or.inl ⟨rfl, hne⟩) f3 (fun z => by have k2' := k2; rw [show gI S2 = gI (bset S2 (fI S1 200 - 1) (fI S1 201 - 450)) from rfl, z] at k2'; cases k2') ⟨eC.fr ⟨e0, h01, h02⟩ f3 (fun a z y1 => ?_), pn, _, k1, k2, by omega, fun z => by omega, fun i i0 i1 => ?_⟩
    · have : e0 = a := Option.some.inj (h01.symm.trans y1)
      rcases z with z | z
      · exact hl0 (by rw [this, z])
      · rw [z.1] at this; rw [this] at h01; exact hne h01
    · by_cases ci : i = sz
      · dsimp only
        rw [if_pos ci, if_pos ci]
        refine ⟨rfl, ?_⟩
        exact hy.fr f3 (fun z => by rcases z with z | z; exact hy.n14 h1 z; exact hy.n8 h2 z.1)
      · dsimp only
        rw [if_neg ci, if_neg ci]
        refine ⟨(h5 i i0 (by omega)).1, ?_⟩
        have hi := (h5 i i0 (by omega)).2
        exact hi.fr f3 (fun z => by rcases z with z | z; exact hi.n14 h1 z; exact hi.n8 h2 z.1)
  · subst c
    refine x_grow (S := bset (bset S1 1 450) 1 450) (pn := pn) (pf := pf) g1 g2 (by omega) (fun z => by have := h4 z; rw [rI_bset, rI_bset, f1.2.2.1]; exact this) (fun i i0 i1 z hz => ?_) (by rw [bset_200, bset_201]; omega) (fun q pn' pf' S2 hq hp' hpf f2 k1 k2 S3 e3 => ⟨q, rfl, ?_⟩)
    · have hi := h5 i i0 i1
      rw [hi.1] at hz
      cases hz
      exact hi.2.fr (frW.br (frW.br f1)) (fun z => hi.2.n14 h1 z)
    subst e3
    have hq1 : gI S1 q = none := hq
    have hqS : gI S q = none := by
      cases hg : gI S q with
      | none => rfl
      | some e =>
        by_cases cl : q = l
        · rw [cl, g1] at hq1; cases hq1
        · rw [f1.2.2.2 _ _ cl hg] at hq1; cases hq1
    have f2' : frW S (bset S2 (fI (bset S1 1 450) 200 - 1) (fI (bset S1 1 450) 201 - 450)) (fun a => a = l) := frW.tr f1 (frW.br (frW.bl (frW.bl f2)))
    have hy2 : isEl (bset S2 (fI (bset S1 1 450) 200 - 1) (fI (bset S1 1 450) 201 - 450)) y := hy.fr f2' (fun z => hy.n14 h1 z)
    refine x_add1 (pn := pn') (pf := pf') k1 k2 (by omega) hy2 (fun S4 f4 k3 k4 S5 e5 => ?_)
    subst e5
    have f5 : frW S (bset S4 (fI S1 200 - 1) (fI S1 201 - 450)) (fun a => a = l ∨ (a = ed ∧ rI S 500 0 ≠ some ed)) :=
      frW.trans (f2'.mono (fun a z => Or.inl (Or.inl z))) (frW.br f4) (fun a z => by rcases z with z | z; exact Or.inl (Or.inl z); exact Or.inr (by rw [z]; exact hqS))
    have f6 : frW S (bset S4 (fI S1 200 - 1) (fI S1 201 - 450)) (fun a => a = l) := frW.trans f2' (frW.br f4) (fun a z => by rcases z with z | z; exact Or.inl z; exact Or.inr (by rw [z]; exact hqS))
    refine hK _ q (Or.inr hqS) f5 (fun z => by have := f6.2.2.2 _ _ (fun z => hle z.symm) h2; rw [z] at this; cases this) ⟨eC.fr ⟨e0, h01, h02⟩ f6 (fun a z y1 => ?_), pn', _, k3, k4, by omega, fun z => by omega, fun i i0 i1 => ?_⟩
    · have : e0 = a := Option.some.inj (h01.symm.trans y1)
      exact hl0 (by rw [this, z])
    · by_cases ci : i = (pn : Int)
      · dsimp only
        rw [if_pos ci, if_pos ci]
        refine ⟨rfl, ?_⟩
        exact hy.fr f6 (fun z => hy.n14 h1 z)
      · dsimp only
        rw [if_neg ci, if_neg ci, hpf i i0 (by omega)]
        refine ⟨(h5 i i0 (by omega)).1, ?_⟩
        have hi := (h5 i i0 (by omega)).2
        exact hi.fr f6 (fun z => hi.n14 h1 z)
