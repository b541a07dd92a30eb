/-! PURE: text(): a chain is made, a member is added -/
theorem x_li_init {S : St} {q : Nat} {K : St → Prop} (h : gI S q = some (.inr (.inl (14, [.inl 0, .inr (.inr none), .inl 0])))) (hB : 0 ≤ fI S 200 ∧ 0 ≤ fI S 201)
    (hK : ∀ (e0 : Nat) (S' : St), rI S 500 0 = some e0 → gI S e0 = some (.inr (.inr (8, 0, fun _ => none))) → frW S S' (fun a => a = q) → gI S' q = some (.inr (.inl (14, [.inl 0, .inr (.inr (some e0)), .inl 0]))) → K S') : w_J2_init q S K := by
  refine ⟨0, 0, ⟨⟨Int.le_refl _, hB.1⟩, Int.le_refl _, hB.2⟩, 0, 0, ⟨⟨Int.le_refl _, by rw [bset_200]; exact Int.le_refl _⟩, Int.le_refl _, by rw [bset_201]; exact Int.le_refl _⟩, fun S1 e1 => ⟨[.inl 0, .inr (.inr none), .inl 0], by rw [e1]; exact h, rfl, fun S2 e2 S3 e3 e0 hr he => ?_⟩⟩
  have f1 : frW S S1 (fun _ => False) := by rw [e1]; exact frW.br (frW.br (frW.br (frW.refl _ _)))
  have f2 : frW S S3 (fun a => a = q) := by rw [e3, e2]; exact frW.br (frW.tr (f1.mono (fun _ z => z.elim)) (frW.old rfl))
  have hr' : rI S 500 0 = some e0 := by rw [← f2.2.2.1]; exact hr
  have g3 : gI S3 q = some (.inr (.inl (14, [.inl 0, .inr (.inr none), .inl 0]))) := by rw [e3, gI_bset, e2, gI_gset_s]; rfl
  have hq : e0 ≠ q := fun z => by rw [z, g3] at he; cases he
  have he' : gI S e0 = some (.inr (.inr (8, 0, fun _ => none))) := by
    rw [e3, gI_bset, e2, gI_gset_n hq, e1] at he
    exact he
  refine ⟨_, g3, rfl, fun S4 e4 => hK e0 S4 hr' he' (by rw [e4]; exact frW.tr f2 (frW.old rfl)) (by rw [e4, gI_gset_s]; rfl)⟩
theorem gNw.liv {S0 S : St} {g : Nat → Option PE} (h : gNw S g) (hl : liv S0 S) : gNw S0 g := fun a y e => (h a y e).imp (hl a) id
theorem extP.fr {S S' : St} {g : Nat → Option PE} {P : Nat → Prop} (h : extP g (gI S)) (f : frW S S' P) (hp : ∀ a, P a → g a = none) : extP g (gI S') := fun a y e => f.2.2.2 _ _ (fun z => by rw [hp a z] at e; cases e) (h a y e)
theorem gNw.no {S : St} {g : Nat → Option PE} {a : Nat} {y : PE} {S' : St} (h : gNw S g) (hS : gI S a ≠ none) (hg : extP g (gI S')) (e : gI S' a = some y) (hy : ∀ fs : List PV, y ≠ .inr (.inl (15, fs))) : g a = none := by
  cases hc : g a with
  | none => rfl
  | some z =>
    have e1 := hg _ _ hc
    rw [e] at e1
    cases e1
    rcases h a _ hc with c | ⟨fs, c⟩
    · exact absurd c hS
    · exact absurd c (hy fs)
theorem ne_some {S : St} {a : Nat} {y : PE} (h : gI S a = some y) : gI S a ≠ none := fun z => by rw [h] at z; cases z
theorem x_c_init {S0 Si S : St} {q e D : Nat} {lim : Int} {φ : (Int → Int) → Int} {fs : List PV} {K : St → Prop} (hq : gI S q = some (.inr (.inl (6, fs)))) (hfs : fs.length = 3) (hq0 : gI S0 q = none) (hl : liv S0 S) (hR : xR Si S D lim e φ) (hli : liv S0 Si) (hqi : gI Si q ≠ none) (hcS : eC S) (hci : ∀ a, rI S 500 0 = some a → gI Si a ≠ none) (ok : okF lim φ) (hB : 2 ≤ fI S 200 ∧ 6 ≤ fI S 201)
    (hK : ∀ S', frW S S' (fun a => a = q) → CH S0 S' D lim q 0 φ → K S') : w_X6_init q e S K := by
  obtain ⟨g, r1, r2, r3, r4⟩ := hR
  refine ⟨⟨by omega, by omega⟩, fun m S1 hm e1 => ?_⟩
  have hqm : q ≠ m := fun z => by rw [← z, hq] at hm; cases hm
  have g1 : gI S1 m = some (.inr (.inl (14, [.inl 0, .inr (.inr none), .inl 0]))) := by rw [e1, gI_bset, gI_gset_s]
  have f1 : frW S S1 (fun a => a = q) := by rw [e1]; exact frW.br (frW.new hm)
  have q1 : gI S1 q = some (.inr (.inl (6, fs))) := by rw [e1, gI_bset, gI_gset_n hqm]; exact hq
  have b1 : fI S1 200 = fI S 200 - 1 ∧ fI S1 201 = fI S 201 - 3 := by rw [e1, bset_200, bset_201]; exact ⟨rfl, rfl⟩
  clear e1
  refine ⟨0, 0, ⟨⟨by omega, by omega⟩, by omega, by omega⟩, x_li_init (S := bset S1 0 0) g1 (by rw [bset_200, bset_201]; omega) (fun e0 S2 c1 c2 f2 g2 S3 e3 => ?_)⟩
  have f3 : frW S S3 (fun a => a = q) := by rw [e3]; exact frW.trans f1 (frW.bs f2) (fun a z => Or.inr (by rw [z]; exact hm))
  have q3 : gI S3 q = some (.inr (.inl (6, fs))) := by rw [e3]; exact f2.2.2.2 _ _ hqm q1
  have m3 : gI S3 m = some (.inr (.inl (14, [.inl 0, .inr (.inr (some e0)), .inl 0]))) := by rw [e3]; exact g2
  have b3 : fI S3 200 = fI S 200 - 1 ∧ fI S3 201 = fI S 201 - 3 := by rw [e3, bset_200, bset_201]; omega
  have hme : e0 ≠ m := fun z => by rw [z] at c2; have := c2.symm.trans g1; cases this
  have c3 : gI S3 e0 = some (.inr (.inr (8, 0, fun _ => none))) := by rw [e3]; exact f2.2.2.2 _ _ hme c2
  have r3' : rI S3 500 0 = some e0 := by rw [e3, rI_bset, f2.2.2.1]; exact c1
  clear e3
  refine ⟨_, q3, hfs, fun S4 e4 => ?_⟩
  have q4 : gI S4 q = some (.inr (.inl (6, fs.set 1 (.inr (.inr (some m)))))) := by rw [e4, gI_gset_s]
  have f4' : frW S3 S4 (fun a => a = q) := by rw [e4]; exact frW.old rfl
  have b4 : fI S4 200 = fI S 200 - 1 ∧ fI S4 201 = fI S 201 - 3 := by rw [e4]; exact b3
  have m4 := f4'.2.2.2 _ _ hqm.symm m3
  have c4 := f4'.2.2.2 _ _ (fun z => by rw [z, q3] at c3; cases c3) c3
  have f4 := frW.tr f3 f4'
  clear e4
  refine ⟨⟨by omega, by omega⟩, fun s S5 hs e5 => ?_⟩
  have hqs : q ≠ s := fun z => by rw [← z, q4] at hs; cases hs
  have hms : m ≠ s := fun z => by rw [← z, m4] at hs; cases hs
  have hes : e0 ≠ s := fun z => by rw [← z, c4] at hs; cases hs
  have g5 : gI S5 s = some (.inr (.inl (14, [.inl 0, .inr (.inr none), .inl 0]))) := by rw [e5, gI_bset, gI_gset_s]
  have f5' : frW S4 S5 (fun a => a = q) := by rw [e5]; exact frW.br (frW.new hs)
  have q5 : gI S5 q = some (.inr (.inl (6, fs.set 1 (.inr (.inr (some m)))))) := by rw [e5, gI_bset, gI_gset_n hqs]; exact q4
  have b5 : fI S5 200 = fI S 200 - 2 ∧ fI S5 201 = fI S 201 - 6 := by rw [e5, bset_200, bset_201]; omega
  have m5 := f5'.2.2.2 _ _ hqm.symm m4
  have c5 := f5'.2.2.2 _ _ (fun z => by rw [z, q4] at c4; cases c4) c4
  clear e5
  refine ⟨0, 0, ⟨⟨by omega, by omega⟩, by omega, by omega⟩, x_li_init (S := bset S5 0 0) g5 (by rw [bset_200, bset_201]; omega) (fun e1 S6 k1 k2 f6 g6 S7 e7 => ?_)⟩
  have ee : e1 = e0 := by
    have k1' : rI S5 500 0 = some e1 := k1
    rw [f5'.2.2.1, f4'.2.2.1, r3'] at k1'
    exact (Option.some.inj k1').symm
  subst ee
  have f7' : frW S5 S7 (fun a => a = s) := by rw [e7]; exact frW.bs f6
  have q7 := f7'.2.2.2 _ _ hqs q5
  have m7 := f7'.2.2.2 _ _ hms m5
  have c7 := f7'.2.2.2 _ _ hes c5
  have s7 : gI S7 s = some (.inr (.inl (14, [.inl 0, .inr (.inr (some e1)), .inl 0]))) := by rw [e7]; exact g6
  have f7 : frW S S7 (fun a => a = q) := frW.trans (frW.tr f4 f5') f7' (fun a z => by
    rw [z]
    right
    cases hg : gI S s with
    | none => rfl
    | some y => rw [f4.2.2.2 _ _ hqs.symm hg] at hs; cases hs)
  have hs0 : gI S s = none := by
    cases hg : gI S s with
    | none => rfl
    | some y => rw [f4.2.2.2 _ _ hqs.symm hg] at hs; cases hs
  clear e7
  refine ⟨_, q7, by rw [List.length_set]; exact hfs, fun S8 e8 => ?_⟩
  have q8 : gI S8 q = some (.inr (.inl (6, (fs.set 1 (.inr (.inr (some m)))).set 2 (.inr (.inr (some s)))))) := by rw [e8, gI_gset_s]
  refine ⟨_, q8, by rw [List.length_set, List.length_set]; exact hfs, fun S9 e9 => ?_⟩
  have f9' : frW S7 S9 (fun a => a = q) := by rw [e9, e8]; exact frW.tr (frW.old rfl) (frW.old rfl)
  have q9 : gI S9 q = some (.inr (.inl (6, [.inr (.inr (some e)), .inr (.inr (some m)), .inr (.inr (some s))]))) := by
    rw [e9, gI_gset_s]
    match fs, hfs with
    | [_, _, _], _ => rfl
  have f9 := frW.tr f7 f9'
  have m9 := f9'.2.2.2 _ _ hqm.symm m7
  have s9 := f9'.2.2.2 _ _ hqs.symm s7
  have c9 := f9'.2.2.2 _ _ (fun z => by rw [z, q7] at c7; cases c7) c7
  have r9 : rI S9 500 0 = some e1 := by rw [f9.2.2.1, ← f1.2.2.1]; exact c1
  have gq : g q = none := r2.no hqi r1 hq (fun gs z => by cases z)
  have gm : g m = none := by
    cases hc : g m with
    | none => rfl
    | some z => rw [r1 _ _ hc] at hm; cases hm
  have gs : g s = none := by
    cases hc : g s with
    | none => rfl
    | some z => rw [r1 _ _ hc] at hs0; cases hs0
  have rS : rI S 500 0 = some e1 := by rw [← f9.2.2.1]; exact r9
  have cS : gI S e1 = some (.inr (.inr (8, 0, fun _ => none))) := by
    obtain ⟨e2, z1, z2⟩ := hcS
    rw [rS] at z1
    cases z1
    exact z2
  have ge : g e1 = none := r2.no (hci e1 rS) r1 cS (fun gs z => by cases z)
  have li : ∀ l, gI S9 l = some (.inr (.inl (14, [.inl 0, .inr (.inr (some e1)), .inl 0]))) → liX S9 l 0 e1 (fun _ => 0) := fun l hlz => ⟨⟨e1, r9, c9⟩, 0, _, hlz, c9, by omega, fun _ => r9, fun i i0 i1 => by omega⟩
  refine hK S9 f9 ⟨e, m, s, e1, e1, fun _ => 0, fun _ => 0, g, fun _ => φ, fun _ => φ, fun _ => 0, ⟨q9, li m m9, li s s9⟩, ⟨hms, fun _ => r9⟩, ⟨hq0, hl _ hm, hl _ hs0, fun z => absurd r9 z, fun z => absurd r9 z⟩, ⟨r1.fr f9 (fun a z => by rw [z]; exact gq), r2.liv hli, gq, gm, gs, ge, ge⟩, ⟨r3, ok, r4⟩, fun i i0 i1 => by omega, fun i i0 i1 => by omega, rfl⟩
theorem liX.c {S : St} {l ed : Nat} {sz : Int} {el : Int → Nat} (h : liX S l sz ed el) : (∃ fs : List PV, gI S l = some (.inr (.inl (14, fs)))) ∧ ∃ a : Nat × Nat × (Int → Option Nat), gI S ed = some (.inr (.inr a)) := by
  obtain ⟨-, pn, pf, h1, h2, -⟩ := h
  exact ⟨⟨_, h1⟩, _, h2⟩
theorem x_valueOf {S : St} {t : Int} {K : Option Nat → St → Prop} (ht : 0 ≤ t ∧ t ≤ 100) (hK : ∀ q : Nat, gI S q = some (.inr (.inl (15, [.inl t]))) → K (some q) S) : w_J12_valueOf t S K := by
  refine ⟨fun z => by omega, fun _ => ⟨fun z => by omega, fun _ => ⟨by constructor <;> omega, by omega, fun q hq => hK q ?_⟩⟩⟩
  rw [hq, show t + 128 - 128 = t by omega]
theorem x_c_add {S0 Si S : St} {q e D x0 : Nat} {lim k t : Int} {φ χ : (Int → Int) → Int} {fs0 fs1 : List PV} {K : St → Prop} (hC : CH S0 Si D lim q k φ) (f : frW Si S (fun a => a = x0)) (h0 : gI S0 x0 = some (.inr (.inl (3, fs0)))) (hx : gI Si x0 = some (.inr (.inl (3, fs1)))) (hl : liv S0 Si) (hl2 : liv Si S)
    (hR : xR Si S D lim e χ) (ok : okF lim χ) (ht : isOp t) (hk : 0 ≤ k ∧ k < 300) (hB : 2 ≤ fI S 200 ∧ 900 ≤ fI S 201)
    (hK : ∀ S', frW S S' (fun a => gI S0 a = none) → CH S0 S' D lim q (k + 1) (fun v => binV (opk t) (φ v) (χ v)) → K S') : w_X6_add q t e S K := by
  obtain ⟨e0, m, s, edm, eds, elm, els, g1, Φ, χs, tok, ⟨i1, i2, i3⟩, ⟨i4, i5⟩, ⟨j1, j2, j3, j4, j5⟩, ⟨k1, k2, k3, k4, k5, k6, k7⟩, ⟨l1, l2, l3⟩, l4, l5, l6⟩ := hC
  obtain ⟨g2, r1, r2, r3, r4⟩ := hR
  have up : ∀ {l sz ed el}, liX Si l sz ed el → liX S l sz ed el := fun {l sz ed el} z => z.fr f (fun y => by
      obtain ⟨-, pn, pf, z1, -⟩ := z; rw [y, hx] at z1; cases z1) (fun y => by
      obtain ⟨-, pn, pf, -, z1, -⟩ := z; rw [y, hx] at z1; cases z1) (frW.el3 hx z.1)
  have q1 : gI S q = _ := f.2.2.2 _ _ (fun y => by rw [y, hx] at i1; cases i1) i1
  have m1 := up i2
  have s1 := up i3
  have rr : rI S = rI Si := f.2.2.1
  have g1x : g1 x0 = none := by
    cases hc : g1 x0 with
    | none => rfl
    | some y =>
      have e1 := k1 _ _ hc
      rw [hx] at e1
      rcases k2 _ _ hc with z | ⟨gs, z⟩
      · rw [h0] at z; cases z
      · rw [z] at e1; cases e1
  have k1S : extP g1 (gI S) := k1.fr f (fun a z => by rw [z]; exact g1x)
  obtain ⟨⟨mfs, m14⟩, ⟨ma, m8⟩⟩ := m1.c
  obtain ⟨⟨sfs, s14⟩, ⟨sa, s8⟩⟩ := s1.c
  have q2 : g2 q = none := r2.no (ne_some i1) r1 q1 (fun gs z => by cases z)
  have m2 : g2 m = none := r2.no (by obtain ⟨⟨_, z⟩, -⟩ := i2.c; exact ne_some z) r1 m14 (fun gs z => by injection z with z; injection z with z; injection z with z _; cases z)
  have s2 : g2 s = none := r2.no (by obtain ⟨⟨_, z⟩, -⟩ := i3.c; exact ne_some z) r1 s14 (fun gs z => by injection z with z; injection z with z; injection z with z _; cases z)
  have em2 : g2 edm = none := r2.no (by obtain ⟨-, ⟨_, z⟩⟩ := i2.c; exact ne_some z) r1 m8 (fun gs z => by injection z with z; cases z)
  have es2 : g2 eds = none := r2.no (by obtain ⟨-, ⟨_, z⟩⟩ := i3.c; exact ne_some z) r1 s8 (fun gs z => by injection z with z; cases z)
  have htb : 0 ≤ t ∧ t ≤ 100 := by unfold isOp at ht; omega
  refine ⟨_, s, q1, rfl, 0, 0, ⟨⟨by omega, by omega⟩, by omega, by omega⟩, x_valueOf htb (fun bx hbx S1 e1 => ⟨bx, rfl, ?_⟩)⟩
  have hb : gI S bx = some (.inr (.inl (15, [.inl t]))) := hbx
  have g1S : gI S1 = gI S := by rw [e1]; rfl
  have f1 : frW S S1 (fun _ => False) := by rw [e1]; exact frW.br (frW.br (frW.refl _ _))
  have b1 : fI S1 200 = fI S 200 ∧ fI S1 201 = fI S 201 := by rw [e1, bset_200, bset_201]; omega
  have s1' : liX S1 s k eds els := by rw [e1]; exact s1
  have m1' : liX S1 m k edm elm := by rw [e1]; exact m1
  clear e1
  refine ⟨⟨sfs, by rw [g1S]; exact s14⟩, 1, 450, ⟨⟨by omega, by omega⟩, by omega, by omega⟩, x_add (S := bset S1 1 450) s1' ⟨15, [.inl t], by rw [gI_bset, g1S]; exact hb, Or.inr rfl⟩ hk.2 (by rw [bset_200, bset_201]; omega) (fun S2 eds' c2 f2 nz2 li2 _ S3 e3 => ?_)⟩
  have rS1 : rI S1 = rI S := f1.2.2.1
  have f3' : frW S1 S3 (fun a => a = s ∨ (a = eds ∧ rI S 500 0 ≠ some eds)) := by rw [e3, ← rS1]; exact frW.bs f2
  have b3 : fI S3 200 = fI S 200 - 1 ∧ fI S3 201 = fI S 201 - 450 := by rw [e3, bset_200, bset_201]; omega
  have nz3 : gI S3 eds ≠ none := by rw [e3]; exact nz2
  have s3 : liX S3 s (k + 1) eds' (fun i => if i = k then bx else els i) := by rw [e3]; exact li2
  clear e3
  have c2' : (eds' = eds ∧ rI S 500 0 ≠ some eds) ∨ gI S eds' = none := by
    rcases c2 with z | z
    · exact Or.inl ⟨z.1, by rw [← rS1]; exact z.2⟩
    · exact Or.inr (by rw [← g1S]; exact z)
  have hne : ∀ a y, (a = s ∨ (a = eds ∧ rI S 500 0 ≠ some eds)) → isEl S1 y → a ≠ y := fun a y z w v => by
    rcases z with z | z
    · exact w.n14 (by rw [g1S]; exact s14) (by rw [← v, z])
    · exact w.n8 (by rw [g1S]; exact s8) (by rw [← v, z.1])
  have m3 : liX S3 m k edm elm := m1'.fr f3' (fun z => by
      rcases z with z | z
      · exact i4 z
      · rw [z.1, s8] at m14; cases m14) (fun z => by
      rcases z with z | z
      · rw [z, s14] at m8; cases m8
      · exact z.2 (by rw [← z.1, rr]; exact i5 z.1)) (fun y z => ⟨fun w => hne y y z w rfl, fun w => by
      rw [rS1] at w
      rcases z with z | z
      · obtain ⟨e9, z1, z2⟩ := m1.1
        rw [w] at z1
        cases z1
        rw [z, s14] at z2
        cases z2
      · exact z.2 (by rw [← z.1]; exact w)⟩)
  have q3 : gI S3 q = _ := f3'.2.2.2 _ _ (fun z => by
      rcases z with z | z
      · rw [z, s14] at q1; cases q1
      · rw [z.1, s8] at q1; cases q1) (by rw [g1S]; exact q1)
  have r3S : rI S3 = rI S := f3'.2.2.1.trans rS1
  -- the union
  have hgU : ∃ g : Nat → Option PE, extP g (gI S) ∧ extP g1 g ∧ extP g2 g ∧ g bx = some (.inr (.inl (15, [.inl t]))) ∧ gNw S0 g ∧ ∀ a, g1 a = none → g2 a = none → a ≠ bx → g a = none := by
    refine ⟨fun a => if (g1 a).isSome = true ∨ (g2 a).isSome = true ∨ a = bx then gI S a else none, fun a y e => ?_, fun a y e => ?_, fun a y e => ?_, ?_, fun a y e => ?_, fun a z1 z2 z3 => ?_⟩
    · dsimp only at e
      split at e
      · exact e
      · cases e
    · dsimp only
      rw [if_pos (Or.inl (by rw [e]; rfl))]
      exact k1S _ _ e
    · dsimp only
      rw [if_pos (Or.inr (Or.inl (by rw [e]; rfl)))]
      exact r1 _ _ e
    · dsimp only
      rw [if_pos (Or.inr (Or.inr rfl))]
      exact hb
    · dsimp only at e
      split at e
      · rename_i hc
        rcases hc with hc | hc | hc
        · cases hz : g1 a with
          | none => rw [hz] at hc; cases hc
          | some y1 =>
            have := k1S _ _ hz
            rw [e] at this
            cases this
            exact k2 _ _ hz
        · cases hz : g2 a with
          | none => rw [hz] at hc; cases hc
          | some y1 =>
            have := r1 _ _ hz
            rw [e] at this
            cases this
            exact (r2.liv hl) _ _ hz
        · rw [hc, hb] at e
          cases e
          exact Or.inr ⟨_, rfl⟩
      · cases e
    · dsimp only
      rw [if_neg]
      rintro (z | z | z)
      · rw [z1] at z; cases z
      · rw [z2] at z; cases z
      · exact z3 z
  obtain ⟨gU, u1, u2, u3, u4, u5, u6⟩ := hgU
  have bne : ∀ {a : Nat} {y : PE}, gI S a = some y → (∀ gs : List PV, y ≠ .inr (.inl (15, gs))) → a ≠ bx := fun {a y} z w v => by
    rw [v, hb] at z
    cases z
    exact w _ rfl
  have uq : gU q = none := u6 q k3 q2 (bne q1 (fun gs z => by cases z))
  have um : gU m = none := u6 m k4 m2 (bne m14 (fun gs z => by injection z with z; injection z with z; injection z with z _; cases z))
  have us : gU s = none := u6 s k5 s2 (bne s14 (fun gs z => by injection z with z; injection z with z; injection z with z _; cases z))
  have uem : gU edm = none := u6 edm k6 em2 (bne m8 (fun gs z => by injection z with z; cases z))
  have ues : gU eds = none := u6 eds k7 es2 (bne s8 (fun gs z => by injection z with z; cases z))
  have u1' : extP gU (gI S1) := by rw [g1S]; exact u1
  have u3' : extP gU (gI S3) := u1'.fr f3' (fun a z => by rcases z with z | z; rw [z]; exact us; rw [z.1]; exact ues)
  have hel : isEl S3 e := (r3.ext u3).El u3'
  refine ⟨_, m, q3, rfl, m3.c.1, 1, 450, ⟨⟨by omega, by omega⟩, by omega, by omega⟩, x_add (S := bset S3 1 450) m3 hel hk.2 (by rw [bset_200, bset_201]; omega) (fun S4 edm' c4 f4 _ li4 _ S5 e5 => ?_)⟩
  have f5' : frW S3 S5 (fun a => a = m ∨ (a = edm ∧ rI S 500 0 ≠ some edm)) := by rw [e5, ← r3S]; exact frW.bs f4
  have m5 : liX S5 m (k + 1) edm' (fun i => if i = k then e else elm i) := by rw [e5]; exact li4
  clear e5
  have c4' : (edm' = edm ∧ rI S 500 0 ≠ some edm) ∨ gI S3 edm' = none := by
    rcases c4 with z | z
    · exact Or.inl ⟨z.1, by rw [← r3S]; exact z.2⟩
    · exact Or.inr z
  obtain ⟨⟨m3fs, m3l⟩, ⟨m3a, m38⟩⟩ := m3.c
  obtain ⟨⟨s3fs, s3l⟩, ⟨s3a, s38⟩⟩ := s3.c
  have hee : edm' = eds' → False := fun z => by
    rcases c4' with c | c
    · rcases c2' with d | d
      · exact d.2 (by have : edm = eds := by rw [← c.1, ← d.1]; exact z
                      rw [← this, rr]; exact i5 this)
      · rw [← z, c.1, m8] at d; cases d
    · rw [z, s38] at c; cases c
  have s5 : liX S5 s (k + 1) eds' (fun i => if i = k then bx else els i) := s3.fr f5' (fun z => by
      rcases z with z | z
      · exact i4 z.symm
      · rw [z.1, m8] at s14; cases s14) (fun z => by
      rcases z with z | z
      · rw [z, m3l] at s38; cases s38
      · rcases c2' with d | d
        · exact z.2 (by have : edm = eds := by rw [← z.1]; exact d.1
                        rw [rr]; exact i5 this)
        · rw [z.1, m8] at d; cases d) (fun y z => ⟨fun w => by
      rcases z with z | z
      · exact w.n14 m3l z
      · exact w.n8 m38 z.1, fun w => by
      rw [r3S] at w
      rcases z with z | z
      · obtain ⟨e9, z1, z2⟩ := m1.1
        rw [w] at z1
        cases z1
        rw [z, m14] at z2
        cases z2
      · exact z.2 (by rw [← z.1]; exact w)⟩)
  have q5 : gI S5 q = _ := f5'.2.2.2 _ _ (fun z => by
      rcases z with z | z
      · rw [z, m14] at q1; cases q1
      · rw [z.1, m8] at q1; cases q1) q3
  have r5S : rI S5 = rI S := f5'.2.2.1.trans r3S
  have u5' : extP gU (gI S5) := u3'.fr f5' (fun a z => by rcases z with z | z; rw [z]; exact um; rw [z.1]; exact uem)
  have lv : liv S0 S := hl.trans hl2
  have new3 : ∀ a, gI S3 a = none → gI S a = none := fun a z => by
    cases hg : gI S a with
    | none => rfl
    | some y =>
      by_cases c : a = s ∨ (a = eds ∧ rI S 500 0 ≠ some eds)
      · rcases c with c | c
        · rw [c, s3l] at z; cases z
        · rw [c.1] at z; exact absurd z nz3
      · rw [f3'.2.2.2 _ _ c (by rw [g1S]; exact hg)] at z; cases z
  have fS : frW S S5 (fun a => gI S0 a = none) := by
    have fa : frW S S3 (fun a => gI S0 a = none) := frW.trans (f1.mono (fun _ z => z.elim)) f3' (fun a z => by
      rcases z with z | z
      · left; show gI S0 a = none; rw [z]; exact j3
      · left; show gI S0 a = none; rw [z.1]; exact j5 (by rw [← rr]; exact z.2))
    exact frW.trans fa f5' (fun a z => by
      rcases z with z | z
      · left; show gI S0 a = none; rw [z]; exact j2
      · left; show gI S0 a = none; rw [z.1]; exact j4 (by rw [← rr]; exact z.2))
  have ned : gU eds' = none := by
    rcases c2' with d | d
    · rw [d.1]; exact ues
    · cases hc : gU eds' with
      | none => rfl
      | some y => rw [u1 _ _ hc] at d; cases d
  have nem : gU edm' = none := by
    rcases c4' with d | d
    · rw [d.1]; exact uem
    · cases hc : gU edm' with
      | none => rfl
      | some y => rw [u3' _ _ hc] at d; cases d
  refine hK S5 fS ⟨e0, m, s, edm', eds', _, _, gU, fun i => if i = k + 1 then (fun v => binV (opk t) (φ v) (χ v)) else Φ i, fun i => if i = k then χ else χs i, fun i => if i = k then t else tok i, ⟨q5, m5, s5⟩, ⟨i4, fun z => (hee z).elim⟩, ⟨j1, j2, j3, fun z => ?_, fun z => ?_⟩, ⟨u5', u5, uq, um, us, nem, ned⟩, ⟨l1.ext u2, ?_, fun d hd => ?_⟩, fun i i0 i1 => ?_, fun i i0 i1 => ?_, ?_⟩
  · rcases c4' with d | d
    · rw [d.1]; exact j4 (by rw [← rr]; exact d.2)
    · exact lv _ (new3 _ d)
  · rcases c2' with d | d
    · rw [d.1]; exact j5 (by rw [← rr]; exact d.2)
    · exact lv _ d
  · dsimp only
    rw [if_neg (by omega)]
    exact l2
  · dsimp only
    rw [if_neg (by omega)]
    exact (l3 d hd).ext u2
  · dsimp only
    by_cases ci : i = k
    · rw [if_pos ci, if_pos ci, if_pos ci, if_pos ci]
      exact ⟨⟨r3.ext u3, ok, fun d hd => (r4 d hd).ext u3⟩, ht, _, u4, rfl⟩
    · rw [if_neg ci, if_neg ci, if_neg ci, if_neg ci]
      obtain ⟨⟨z1, z2, z3⟩, z4, gs, z5, z6⟩ := l4 i i0 (by omega)
      exact ⟨⟨z1.ext u2, z2, fun d hd => (z3 d hd).ext u2⟩, z4, gs, u2 _ _ z5, z6⟩
  · dsimp only
    by_cases ci : i = k
    · subst ci
      rw [if_pos rfl, if_pos rfl, if_pos rfl, if_neg (show ¬ (i = i + 1) by omega), l6]
    · rw [if_neg (show ¬ (i + 1 = k + 1) by omega), if_neg ci, if_neg ci, if_neg (show ¬ (i = k + 1) by omega)]
      exact l5 i i0 (by omega)
  · dsimp only
    rw [if_pos rfl]
