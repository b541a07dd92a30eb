/-! PURE: text(): a clause, component -/
section CLX
variable {S0 S S' : St} {q m l ed x0 : Nat} {cf nd : Int} {fw fh fu : Option Nat} {pm : Int → Int} {el : Int → Nat} {g : Nat → Option PE}
theorem x_t_addB {y : Nat} {vs : List PV} {G : St → Prop} (h : TC S0 S q cf fw fh fu m l ed pm nd el g) (hy : gI S y = some (.inr (.inl (13, vs)))) (y0 : gI S0 y = none) (hl : liv S0 S) (hn : nd < 300) (hB : 1 ≤ fI S 200 ∧ 450 ≤ fI S 201)
    (hG : ∀ (S' : St) (ed' : Nat) (g' : Nat → Option PE), frW S S' (fun a => gI S0 a = none) → (fI S' 200 = fI S 200 - 1 ∧ fI S' 201 = fI S 201 - 450) → extP g g' → g' y = some (.inr (.inl (13, vs))) → TC S0 S' q cf fw fh fu m l ed' pm (nd + 1) (fun i => if i = nd then y else el i) g' → G S') :
    ∃ u v : Int, ((0 ≤ u ∧ u ≤ fI S 200) ∧ 0 ≤ v ∧ v ≤ fI S 201) ∧ w_J2_add l y (bset S u v) (fun r S1 => (r = 0 ∨ r = 1) → ∀ S2 : St, S2 = bset S1 (fI S 200 - u) (fI S 201 - v) → G S2) := by
  obtain ⟨n1, n2, n3, n4, n5, n6⟩ := h.ne
  obtain ⟨⟨_, h3⟩, ⟨_, h4⟩⟩ := h.hl.c
  have hE : isEl S y := ⟨13, vs, hy, Or.inl ⟨by omega, by omega⟩⟩
  refine ⟨1, 450, ⟨⟨by omega, hB.1⟩, by omega, hB.2⟩, x_add (S := bset S 1 450) h.hl hE hn (by rw [bset_200, bset_201]; omega) (fun S1 ed' c1 f1 nz1 li1 _ S2 e2 => ?_)⟩
  have f2 : frW S S2 (fun a => a = l ∨ (a = ed ∧ rI S 500 0 ≠ some ed)) := by rw [e2]; exact frW.bs f1
  have li2 : liX S2 l (nd + 1) ed' (fun i => if i = nd then y else el i) := by rw [e2]; exact li1
  have b2 : fI S2 200 = fI S 200 - 1 ∧ fI S2 201 = fI S 201 - 450 := by rw [e2, bset_200, bset_201]; exact ⟨rfl, rfl⟩
  have c2 : (ed' = ed ∧ rI S 500 0 ≠ some ed) ∨ gI S ed' = none := c1
  clear e2
  have hr : rI S2 = rI S := f2.2.2.1
  have yq : y ≠ q := fun z => by have := h.hq; rw [← z, hy] at this; cases this
  have ym : y ≠ m := fun z => by have := h.hm; rw [← z, hy] at this; cases this
  have yl : y ≠ l := fun z => by rw [← z, hy] at h3; cases h3
  have ye : y ≠ ed := fun z => by rw [← z, hy] at h4; cases h4
  have hg1 : extP g (gI S2) := h.x.fr f2 (fun a z => by rcases z with z | z; rw [z]; exact h.gl; rw [z.1]; exact h.ge)
  have hy2 : gI S2 y = some (.inr (.inl (13, vs))) := f2.2.2.2 _ _ (fun z => by rcases z with z | z; exact yl z; exact ye z.1) hy
  have he' : ed' ≠ y := fun z => by
    rcases c2 with d | d
    · exact ye (by rw [← d.1, z])
    · rw [z, hy] at d; cases d
  have ge' : g ed' = none := by
    rcases c2 with d | d
    · rw [d.1]; exact h.ge
    · cases hc : g ed' with
      | none => rfl
      | some w => rw [h.x _ _ hc] at d; cases d
  refine hG S2 ed' (fun a => if a = y then some (.inr (.inl (13, vs))) else g a) (f2.mono (fun a z => Or.inl ?_)) b2 (fun a w z => ?_) (if_pos rfl) ⟨f2.2.2.2 _ _ (fun z => ?_) h.hq, f2.2.2.2 _ _ (fun z => ?_) h.hm, li2, h.q0, h.m0, h.l0, fun z => ?_, fun a w z => ?_, fun a w z => ?_, ?_, ?_, ?_, ?_⟩
  · rcases z with z | z
    · show gI S0 a = none; rw [z]; exact h.l0
    · show gI S0 a = none; rw [z.1]; exact h.e0 z.2
  · dsimp only
    by_cases ay : a = y
    · have := h.x _ _ z
      rw [ay, hy] at this
      rw [if_pos ay]
      exact this
    · rw [if_neg ay]; exact z
  · rcases z with z | z
    · exact n2 z
    · exact n3 z.1
  · rcases z with z | z
    · exact n4 z
    · exact n5 z.1
  · rcases c2 with d | d
    · rw [d.1]; exact h.e0 d.2
    · exact hl _ d
  · dsimp only at z
    by_cases ay : a = y
    · rw [if_pos ay] at z; rw [ay, hy2]; exact z
    · rw [if_neg ay] at z; exact hg1 _ _ z
  · dsimp only at z
    by_cases ay : a = y
    · rw [ay]; exact Or.inl y0
    · rw [if_neg ay] at z; exact h.nw _ _ z
  · dsimp only; rw [if_neg yq.symm]; exact h.gq
  · dsimp only; rw [if_neg ym.symm]; exact h.gm
  · dsimp only; rw [if_neg yl.symm]; exact h.gl
  · dsimp only; rw [if_neg he']; exact ge'
variable {b : Int → Int} {n p : Int} {K : Option Nat → St → Prop}
theorem clx_sumF {f pl : Int} (h : XS 2 0 40 b n 5 200 p 0 (.inl (f, pl))) (hx : xtk S x0 b n p 0 200) (he : eC S) (hB : 40 * (n - p) + 40 ≤ fI S 200 ∧ 2000 * (n - p) + 200 ≤ fI S 201) (hK : ∀ q' S', frX S S' x0 → eW S' q' f pl → K (some q') S') : w_X3_clause x0 q S K := by
  have hx' := hx
  obtain ⟨hp, tp, num, y1, y2, y3⟩ := hx'
  exact ⟨_, _, y2, rfl, fun _ => ⟨fun _ => ⟨hx.o, ask_sumB h hx he (by omega) (by omega) hK⟩, fun z => by omega, fun z => by omega, fun z => by omega, fun z => by omega⟩⟩
theorem clx_sum {φ : (Int → Int) → Int} {p' : Int} {fs0 : List PV} (h : XS 2 0 40 b n 5 200 p 0 (.inr (φ, p'))) (hx : xtk S x0 b n p 0 200) (hT : TC S0 S q cf fw fh fu m l ed pm nd el g) (hf : frX S0 S x0) (h0 : gI S0 x0 = some (.inr (.inl (3, fs0)))) (hB : 40 * (p' - p) ≤ fI S 200 ∧ 2000 * (p' - p) ≤ fI S 201)
    (hK : ∀ e S' g', frX S0 S' x0 → (fI S' 200 = fI S 200 - 40 * (p' - p) ∧ fI S' 201 = fI S 201 - 2000 * (p' - p)) → xtk S' x0 b n p' 0 200 → TC S0 S' q cf (some e) fh fu m l ed pm nd el g' → extP g g' → (∀ d, dpt 0 2 ≤ d → xSum g' d 5 e φ) → K none S') : w_X3_clause x0 q S K := by
  have hx' := hx
  obtain ⟨hp, tp, num, y1, y2, y3⟩ := hx'
  refine ⟨_, _, y2, rfl, fun _ => ⟨fun _ => ⟨hx.o, ask_sumO h hx hT.hl.1 (by omega) (by omega) (fun e S1 f1 b1 t1 r1 e1 => ?_)⟩, fun z => by omega, fun z => by omega, fun z => by omega, fun z => by omega⟩⟩
  have hT1 := hT.fr f1.W h0 y2
  refine ⟨_, hT1.hq, rfl, fun S2 e2 => ?_⟩
  obtain ⟨g2, r1, r2, r3, r4⟩ := r1
  obtain ⟨g', u1, u2, hT2⟩ := hT.join hT1 (hf.W.liv hx.ne) r1 r2
  have hT3 := hT2.set (S' := S2) (cf' := cf) (fw' := some e) (fh' := fh) (fu' := fu) e2
  have f2 : frW S1 S2 (fun a => a = q) := by rw [e2]; exact frW.old rfl
  have qx : q ≠ x0 := fun z => by have := hT.q0; rw [z, h0] at this; cases this
  exact hK e S2 g' (frW.trans (hf.trans f1).W f2 (fun a z => Or.inr (by rw [z]; exact hT.q0))).X (by rw [e2]; exact b1) (t1.frW f2 (fun z => qx z.symm)) hT3 u1 (fun d hd => (r4 d hd).ext u2)
theorem clx_eiF {s lim f pl : Int} (hs : (s = 1 ∧ lim = 5) ∨ (s = 2 ∧ lim = 8)) (h : XSei b n lim (s + 200) p 0 (.inl (f, pl))) (hx : xtk S x0 b n p 0 (s + 200)) (he : eC S) (hB : 40 * (n - p) + 70 ≤ fI S 200 ∧ 2000 * (n - p) + 400 ≤ fI S 201) (hK : ∀ q' S', frX S S' x0 → eW S' q' f pl → K (some q') S') : w_X3_clause x0 q S K := by
  have hx' := hx
  obtain ⟨hp, tp, num, y1, y2, y3⟩ := hx'
  exact ⟨_, _, y2, rfl, fun _ => ⟨fun z => by omega, fun _ => ⟨hx.o, YS.fB h hx he (by omega) (by omega) hK⟩, fun _ => ⟨hx.o, YS.fB h hx he (by omega) (by omega) hK⟩, fun z => by omega, fun z => by omega⟩⟩
theorem clx_ei {s lim : Int} {ψ : (Int → Int) → Int} {p' : Int} {fs0 : List PV} (hs : (s = 1 ∧ lim = 5) ∨ (s = 2 ∧ lim = 8)) (h : XSei b n lim (s + 200) p 0 (.inr (ψ, p'))) (hx : xtk S x0 b n p 0 (s + 200)) (hT : TC S0 S q cf fw fh fu m l ed pm nd el g) (hf : frX S0 S x0) (h0 : gI S0 x0 = some (.inr (.inl (3, fs0)))) (hB : 40 * (p' - p) - 20 ≤ fI S 200 ∧ 2000 * (p' - p) - 500 ≤ fI S 201)
    (hK : ∀ e S' g', frX S0 S' x0 → (fI S' 200 = fI S 200 - (40 * (p' - p) - 20) ∧ fI S' 201 = fI S 201 - (2000 * (p' - p) - 500)) → xtk S' x0 b n p' 0 (s + 200) → TC S0 S' q cf fw (if s = 1 then some e else fh) (if s = 1 then fu else some e) m l ed pm nd el g' → extP g g' → (∀ d, dA 0 + 2 ≤ d → xAsk g' d lim e ψ) → K none S') : w_X3_clause x0 q S K := by
  have hx' := hx
  obtain ⟨hp, tp, num, y1, y2, y3⟩ := hx'
  have core : ∀ (e : Nat) (S1 S2 : St), frX S S1 x0 → (fI S1 200 = fI S 200 - (40 * (p' - p) - 20) ∧ fI S1 201 = fI S 201 - (2000 * (p' - p) - 500)) → xtk S1 x0 b n p' 0 (s + 200) → yR S S1 (dA 0 + 2) lim e ψ → S2 = gset S1 q (.inr (.inl (4, [.inr (.inr fw), .inr (.inr (if s = 1 then some e else fh)), .inr (.inr (if s = 1 then fu else some e)), .inr (.inr (some m)), .inr (.inr (some l)), .inl cf]))) → K none S2 := by
    intro e S1 S2 f1 b1 t1 r1 e2
    have hT1 := hT.fr f1.W h0 y2
    obtain ⟨g2, r1, r2, r3, r4⟩ := r1
    obtain ⟨g', u1, u2, hT2⟩ := hT.join hT1 (hf.W.liv hx.ne) r1 r2
    have hT3 := hT2.set (S' := S2) (cf' := cf) (fw' := fw) (fh' := if s = 1 then some e else fh) (fu' := if s = 1 then fu else some e) e2
    have f2 : frW S1 S2 (fun a => a = q) := by rw [e2]; exact frW.old rfl
    have qx : q ≠ x0 := fun z => by have := hT.q0; rw [z, h0] at this; cases this
    exact hK e S2 g' (frW.trans (hf.trans f1).W f2 (fun a z => Or.inr (by rw [z]; exact hT.q0))).X (by rw [e2]; exact b1) (t1.frW f2 (fun z => qx z.symm)) hT3 u1 (fun d hd => (r4 d hd).ext u2)
  refine ⟨_, _, y2, rfl, fun _ => ⟨fun z => by omega, fun z => ⟨hx.o, YS.okB h hx hT.hl.1 (by omega) (by omega) (fun e S1 f1 b1 t1 r1 e1 => ?_)⟩, fun z => ⟨hx.o, YS.okB h hx hT.hl.1 (by omega) (by omega) (fun e S1 f1 b1 t1 r1 e1 => ?_)⟩, fun z => by omega, fun z => by omega⟩⟩
  · have s1 : s = 1 := by omega
    refine ⟨_, (hT.fr f1.W h0 y2).hq, rfl, fun S2 e2 => core e S1 S2 f1 b1 t1 r1 ?_⟩
    rw [if_pos s1, if_pos s1]; exact e2
  · have s1 : ¬ s = 1 := by omega
    refine ⟨_, (hT.fr f1.W h0 y2).hq, rfl, fun S2 e2 => core e S1 S2 f1 b1 t1 r1 ?_⟩
    rw [if_neg s1, if_neg s1]; exact e2
theorem clx_kd_in (hx : xtk S x0 b n p 0 203) (hT : TC S0 S q cf fw fh fu m l ed pm nd el g) (hB : 10 ≤ fI S 200 ∧ 100 ≤ fI S 201)
    (hX : nuP b n p 0 19 → 0 < pm (tm b n p) → ∀ q' S', frX S S' x0 → eW S' q' 4 (tq b n p) → K (some q') S') (hG : ¬ (nuP b n p 0 19 ∧ 0 < pm (tm b n p)) → j_X3_kind_37 x0 q (bset S 10 100) (fun (e57 : Option Nat) (S55 : St) => ∀ S56 : St, S56 = bset S55 (fI S 200 - 10) (fI S 201 - 100) → ((∀ q : Nat, e57 = some q → K (some q) S56) ∧ (e57 = none → K none S56)))) : w_X3_clause x0 q S K := by
  have hx' := hx
  obtain ⟨hp, tp, num, y1, y2, y3⟩ := hx'
  refine ⟨_, _, y2, rfl, fun _ => ⟨fun z => by omega, fun z => by omega, fun z => by omega, fun _ => ⟨hx.o, 10, 100, ⟨⟨by omega, by omega⟩, by omega, by omega⟩, ?_⟩, fun z => by omega⟩⟩
  refine xkd_in (S := bset S 10 100) hx.bs hT.hq rfl hT.hm (by rw [bset_200, bset_201]; omega) (fun z => tm_nn z) (fun h1 h2 q' S1 f1 w1 S2 e2 => ?_) hG
  subst e2
  exact ⟨(fun q2 z => by cases z; exact hX h1 h2 q' _ f1.bs w1), fun z => by cases z⟩
theorem clx_kdF {f pl : Int} (h : XSkd b n p (.inl (f, pl))) (hn : ¬ (nuP b n p 0 19 ∧ 0 < pm (tm b n p))) (hx : xtk S x0 b n p 0 203) (hT : TC S0 S q cf fw fh fu m l ed pm nd el g) (hB : 10 ≤ fI S 200 ∧ 100 ≤ fI S 201) (hK : ∀ q' S', frX S S' x0 → eW S' q' f pl → K (some q') S') : w_X3_clause x0 q S K := by
  refine clx_kd_in hx hT hB (fun h1 h2 => absurd ⟨h1, h2⟩ hn) (fun _ => h (bset S 10 100) x0 q m 0 203 _ pm _ hx.bs hT.hq rfl hT.hm (by rw [bset_200, bset_201]; omega) (fun q' S1 f1 w1 S2 e2 => ?_))
  subst e2
  exact ⟨(fun q2 z => by cases z; exact hK q' _ f1.bs w1), fun z => by cases z⟩
theorem clx_kd {a v r p' : Int} {fs0 : List PV} (h : XSkd b n p (.inr (a, v, r, p'))) (hn : ¬ (nuP b n p 0 19 ∧ 0 < pm (tm b n p))) (hx : xtk S x0 b n p 0 203) (hT : TC S0 S q cf fw fh fu m l ed pm nd el g) (hf : frX S0 S x0) (h0 : gI S0 x0 = some (.inr (.inl (3, fs0)))) (hB : 10 ≤ fI S 200 ∧ 100 ≤ fI S 201)
    (hK : ∀ S', frX S0 S' x0 → (fI S' 200 = fI S 200 - 10 ∧ fI S' 201 = fI S 201 - 100) → xtk S' x0 b n p' 0 203 → TC S0 S' q cf fw fh fu m l ed (fun y => if y = a then v else pm y) nd el g → K none S') : w_X3_clause x0 q S K := by
  refine clx_kd_in hx hT hB (fun h1 h2 => absurd ⟨h1, h2⟩ hn) (fun _ => h.2 (bset S 10 100) x0 q m 0 203 _ pm _ hx.bs hT.hq rfl hT.hm (by rw [bset_200, bset_201]; omega) (fun S1 f1 t1 g1 S2 e2 => ?_))
  obtain ⟨fs, hxo⟩ := hx.o
  have f2 : frW S S2 (fun a => a = x0 ∨ a = m) := by rw [e2]; exact frW.bs f1
  have b2 : fI S2 200 = fI S 200 - 10 ∧ fI S2 201 = fI S 201 - 100 := by rw [e2, bset_200, bset_201]; exact ⟨rfl, rfl⟩
  have t2 : xtk S2 x0 b n p' 0 203 := by rw [e2]; exact t1.bs
  have g2 : gI S2 m = some (.inl (0, 20, fun y => if y = a then v else pm y)) := by rw [e2]; exact g1
  exact ⟨(fun q2 z => by cases z), fun _ => hK S2 (frW.trans hf.W f2 (fun a z => z.imp id (fun z => by rw [z]; exact hT.m0))).X b2 t2 (hT.many f2 h0 hxo g2)⟩
theorem clx_dnF {s f pl : Int} (hs : 4 ≤ s ∧ s ≤ 8) (h : XSdone b n s p (.inl (f, pl))) (hx : xtk S x0 b n p 0 (s + 200)) (hT : TC S0 S q cf fw fh fu m l ed pm nd el g) (hB : 10 ≤ fI S 200 ∧ 100 ≤ fI S 201) (hK : ∀ q' S', frX S S' x0 → eW S' q' f pl → K (some q') S') : w_X3_clause x0 q S K := by
  have hx' := hx
  obtain ⟨hp, tp, num, y1, y2, y3⟩ := hx'
  refine ⟨_, _, y2, rfl, fun _ => ⟨fun z => by omega, fun z => by omega, fun z => by omega, fun z => by omega, fun _ => ⟨_, l, hT.hq, rfl, _, cf, hT.hq, rfl, fun _ => ⟨hx.o, 10, 100, ⟨⟨by omega, by omega⟩, by omega, by omega⟩, h (bset S 10 100) x0 cf 0 _ hx.bs (by rw [bset_200, bset_201]; omega) (fun q' S1 f1 w1 S2 e2 => ?_)⟩⟩⟩⟩
  subst e2
  exact ⟨(fun q2 z => by cases z; exact hK q' _ f1.bs w1), fun z => by cases z⟩
theorem clx_dn {s a v r p' : Int} {fs0 : List PV} (hs : 4 ≤ s ∧ s ≤ 8) (h : XSdone b n s p (.inr (a, v, r, p'))) (hx : xtk S x0 b n p 0 (s + 200)) (hT : TC S0 S q cf fw fh fu m l ed pm nd el g) (hf : frX S0 S x0) (h0 : gI S0 x0 = some (.inr (.inl (3, fs0)))) (hn : nd < 300) (hB : 11 ≤ fI S 200 ∧ 550 ≤ fI S 201)
    (hK : ∀ y S' ed' g', frX S0 S' x0 → (fI S' 200 = fI S 200 - 11 ∧ fI S' 201 = fI S 201 - 550) → xtk S' x0 b n p' 0 (s + 200) → extP g g' → g' y = some (.inr (.inl (13, [.inl (s + 200), .inl a, .inl v, .inl r, .inl cf]))) → TC S0 S' q cf fw fh fu m l ed' pm (nd + 1) (fun i => if i = nd then y else el i) g' → K none S') : w_X3_clause x0 q S K := by
  have hx' := hx
  obtain ⟨hp, tp, num, y1, y2, y3⟩ := hx'
  refine ⟨_, _, y2, rfl, fun _ => ⟨fun z => by omega, fun z => by omega, fun z => by omega, fun z => by omega, fun _ => ⟨_, l, hT.hq, rfl, _, cf, hT.hq, rfl, fun _ => ⟨hx.o, 10, 100, ⟨⟨by omega, by omega⟩, by omega, by omega⟩, h.2 (bset S 10 100) x0 cf 0 _ hx.bs (by rw [bset_200, bset_201]; omega) (fun y S1 f1 hy0 t1 g1 S2 e2 => ?_)⟩⟩⟩⟩
  have f2 : frX S S2 x0 := by rw [e2]; exact f1.bs
  have b2 : fI S2 200 = fI S 200 - 10 ∧ fI S2 201 = fI S 201 - 100 := by rw [e2, bset_200, bset_201]; exact ⟨rfl, rfl⟩
  have t2 : xtk S2 x0 b n p' 0 (s + 200) := by rw [e2]; exact t1.bs
  have g2 : gI S2 y = some (.inr (.inl (13, [.inl (s + 200), .inl a, .inl v, .inl r, .inl cf]))) := by rw [e2]; exact g1
  have hyS : gI S y = none := hy0
  have T2 := hT.fr f2.W h0 y2
  refine ⟨(fun q2 z => by cases z), fun _ => ⟨y, rfl, T2.hl.c.1, x_t_addB T2 g2 ((hf.W.liv hx.ne) _ hyS) ((hf.trans f2).W.liv t2.ne) hn (by omega) (fun S3 ed' g' f3 b3 x3 y3' T3 => ?_)⟩⟩
  exact hK y S3 ed' g' (frW.trans (hf.trans f2).W f3 (fun a z => Or.inr z)).X (by omega) (t2.frW f3 (ne_some h0)) x3 y3' T3
end CLX
