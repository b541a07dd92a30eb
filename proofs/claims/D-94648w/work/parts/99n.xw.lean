/-! PURE: text(): doings alike on both sides; kinds, component -/
def dOK : RSd → Prop
  | .inl (f, _) => 1 ≤ f ∧ f ≤ 6
  | .inr (a, c, d, _) => InR a ∧ InR c ∧ InR d
theorem dOK.i {f pl : Int} (h : 1 ≤ f ∧ f ≤ 6) : dOK (.inl (f, pl)) := h
theorem dOK.t {a c d p : Int} (h : InR a ∧ InR c ∧ InR d) : dOK (.inr (a, c, d, p)) := h
theorem nuF_bd (b : Int → Int) (n p : Int) : 1 ≤ nuF b n p ∧ nuF b n p ≤ 6 := by
  unfold nuF
  split <;> decide
theorem nuP.R {b : Int → Int} {n p lo hi : Int} (h : nuP b n p lo hi) (hh : 0 ≤ lo ∧ hi ≤ 9999) : InR (tm b n p) := by
  have := h.2
  constructor <;> omega
theorem m1_R : InR (-1) := by constructor <;> omega
section JDONE
variable {b : Int → Int} {n p s : Int}
theorem JD_at (hpn : 0 ≤ p ∧ p ≤ n) (hs : 4 ≤ s ∧ s ≤ 8) : ∃ res, dOK res ∧ MSdone b n s p res ∧ XSdone b n s p res := by
  by_cases h : nuP b n p 0 (dH1 s)
  rotate_left
  · exact ⟨_, dOK.i (nuF_bd _ _ _), d1_f hs h, d1_fX hs h⟩
  have r1 := h.R ⟨Int.le_refl _, dH1_bd s⟩
  by_cases s7 : s = 7 ∨ s = 8
  · exact ⟨_, dOK.t ⟨r1, m1_R, m1_R⟩, d1_ok s7 h, d1_okX hpn s7 h⟩
  have s4 : s = 4 ∨ s = 5 ∨ s = 6 := by omega
  by_cases h1 : woP b n (te b n p) (dW s)
  rotate_left
  · exact ⟨_, dOK.i (by decide), d2_f s4 h h1, d2_fX s4 h h1⟩
  by_cases h2 : nuP b n (te b n (te b n p)) 0 (dH2 s)
  rotate_left
  · exact ⟨_, dOK.i (nuF_bd _ _ _), d3_f s4 h h1 h2, d3_fX s4 h h1 h2⟩
  have r2 := h2.R ⟨Int.le_refl _, dH2_bd s⟩
  by_cases s5 : s = 4
  rotate_left
  · have s56 : s = 5 ∨ s = 6 := by omega
    exact ⟨_, dOK.t ⟨r1, r2, m1_R⟩, d3_ok s56 h h1 h2, d3_okX hpn s56 h h1 h2⟩
  subst s5
  by_cases h3 : woP b n (te b n (te b n (te b n p))) (W3 102 111 114)
  rotate_left
  · exact ⟨_, dOK.i (by decide), d4_f h h1 h2 h3, d4_fX h h1 h2 h3⟩
  by_cases h4 : nuP b n (te b n (te b n (te b n (te b n p)))) 1 99
  rotate_left
  · exact ⟨_, dOK.i (nuF_bd _ _ _), d5_f h h1 h2 h3 h4, d5_fX h h1 h2 h3 h4⟩
  exact ⟨_, dOK.t ⟨r1, r2, h4.R (by omega)⟩, d5_ok h h1 h2 h3 h4, d5_okX hpn h h1 h2 h3 h4⟩
def XSkd (b : Int → Int) (n p : Int) (res : RSd) : Prop := match res with
  | .inl (f, pl) => ∀ (S : St) (x0 x1 m : Nat) (o kd : Int) (fs : List PV) (pf : Int → Int) (K : Option Nat → St → Prop), xtk S x0 b n p o kd → gI S x1 = some (.inr (.inl (4, fs))) → fs[3]? = some (.inr (.inr (some m))) → gI S m = some (.inl (0, 20, pf)) → (10 ≤ fI S 200 ∧ 100 ≤ fI S 201) → (∀ q S', frX S S' x0 → eW S' q f pl → K (some q) S') → j_X3_kind_37 x0 x1 S K
  | .inr (a, c, _, p') => ((p < p' ∧ p' ≤ n) ∧ (0 ≤ a ∧ a ≤ 19) ∧ 1 ≤ c ∧ c ≤ 9) ∧ ∀ (S : St) (x0 x1 m : Nat) (o kd : Int) (fs : List PV) (pf : Int → Int) (K : Option Nat → St → Prop), xtk S x0 b n p o kd → gI S x1 = some (.inr (.inl (4, fs))) → fs[3]? = some (.inr (.inr (some m))) → gI S m = some (.inl (0, 20, pf)) → (10 ≤ fI S 200 ∧ 100 ≤ fI S 201) →
      (∀ S', frW S S' (fun a => a = x0 ∨ a = m) → xtk S' x0 b n p' o kd → gI S' m = some (.inl (0, 20, fun y => if y = a then c else pf y)) → K none S') → j_X3_kind_37 x0 x1 S K
theorem xkd_x1 {S : St} {x0 x1 : Nat} {o kd : Int} {fs : List PV} (hx : xtk S x0 b n p o kd) (h : gI S x1 = some (.inr (.inl (4, fs)))) : x1 ≠ x0 := fun z => by
  obtain ⟨gs, hxo⟩ := hx.o
  rw [z, hxo] at h
  cases h
theorem k1_fX (h : ¬ nuP b n p 0 19) : XSkd b n p (.inl (nuF b n p, tq b n p)) := by
  intro S x0 x1 m o kd fs pf K hx h1 h3 hm hB hK
  exact ⟨hx.o, numB hx (by omega) (by omega) (fun z => absurd z h) (fun _ => hK)⟩
theorem k2_fX (h : nuP b n p 0 19) (h1 : ¬ woP b n (te b n p) (W4 109 97 110 121)) : XSkd b n p (.inl (1, tq b n (te b n p))) := by
  intro S x0 x1 m o kd fs pf K hx hx1 h3 hm hB hK
  exact ⟨hx.o, numB hx (by omega) (by omega) (fun _ S1 f1 b1 t1 => ⟨t1.o, wantB t1 (by omega) (fun z => absurd (sX_wo.2.2.2.mp z) h1) (fun _ q S2 f2 w2 => hK q S2 (f1.trans f2) w2)⟩) (fun z => absurd h z)⟩
theorem k3_fX (h : nuP b n p 0 19) (h1 : woP b n (te b n p) (W4 109 97 110 121)) (h2 : ¬ nuP b n (te b n (te b n p)) 1 9) : XSkd b n p (.inl (nuF b n (te b n (te b n p)), tq b n (te b n (te b n p)))) := by
  intro S x0 x1 m o kd fs pf K hx hx1 h3 hm hB hK
  have n1 := xkd_x1 hx hx1
  refine ⟨hx.o, numB hx (by omega) (by omega) (fun _ S1 f1 b1 t1 => ⟨t1.o, wantB t1 (by omega) (fun _ S2 f2 b2 t2 => ?_) (fun z => absurd (sX_wo.2.2.2.mpr h1) z)⟩) (fun z => absurd h z)⟩
  exact ⟨fs, m, (f1.trans f2).2.2.2 _ _ n1 hx1, h3, t2.o, numB t2 (by omega) (by omega) (fun z => absurd z h2) (fun _ q S3 f3 w3 => hK q S3 ((f1.trans f2).trans f3) w3)⟩
theorem k_okX (hpn : 0 ≤ p ∧ p ≤ n) (h : nuP b n p 0 19) (h1 : woP b n (te b n p) (W4 109 97 110 121)) (h2 : nuP b n (te b n (te b n p)) 1 9) : XSkd b n p (.inr (tm b n p, tm b n (te b n (te b n p)), 0, te b n (te b n (te b n p)))) := by
  have e1 := nu_te hpn.2 h
  have e2 := wo_te e1.2 h1
  have e3 := nu_te e2.2 h2
  refine ⟨⟨⟨by omega, by omega⟩, h.2, h2.2⟩, fun S x0 x1 m o kd fs pf K hx hx1 h3 hm hB hK => ?_⟩
  have n1 := xkd_x1 hx hx1
  have nm : m ≠ x0 := fun z => by
    obtain ⟨gs, hxo⟩ := hx.o
    rw [z, hxo] at hm
    cases hm
  refine ⟨hx.o, numB hx (by omega) (by omega) (fun _ S1 f1 b1 t1 => ⟨t1.o, wantB t1 (by omega) (fun _ S2 f2 b2 t2 => ?_) (fun z => absurd (sX_wo.2.2.2.mpr h1) z)⟩) (fun z => absurd h z)⟩
  refine ⟨fs, m, (f1.trans f2).2.2.2 _ _ n1 hx1, h3, t2.o, numB t2 (by omega) (by omega) (fun _ S3 f3 b3 t3 => ?_) (fun z => absurd h2 z)⟩
  have f03 := (f1.trans f2).trans f3
  refine ⟨20, pf, f03.2.2.2 _ _ nm hm, by have := h.2; omega, fun S4 e4 => ?_⟩
  have f4 : frW S3 S4 (fun a => a = x0 ∨ a = m) := by rw [e4]; exact frW.old (Or.inr rfl)
  have f4' : frW S3 S4 (fun a => a = m) := by rw [e4]; exact frW.old rfl
  exact hK S4 (frW.tr (f03.W.mono (fun a z => Or.inl (Or.inl z))) f4) (t3.frW f4' (fun z => nm z.symm)) (by rw [e4, gI_gset_s])
theorem JK_at (hpn : 0 ≤ p ∧ p ≤ n) : ∃ res, (match res with | .inl (f, _) => 1 ≤ f ∧ f ≤ 6 | .inr _ => True) ∧ MSkd b n p res ∧ XSkd b n p res := by
  by_cases h : nuP b n p 0 19
  rotate_left
  · exact ⟨.inl (nuF b n p, tq b n p), nuF_bd _ _ _, k1_f h, k1_fX h⟩
  by_cases h1 : woP b n (te b n p) (W4 109 97 110 121)
  rotate_left
  · exact ⟨.inl (1, _), ⟨by decide, by decide⟩, k2_f h h1, k2_fX h h1⟩
  by_cases h2 : nuP b n (te b n (te b n p)) 1 9
  rotate_left
  · exact ⟨.inl (nuF b n _, _), nuF_bd _ _ _, k3_f h h1 h2, k3_fX h h1 h2⟩
  exact ⟨.inr _, trivial, k_ok h h1 h2, k_okX hpn h h1 h2⟩
/-- kind up to its number -/
theorem xkd_in {S : St} {x0 x1 m : Nat} {o kd : Int} {fs : List PV} {pf : Int → Int} {K : Option Nat → St → Prop} (hx : xtk S x0 b n p o kd) (hx1 : gI S x1 = some (.inr (.inl (4, fs)))) (h3 : fs[3]? = some (.inr (.inr (some m)))) (hm : gI S m = some (.inl (0, 20, pf))) (hB : 10 ≤ fI S 200 ∧ 100 ≤ fI S 201) (htm : tk b n p = 1 → 0 ≤ tm b n p)
    (hX : nuP b n p 0 19 → 0 < pf (tm b n p) → ∀ q S', frX S S' x0 → eW S' q 4 (tq b n p) → K (some q) S') (hG : ¬ (nuP b n p 0 19 ∧ 0 < pf (tm b n p)) → j_X3_kind_37 x0 x1 S K) : w_X3_kind x0 x1 S K := by
  have hx' := hx
  obtain ⟨hp, tp, num, y1, y2, y3⟩ := hx'
  refine ⟨_, _, y2, rfl, fun _ => ⟨fun z => hG (fun w => z (sX_300.mpr w.1.1)), fun z => ?_⟩⟩
  have ht := sX_300.mp z
  have hv := y3 ht
  have h0 := htm ht
  refine ⟨_, _, y2, rfl, fun _ => ⟨fun c => hG (fun w => by have c' : 20 ≤ num := c; have := w.1.2; omega), fun c => ?_⟩⟩
  have c' : ¬ 20 ≤ num := c
  have e9 : num = tm b n p := by omega
  refine ⟨fs, m, hx1, h3, _, _, y2, rfl, fun _ => ⟨20, pf, hm, ⟨by omega, by omega⟩, fun _ => ⟨fun c2 => hG (fun w => ?_), fun c2 => ⟨hx.o, wrB hx (by omega) (fun q S2 f2 w2 => hX ⟨ht, by omega, by omega⟩ (by rw [← e9]; omega) q S2 f2 w2)⟩⟩⟩⟩
  have := w.2
  rw [← e9] at this
  omega
end JDONE
