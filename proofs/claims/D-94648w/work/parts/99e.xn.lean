/-! PURE: text(): the rules of one, component -/
theorem x_new {S S1 : St} {x0 q : Nat} {e : PE} {b : Int → Int} {n p o kd m : Int} (hx : xtk S x0 b n p o kd) (hq : gI S q = none) (e1 : S1 = bset (gset S q e) (fI S 200 - 1) (fI S 201 - m)) : q ≠ x0 ∧ frX S S1 x0 ∧ gI S1 q = some e ∧ xtk S1 x0 b n p o kd ∧ (fI S1 200 = fI S 200 - 1 ∧ fI S1 201 = fI S 201 - m) := by
  have hqx : q ≠ x0 := fun z => hx.ne (by rw [← z]; exact hq)
  have f1' : frW S S1 (fun _ => False) := by rw [e1]; exact frW.br (frW.new hq)
  exact ⟨hqx, frX.new hq e1, by rw [e1, gI_bset, gI_gset_s], hx.frW f1' id, by rw [e1, bset_200, bset_201]; exact ⟨rfl, rfl⟩⟩
theorem dpt_s {o : Int} {i d : Nat} (h : dpt o i ≤ d) : ∃ d', d = d' + 1 ∧ dpt o i ≤ d' + 1 ∧ 1 ≤ dpt o i := by
  unfold dpt at *
  exact ⟨d - 1, by omega, by omega, by omega⟩
section ONE
variable {b : Int → Int} {n lim kd p o : Int}
theorem one_numX (ho : 0 ≤ o ∧ o ≤ 8) (hpn : 0 ≤ p ∧ p ≤ n) (ht : tk b n p = 1) (hv : 0 ≤ tm b n p ∧ tm b n p ≤ 9999) : XS 0 20 20 b n lim kd p o (.inr (fun _ => tm b n p, te b n p)) := by
  have tg := te_gt (b := b) (n := n) (p := p) hpn.2 (by omega)
  refine ⟨⟨⟨tg.1, tg.2.1⟩, okF.num hv⟩, fun S x0 d K hd hx he hB hK => ?_⟩
  obtain ⟨d', rfl, -, h1d⟩ := dpt_s hd
  have hx' := hx
  obtain ⟨hp, tp, num, h1, h2, h3⟩ := hx'
  refine Or.inl ⟨rfl, _, _, h2, rfl, fun _ => ⟨fun z => absurd (sX_300.mpr ht) z, fun _ => ⟨⟨by omega, by omega⟩, fun q S1 hq e1 => ?_⟩⟩⟩
  obtain ⟨hqx, f1, g1, t1, b1⟩ := x_new hx hq e1
  refine ⟨t1.o, numB t1 (by omega) (by omega) (fun _ S2 f2 b2 t2 => ?_) (fun z => absurd ⟨ht, hv⟩ z)⟩
  refine x_init7B (f2.2.2.2 _ _ hqx g1) (by omega) (fun S3 f3 g3 b3 => ?_)
  exact hK q S3 (frW.trans (f1.trans f2).W f3 (fun a z => Or.inr (by rw [z]; exact hq))).X (t2.frW f3 (fun z => hqx z.symm)) (xR.num hq g3 h1d)
theorem one_numFX (ho : 0 ≤ o ∧ o ≤ 8) (ht : tk b n p = 1) (hv : 9999 < tm b n p) : XS 0 20 20 b n lim kd p o (.inl (2, tq b n p)) := by
  intro S x0 d K hd hx he hB hK
  have hn := hx.n300
  obtain ⟨d', rfl, -, h1d⟩ := dpt_s hd
  have hx' := hx
  obtain ⟨hp, tp, num, h1, h2, h3⟩ := hx'
  refine Or.inl ⟨rfl, _, _, h2, rfl, fun _ => ⟨fun z => absurd (sX_300.mpr ht) z, fun _ => ⟨⟨by omega, by omega⟩, fun q S1 hq e1 => ?_⟩⟩⟩
  obtain ⟨hqx, f1, g1, t1, b1⟩ := x_new hx hq e1
  refine ⟨t1.o, numB t1 (by omega) (by omega) (fun z => ?_) (fun z q2 S2 f2 w2 => ?_)⟩
  · have := z.2.2
    omega
  · have : nuF b n p = 2 := by unfold nuF; rw [if_pos ht]
    rw [this] at w2
    exact hK q2 S2 (f1.trans f2) w2
/-- a name within its limit -/
theorem one_72 {S : St} {x0 d : Nat} {K : Option Nat → Option Nat → St → Prop} (ht : 0 ≤ tn b n p) (hx : xtk S x0 b n p o kd) (hB : 1 ≤ fI S 200 ∧ 1 ≤ fI S 201) (hD : 1 ≤ dpt o 0)
    (hK : ∀ e S', frX S S' x0 → xtk S' x0 b n (te b n p) o kd → xR S S' (dpt o 0) lim e (fun v => v (tn b n p)) → K none (some e) S') : j_X3_one_72 (w_ps d) x0 S K := by
  have hs : sX b n p = 216 + tn b n p ∧ tn b n p ≤ 7 := by rcases sX_tn b n p with c | c <;> omega
  refine ⟨⟨by omega, by omega⟩, fun q S1 hq e1 => ?_⟩
  obtain ⟨hqx, f1, g1, t1, b1⟩ := x_new hx hq e1
  have t1' := t1
  obtain ⟨hp, tp, num, h1, h2, h3⟩ := t1'
  refine ⟨_, _, h2, rfl, fun _ => ⟨by constructor <;> omega, x_init8B g1 (by omega) (fun S3 f3 g3 b3 => ?_)⟩⟩
  have f13 : frX S S3 x0 := (frW.trans f1.W f3 (fun a z => Or.inr (by rw [z]; exact hq))).X
  have t3 := t1.frW f3 (fun z => hqx z.symm)
  refine ⟨t3.o, nxB t3 (by omega) (fun S4 f4 b4 t4 => ?_)⟩
  have e9 : sX b n p - 216 = tn b n p := by omega
  rw [e9] at g3
  obtain ⟨fs, hxo⟩ := hx.o
  obtain ⟨fs3, hx3⟩ := t3.o
  exact hK q S4 (f13.trans f4) t4 ((xR.name hq g3 (by omega) hD).fr f4 hxo hx3)
theorem one_nameX (hk : kdL kd lim) (hpn : 0 ≤ p ∧ p ≤ n) (ht : 0 ≤ tn b n p) (hb : tn b n p < lim) : XS 0 20 20 b n lim kd p o (.inr (fun v => v (tn b n p), te b n p)) := by
  have hs : sX b n p = 216 + tn b n p ∧ tn b n p ≤ 7 := by rcases sX_tn b n p with c | c <;> omega
  have hk0 : tk b n p ≠ 0 := fun z => by have := sX_301.mpr z; omega
  have tg := te_gt (b := b) (n := n) (p := p) hpn.2 hk0
  refine ⟨⟨⟨tg.1, tg.2.1⟩, okF.name ⟨ht, hb⟩⟩, fun S x0 d K hd hx he hB hK => ?_⟩
  obtain ⟨d', rfl, -, h1d⟩ := dpt_s hd
  have hj : j_X3_one_72 (w_ps d') x0 S K := one_72 ht hx (by omega) h1d hK
  have hx' := hx
  obtain ⟨hp, tp, num, h1, h2, h3⟩ := hx'
  refine Or.inl ⟨rfl, _, _, h2, rfl, fun _ => ⟨fun _ => ⟨_, _, h2, rfl, fun _ => ⟨fun z => absurd z (by omega), fun _ => ⟨_, _, h2, rfl, fun _ => ⟨fun z => absurd z (by omega), fun _ => ⟨_, _, h2, rfl, fun _ => ⟨fun _ => hj, fun z => ⟨_, _, h2, rfl, fun _ => ⟨fun _ => hj, fun z2 => ?_⟩⟩⟩⟩⟩⟩⟩⟩, fun z => absurd z (by omega)⟩⟩
  unfold kdL at hk
  omega
theorem one_nameFX (hk : kdL kd lim) (ht : 0 ≤ tn b n p) (hb : lim ≤ tn b n p) : XS 0 20 20 b n lim kd p o (.inl (5, tq b n p)) := by
  have hs : sX b n p = 216 + tn b n p ∧ tn b n p ≤ 7 := by rcases sX_tn b n p with c | c <;> omega
  intro S x0 d K hd hx he hB hK
  have hn := hx.n300
  obtain ⟨d', rfl, -, h1d⟩ := dpt_s hd
  have hx' := hx
  obtain ⟨hp, tp, num, h1, h2, h3⟩ := hx'
  unfold kdL at hk
  refine Or.inl ⟨rfl, _, _, h2, rfl, fun _ => ⟨fun _ => ⟨_, _, h2, rfl, fun _ => ⟨fun z => absurd z (by omega), fun _ => ⟨_, _, h2, rfl, fun _ => ⟨fun z => absurd z (by omega), fun _ => ⟨_, _, h2, rfl, fun _ => ⟨fun z => absurd z (by omega), fun z => ⟨_, _, h2, rfl, fun _ => ⟨fun z => absurd z (by omega), fun z2 => ⟨hx.o, wrB hx (by omega) (fun q S2 f2 w2 => hK q S2 f2 w2)⟩⟩⟩⟩⟩⟩⟩⟩⟩, fun z => absurd z (by omega)⟩⟩
/-- what is neither number nor name -/
theorem one_94 {S : St} {x0 d : Nat} {K : Option Nat → Option Nat → St → Prop} (hs : sX b n p ≠ 300 ∧ (sX b n p < 216 ∨ 223 < sX b n p)) (hx : xtk S x0 b n p o kd) (hj : j_X3_one_94 (w_ps d) x0 S K) : w_ps (d + 1) 0 x0 S K := by
  have hx' := hx
  obtain ⟨hp, tp, num, h1, h2, h3⟩ := hx'
  exact Or.inl ⟨rfl, _, _, h2, rfl, fun _ => ⟨fun _ => ⟨_, _, h2, rfl, fun _ => ⟨fun _ => hj, fun z => ⟨_, _, h2, rfl, fun _ => ⟨fun _ => hj, fun z2 => absurd hs.2 (by omega)⟩⟩⟩⟩, fun z => absurd z hs.1⟩⟩
theorem one_strayX (ht : tk b n p ≠ 1 ∧ tk b n p ≠ 40 ∧ tk b n p ≠ 45) (hb : tn b n p < 0) : XS 0 20 20 b n lim kd p o (.inl (1, tq b n p)) := by
  intro S x0 d K hd hx he hB hK
  have hn := hx.n300
  obtain ⟨d', rfl, -, h1d⟩ := dpt_s hd
  have h40 : sX b n p ≠ 40 := fun z => ht.2.1 ((sX_sg (by omega)).mp z)
  have h45 : sX b n p ≠ 45 := fun z => ht.2.2 ((sX_sg (by omega)).mp z)
  refine one_94 ⟨fun z => ht.1 (sX_300.mp z), by rcases sX_tn b n p with c | c <;> omega⟩ hx ?_
  have hx' := hx
  obtain ⟨hp, tp, num, h1, h2, h3⟩ := hx'
  exact ⟨_, _, h2, rfl, fun _ => ⟨fun _ => ⟨_, _, h2, rfl, fun _ => ⟨fun _ => ⟨hx.o, wrB hx (by omega) (fun q S2 f2 w2 => hK q S2 f2 w2)⟩, fun z => absurd z h45⟩⟩, fun z => absurd z h40⟩⟩
theorem one_deepX (ht : tk b n p = 40 ∨ tk b n p = 45) : XS 0 20 20 b n lim kd p 8 (.inl (3, tq b n p)) := by
  intro S x0 d K hd hx he hB hK
  have hn := hx.n300
  obtain ⟨d', rfl, -, h1d⟩ := dpt_s hd
  have st : sX b n p = tk b n p := by rcases ht with c | c <;> rw [c] <;> exact (sX_sg (by omega)).mpr c
  refine one_94 (by omega) hx ?_
  have hx' := hx
  obtain ⟨hp, tp, num, h1, h2, h3⟩ := hx'
  refine ⟨_, _, h2, rfl, fun _ => ⟨fun _ => ⟨_, _, h2, rfl, fun _ => ⟨fun z => by omega, fun _ => ⟨hx.o, opsB hx (by omega) (by omega) (fun z => by omega) (fun _ q S2 f2 w2 => hK q S2 f2 w2)⟩⟩⟩, fun _ => ⟨hx.o, opsB hx (by omega) (by omega) (fun z => by omega) (fun _ q S2 f2 w2 => hK q S2 f2 w2)⟩⟩⟩
theorem one_minusX {p' : Int} {χ : (Int → Int) → Int} (ho : 0 ≤ o ∧ o < 8) (hpn : 0 ≤ p ∧ p ≤ n) (ht : tk b n p = 45) (h : XS 0 20 20 b n lim kd (te b n p) (o + 1) (.inr (χ, p'))) : XS 0 20 20 b n lim kd p o (.inr (fun v => -χ v, p')) := by
  have tg := te_gt (b := b) (n := n) (p := p) hpn.2 (by omega)
  have hp1 := h.1.1
  refine ⟨⟨⟨by omega, by omega⟩, okF.neg h.1.2⟩, fun S x0 d K hd hx he hB hK => ?_⟩
  obtain ⟨d', rfl, hd', h1d⟩ := dpt_s hd
  have st : sX b n p = 45 := (sX_sg (by omega)).mpr ht
  refine one_94 (by omega) hx ?_
  have hx' := hx
  obtain ⟨hp, tp, num, h1, h2, h3⟩ := hx'
  refine ⟨_, _, h2, rfl, fun _ => ⟨fun _ => ⟨_, _, h2, rfl, fun _ => ⟨fun z => absurd st z, fun _ => ⟨hx.o, opsB hx (by omega) (by omega) (fun _ S1 f1 b1 t1 => ?_) (fun z => by omega)⟩⟩⟩, fun z => by omega⟩⟩
  refine ⟨⟨by omega, by omega⟩, fun q S2 hq e2 => ?_⟩
  obtain ⟨hqx, f2, g2, t2, b2⟩ := x_new t1 hq e2
  have f12 := f1.trans f2
  have eC2 := hx.eC he f12
  refine ⟨t2.o, h.okB (by unfold dpt at hd' ⊢; omega) t2 eC2 (by omega) (by omega) (fun e S3 f3 b3 t3 r3 e3 => ?_)⟩
  have q3 := f3.2.2.2 _ _ hqx g2
  refine x_init9B q3 (by omega) (fun S4 f4 g4 b4 => ?_)
  have t4 := t3.frW f4 (fun z => hqx z.symm)
  have hqS : gI S q = none := (f1.W.liv t1.ne) _ hq
  have f14 : frX S S4 x0 := (frW.trans (f12.trans f3).W f4 (fun a z => Or.inr (by rw [z]; exact hqS))).X
  have r4 : xR S S4 (dpt o 0) lim q (fun v => -χ v) := xR.minus r3 (f12.W.liv t2.ne) hqS (ne_some g2) q3 f4 g4 h.1.2 (by unfold dpt; omega)
  obtain ⟨fs, v, z1, z2, z3⟩ := xtk_setO (o := o) t4 (by omega)
  refine ⟨fs, v, z1, z2, fun iv => ?_⟩
  obtain ⟨z4, fs2, z5, z6, z7⟩ := z3 iv
  refine ⟨z4, fs2, z5, z6, fun S5 e5 => ?_⟩
  obtain ⟨t5, f5⟩ := z7 S5 e5
  obtain ⟨fsx, hxo⟩ := hx.o
  exact hK q S5 (f14.trans f5) t5 (r4.fr f5 hxo z1)
theorem one_minusFX {f pl : Int} (ho : 0 ≤ o ∧ o < 8) (ht : tk b n p = 45) (h : XS 0 20 20 b n lim kd (te b n p) (o + 1) (.inl (f, pl))) : XS 0 20 20 b n lim kd p o (.inl (f, pl)) := by
  intro S x0 d K hd hx he hB hK
  have hn := hx.n300
  have tg := te_gt (b := b) (n := n) (p := p) hn.2.1 (by omega)
  obtain ⟨d', rfl, hd', h1d⟩ := dpt_s hd
  have st : sX b n p = 45 := (sX_sg (by omega)).mpr ht
  refine one_94 (by omega) hx ?_
  have hx' := hx
  obtain ⟨hp, tp, num, h1, h2, h3⟩ := hx'
  refine ⟨_, _, h2, rfl, fun _ => ⟨fun _ => ⟨_, _, h2, rfl, fun _ => ⟨fun z => absurd st z, fun _ => ⟨hx.o, opsB hx (by omega) (by omega) (fun _ S1 f1 b1 t1 => ?_) (fun z => by omega)⟩⟩⟩, fun z => by omega⟩⟩
  refine ⟨⟨by omega, by omega⟩, fun q S2 hq e2 => ?_⟩
  obtain ⟨hqx, f2, g2, t2, b2⟩ := x_new t1 hq e2
  have f12 := f1.trans f2
  exact ⟨t2.o, h.fB (by unfold dpt at hd' ⊢; omega) t2 (hx.eC he f12) (by omega) (by omega) (fun q' S3 f3 w3 => hK q' S3 (f12.trans f3) w3)⟩
/-- up to the sum in parentheses -/
theorem one_par {S : St} {x0 d : Nat} {K : Option Nat → Option Nat → St → Prop} (ho : 0 ≤ o ∧ o < 8) (ht : tk b n p = 40) (hx : xtk S x0 b n p o kd) (hB : 1 ≤ fI S 200 ∧ 8 ≤ fI S 201)
    (hj : ∀ S1, frX S S1 x0 → xtk S1 x0 b n (te b n p) (o + 1) kd → (fI S1 200 = fI S 200 - 1 ∧ fI S1 201 = fI S 201 - 8) → ∃ u v : Int, ((0 ≤ u ∧ u ≤ fI S1 200) ∧ 0 ≤ v ∧ v ≤ fI S1 201) ∧ w_ps d 2 x0 (bset S1 u v) (fun e77 r74 S75 => ∀ S76 : St, S76 = bset S75 (fI S1 200 - u) (fI S1 201 - v) → ((∀ q : Nat, e77 = some q → K (some q) none S76) ∧ (e77 = none → ∃ q78 : Nat, r74 = some q78 ∧ ((∃ fs : List PV, gI S76 x0 = some (.inr (.inl (3, fs)))) ∧ (∃ a80 b81 : Int, ((0 ≤ a80 ∧ a80 ≤ fI S76 200) ∧ 0 ≤ b81 ∧ b81 ≤ fI S76 201) ∧ w_X3_want x0 41 (bset S76 a80 b81) (fun (e87 : Option Nat) (S85 : St) => ∀ S86 : St, S86 = bset S85 (fI S76 200 - a80) (fI S76 201 - b81) → ((∀ q : Nat, e87 = some q → K (some q) none S86) ∧ (e87 = none → (∃ (fs88 : List PV) (v91 : Int), gI S86 x0 = some (.inr (.inl (3, fs88))) ∧ fs88[6]? = some (.inl v91) ∧ (InR v91 → InR (v91 - 1) ∧ (∃ fs94 : List PV, gI S86 x0 = some (.inr (.inl (3, fs94))) ∧ fs94.length = 8 ∧ ∀ S97 : St, S97 = gset S86 x0 (.inr (.inl (3, fs94.set 6 (.inl (v91 - 1))))) → K none (some q78) S97)))))))))))) : w_ps (d + 1) 0 x0 S K := by
  have st : sX b n p = 40 := (sX_sg (by omega)).mpr ht
  refine one_94 (by omega) hx ?_
  have hx' := hx
  obtain ⟨hp, tp, num, h1, h2, h3⟩ := hx'
  exact ⟨_, _, h2, rfl, fun _ => ⟨fun z => absurd st z, fun _ => ⟨hx.o, opsB hx (by omega) (by omega) (fun _ S1 f1 b1 t1 => ⟨t1.o, hj S1 f1 t1 b1⟩) (fun z => by omega)⟩⟩⟩
theorem one_parenFX {f pl : Int} (ho : 0 ≤ o ∧ o < 8) (ht : tk b n p = 40) (h : XS 2 0 40 b n lim kd (te b n p) (o + 1) (.inl (f, pl))) : XS 0 20 20 b n lim kd p o (.inl (f, pl)) := by
  intro S x0 d K hd hx he hB hK
  have hn := hx.n300
  have tg := te_gt (b := b) (n := n) (p := p) hn.2.1 (by omega)
  obtain ⟨d', rfl, hd', h1d⟩ := dpt_s hd
  exact one_par ho ht hx (by omega) (fun S1 f1 t1 b1 => h.fB (by unfold dpt at hd' ⊢; omega) t1 (hx.eC he f1) (by omega) (by omega) (fun q' S3 f3 w3 => hK q' S3 (f1.trans f3) w3))
theorem one_nocloseX {p1 : Int} {φ : (Int → Int) → Int} (ho : 0 ≤ o ∧ o < 8) (ht : tk b n p = 40) (h : XS 2 0 40 b n lim kd (te b n p) (o + 1) (.inr (φ, p1))) (h1 : tk b n p1 ≠ 41) : XS 0 20 20 b n lim kd p o (.inl (1, tq b n p1)) := by
  intro S x0 d K hd hx he hB hK
  have hn := hx.n300
  have tg := te_gt (b := b) (n := n) (p := p) hn.2.1 (by omega)
  have hp1 := h.1.1
  obtain ⟨d', rfl, hd', h1d⟩ := dpt_s hd
  exact one_par ho ht hx (by omega) (fun S1 f1 t1 b1 => h.okB (by unfold dpt at hd' ⊢; omega) t1 (hx.eC he f1) (by omega) (by omega) (fun e S2 f2 b2 t2 r2 e2 => ⟨t2.o, wantB t2 (by omega) (fun z => absurd ((sX_sg (by omega)).mp z) h1) (fun _ q' S3 f3 w3 => hK q' S3 ((f1.trans f2).trans f3) w3)⟩))
theorem one_parenX {p1 : Int} {φ : (Int → Int) → Int} (ho : 0 ≤ o ∧ o < 8) (hpn : 0 ≤ p ∧ p ≤ n) (ht : tk b n p = 40) (h : XS 2 0 40 b n lim kd (te b n p) (o + 1) (.inr (φ, p1))) (h1 : tk b n p1 = 41) : XS 0 20 20 b n lim kd p o (.inr (φ, te b n p1)) := by
  have tg := te_gt (b := b) (n := n) (p := p) hpn.2 (by omega)
  have hp1 := h.1.1
  have tg1 := te_gt (b := b) (n := n) (p := p1) hp1.2 (by omega)
  refine ⟨⟨⟨by omega, by omega⟩, h.1.2⟩, fun S x0 d K hd hx he hB hK => ?_⟩
  obtain ⟨d', rfl, hd', h1d⟩ := dpt_s hd
  refine one_par ho ht hx (by omega) (fun S1 f1 t1 b1 => h.okB (by unfold dpt at hd' ⊢; omega) t1 (hx.eC he f1) (by omega) (by omega) (fun e S2 f2 b2 t2 r2 e2 => ⟨t2.o, wantB t2 (by omega) (fun _ S3 f3 b3 t3 => ?_) (fun z => absurd ((sX_sg (by omega)).mpr h1) z)⟩))
  obtain ⟨fs, v, z1, z2, z3⟩ := xtk_setO (o := o) t3 (by omega)
  refine ⟨fs, v, z1, z2, fun iv => ?_⟩
  obtain ⟨z4, fs2, z5, z6, z7⟩ := z3 iv
  refine ⟨z4, fs2, z5, z6, fun S5 e5 => ?_⟩
  obtain ⟨t5, f5⟩ := z7 S5 e5
  obtain ⟨fsx, hxo⟩ := hx.o
  obtain ⟨fs1, hx1⟩ := t1.o
  obtain ⟨fs2', hx2⟩ := t2.o
  exact hK e S5 (((f1.trans f2).trans f3).trans f5) t5 (((r2.fr f3 hx1 hx2).fr f5 hx1 z1).up (f1.W.liv t1.ne) (by unfold dpt; omega))
end ONE
