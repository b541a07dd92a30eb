/-! PURE: text(): a clause of a kind, both sides -/
section CLKD
variable {T0 T : St} {b : Int → Int} {n p N c w : Int}
theorem done_3 {x : Int} {T : St} {K : Int → St → Prop} (h : w_M_kind x T (fun r S => InR r → K r S)) : w_M_done x 3 T K :=
  ⟨fun z => absurd rfl z, fun _ => h⟩
theorem told_X {T2 : St} (hp : preT T T2 N c 3) (h12 : fI T2 12 = 700 * N) (kd : Int) : told T2 c kd ↔ toldX (aI T 2) (700 * N) c kd := by
  unfold told toldX
  rw [h12]
  constructor
  · rintro ⟨k, k0, k1, z1, z2⟩
    rw [hp.2.2.2.2 _ (by omega)] at z1 z2
    exact ⟨k, k0, k1, z1, z2⟩
  · rintro ⟨k, k0, k1, z1, z2⟩
    refine ⟨k, k0, k1, ?_, ?_⟩ <;> rw [hp.2.2.2.2 _ (by omega)]
    · exact z1
    · exact z2
theorem J_kdT (h : TW T0 T b n p N c w) (ht : tk b n p ≠ 0) (hs : 3 = soF b n p) (hc : 0 ≤ c ∧ c < 24) (hn : nuP b n (te b n p) 0 19) (htd : toldX (aI T 2) (700 * N) c (tm b n (te b n p))) : JCl T0 T b n p N c w := by
  obtain ⟨T2, y1, y2, y3, y4, y8⟩ := pre_in h hs (by omega) (fun z => by omega) hc
  have hw := h.2.2.2.1
  have y1' := y1
  refine Or.inl ⟨4, tq b n (te b n p), T2, by decide, tok8 y1, twF_pre h.2.2.2.2.2 y3 h.2.1.2 hc, fun Kc hK => y8 Kc (fun z => by omega) (fun z => by omega) (fun _ => done_3 (pM_kind y1 (c := c) ?_ (by omega) (fun _ _ _ => cl_end_F (by decide) hK) (fun z => absurd ⟨hn, (told_X y3 y4 _).mpr htd⟩ z))), ?_⟩
  · rw [y4, y3.2.2.2.2 _ (by omega)]
    exact h.2.2.1
  · exact xclF_go h hs (by omega) (fun z => by omega) hc (fun S0 S1 x0 q m l ed fw fh fu pm nd el js g Kc t1 T1 H b1 hk => clx_kd_in t1 T1 (by have := t1.n300; omega) (fun _ _ => hk) (fun z => absurd ⟨hn, (H.mr.told H.hc hn.2).mpr htd⟩ z)) ht
theorem J_kdF {f pl : Int} (h : TW T0 T b n p N c w) (ht : tk b n p ≠ 0) (hs : 3 = soF b n p) (hc : 0 ≤ c ∧ c < 24) (hn : ¬ (nuP b n (te b n p) 0 19 ∧ toldX (aI T 2) (700 * N) c (tm b n (te b n p)))) (hf : 1 ≤ f ∧ f ≤ 6) (hm : MSkd b n (te b n p) (.inl (f, pl))) (hx : XSkd b n (te b n p) (.inl (f, pl))) : JCl T0 T b n p N c w := by
  obtain ⟨T2, y1, y2, y3, y4, y8⟩ := pre_in h hs (by omega) (fun z => by omega) hc
  have hw := h.2.2.2.1
  have hN := h.2.1.2
  obtain ⟨T3, f3, p3, k3⟩ := hm _ 0 w (700 * N + 1 + 4 * c) T2 y1 (by omega)
  have f3' : bF T2 T3 (700 * N) c w := f3.bF hc hw.1
  refine Or.inl ⟨f, pl, T3, hf, p3, twF_b (twF_pre h.2.2.2.2.2 y3 h.2.1.2 hc) f3' hc hw.1, fun Kc hK => y8 Kc (fun z => by omega) (fun z => by omega) (fun _ => done_3 (pM_kind y1 (c := c) ?_ (by omega) (fun z1 z2 => absurd ⟨z1, (told_X y3 y4 _).mp z2⟩ hn) (fun _ => k3 _ (cl_end_F (by omega) hK)))), ?_⟩
  · rw [y4, y3.2.2.2.2 _ (by omega)]
    exact h.2.2.1
  · exact xclF_go h hs (by omega) (fun z => by omega) hc (fun S0 S1 x0 q m l ed fw fh fu pm nd el js g Kc t1 T1 H b1 hk => clx_kdF hx (fun z => hn ⟨z.1, (H.mr.told H.hc z.1.2).mp z.2⟩) t1 T1 (by have := t1.n300; omega) hk) ht
theorem TH.kind {g : Nat → Option PE} {tx tx' : Int → Int} {base a v : Int} {fw fh fu : Option Nat} {pm : Int → Int} {nd : Int} {el : Int → Nat} {js : Int → Int} (H : TH g tx base c w fw fh fu pm nd el js) (hc : 0 ≤ c ∧ c < 24) (hc' : tx' base = c + 1) (ag : agT tx tx' base c w) (hs : tx' (base + 1 + 4 * c) = 3) (ha : tx' (base + 2 + 4 * c) = a) (hv : tx' (base + 3 + 4 * c) = v) (hr : (0 ≤ a ∧ a ≤ 19) ∧ 1 ≤ v ∧ v ≤ 9) (hn : ¬ toldX tx base c a) : TH g tx' base (c + 1) w fw fh fu (fun y => if y = a then v else pm y) nd el js := by
  obtain ⟨s1, s2⟩ := H.so1 ag hs (by omega) (Int.le_refl _) (fun z => by omega)
  exact ⟨hc', by omega, s1, s2, H.sw.step H.hc hc' ag H.hi (by rw [hs]; decide), H.sh.step (by omega) H.hc hc' ag H.hi (by rw [hs]; decide), H.su.step (by omega) H.hc hc' ag H.hi (by rw [hs]; decide), H.mr.new H.hc hc.1 hc' ag hs ha hv hr hn, H.ds.step ag (by rw [hs]; decide)⟩
theorem J_kdO {v r p' a : Int} (h : TW T0 T b n p N c w) (ht : tk b n p ≠ 0) (hs : 3 = soF b n p) (hc : 0 ≤ c ∧ c < 24) (hn : ¬ (nuP b n (te b n p) 0 19 ∧ toldX (aI T 2) (700 * N) c (tm b n (te b n p)))) (hnu : nuP b n (te b n p) 0 19) (hae : a = tm b n (te b n p)) (hm : MSkd b n (te b n p) (.inr (a, v, r, p'))) (hx : XSkd b n (te b n p) (.inr (a, v, r, p'))) : JCl T0 T b n p N c w := by
  obtain ⟨T2, y1, y2, y3, y4, y8⟩ := pre_in h hs (by omega) (fun z => by omega) hc
  have hw := h.2.2.2.1
  have hN := h.2.1.2
  have hp' := hx.1
  obtain ⟨-, T3, k2, f3, ka, kv, k5⟩ := hm _ 0 w (700 * N + 1 + 4 * c) T2 y1 (by omega)
  have f3' : bF T2 T3 (700 * N) c w := f3.bF hc hw.1
  have hcT : aI T2 2 (fI T2 12) = c := by
    rw [y4, y3.2.2.2.2 _ (by omega)]
    exact h.2.2.1
  have hcl : ∀ Kc : Int → St → Prop, clE 3 (700 * N + 1 + 4 * c) w Kc 0 T3 → w_M_clause T Kc := fun Kc hK => y8 Kc (fun z => by omega) (fun z => by omega) (fun _ => done_3 (pM_kind y1 hcT (by omega) (fun z1 z2 => absurd ⟨z1, (told_X y3 y4 _).mp z2⟩ hn) (fun _ => k5 _ hK)))
  by_cases h59 : tk b n p' = 59
  · obtain ⟨T4, z1, z2, z3, z4, z5, z6, z7, z8⟩ := cl_done h hc y3 (by omega) f3' k2 ⟨Int.le_refl _, by omega⟩ h59
    have tg := te_gt (b := b) (n := n) (p := p') hp'.1.2 (by rw [h59]; decide)
    refine Or.inr ⟨T4, te b n p', w, ⟨by omega, tg.2.1⟩, hc.2, z1, fun Kc hK => hcl Kc (z8 Kc hK), ?_⟩
    intro S0 S x0 q M kd K fs0 h0 hxx hf hT hB hK
    obtain ⟨fw, fh, fu, m, l, ed, pm, nd, el, js, g, hT, H⟩ := hT
    have q6 := z6 (by omega)
    refine rdx_go hs (by omega) hxx hT h0 (fld_none h (s := 3) (by omega) (fun z => by omega) H) (fun S1 t1 f1 b1 T1 => rdx_ok (A := 10) (B := 100) (p' := p') (w' := w) (base := 700 * N) (tx' := aI T4 2) t1 hc T1 ⟨fs0, h0⟩ (by rw [b1]; omega) h59 (fun S2 Kc f2 b2 t2 T2' hk => ?_) (fun S' f' b' t' T' => hK S' _ f' t' T' (by rw [b1] at b'; omega)))
    exact clx_kd hx (fun z => hn ⟨z.1, (H.mr.told H.hc z.1.2).mp z.2⟩) t2 T2' ((hf.trans f1).trans f2) h0 (by omega) (fun S3 f3 b3 t3 T3' => hk S3 f3 t3 ⟨_, _, _, _, _, _, _, _, _, js, g, T3', H.kind hc z1.2.2.1 z3 z4 (by rw [q6 2 (by omega) (by omega), ← ka]; congr 1; omega) (by rw [q6 3 (by omega) (by omega), ← kv]; congr 1; omega) hp'.2 (fun z => hn ⟨hnu, by rw [← hae]; exact z⟩)⟩)
  · obtain ⟨T4, z1, z2, z3⟩ := cl_no59 h hc y3 f3' k2 h59
    refine Or.inl ⟨1, tq b n p', T4, by decide, z2, z1, fun Kc hK => hcl Kc (z3 Kc hK), ?_⟩
    intro S0 S x0 q M kd K fs0 h0 hxx hf hT hB hK
    obtain ⟨fw, fh, fu, m, l, ed, pm, nd, el, js, g, hT, H⟩ := hT
    exact rdx_go hs (by omega) hxx hT h0 (fld_none h (s := 3) (by omega) (fun z => by omega) H) (fun S1 t1 f1 b1 T1 => rdx_w59 (A := 10) (B := 100) (p' := p') t1 hc T1 ⟨fs0, h0⟩ (by rw [b1]; omega) h59 (fun S2 Kc f2 b2 t2 T2' hk => clx_kd hx (fun z => hn ⟨z.1, (H.mr.told H.hc z.1.2).mp z.2⟩) t2 T2' ((hf.trans f1).trans f2) h0 (by omega) (fun S3 f3 b3 t3 T3' => hk S3 f3 t3)) hK)
end CLKD
