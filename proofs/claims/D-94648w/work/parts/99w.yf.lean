/-! PURE: text(): a clause of a doing, both sides -/
section CLDN
variable {T0 T : St} {b : Int → Int} {n p N c w s : Int}
theorem J_dnF {f pl : Int} (h : TW T0 T b n p N c w) (ht : tk b n p ≠ 0) (hs4 : 4 ≤ s ∧ s ≤ 8) (hs : s = soF b n p) (hc : 0 ≤ c ∧ c < 24) (hf : 1 ≤ f ∧ f ≤ 6) (hm : MSdone b n s (te b n p) (.inl (f, pl))) (hx : XSdone b n s (te b n p) (.inl (f, pl))) : JCl T0 T b n p N c w := by
  obtain ⟨T2, y1, y2, y3, y4, y8⟩ := pre_in h hs (by omega) (fun z => by omega) hc
  have hw := h.2.2.2.1
  have hN := h.2.1.2
  obtain ⟨T3, f3, p3, k3⟩ := hm _ 0 w (700 * N + 1 + 4 * c) T2 y1 (by omega)
  have f3' : bF T2 T3 (700 * N) c w := f3.bF hc hw.1
  refine Or.inl ⟨f, pl, T3, hf, p3, twF_b (twF_pre h.2.2.2.2.2 y3 h.2.1.2 hc) f3' hc hw.1, fun Kc hK => y8 Kc (fun z => by omega) (fun z => by omega) (fun _ => k3 _ (cl_end_F (by omega) hK)), ?_⟩
  have hpn : te b n p ≤ n := by
    obtain ⟨lim, e1⟩ := h.1
    have := te_gt (b := b) (n := n) (p := p) e1.2.1.2 ht
    omega
  exact xclF_go h hs (by omega) (fun z => by omega) hc (fun S0 S1 x0 q m l ed fw fh fu pm nd el js g Kc t1 T1 H b1 hk => clx_dnF hs4 hx t1 T1 (by omega) hk) ht
theorem TH.done {g g' : Nat → Option PE} {tx tx' : Int → Int} {base a v r : Int} {fw fh fu : Option Nat} {pm : Int → Int} {nd : Int} {el : Int → Nat} {js : Int → Int} {y : Nat} (H : TH g tx base c w fw fh fu pm nd el js) (hs4 : 4 ≤ s ∧ s ≤ 8) (u : extP g g') (hc : 0 ≤ c ∧ c < 24) (hc' : tx' base = c + 1) (ag : agT tx tx' base c w) (hs : tx' (base + 1 + 4 * c) = s) (ha : tx' (base + 2 + 4 * c) = a) (hv : s ≤ 6 → tx' (base + 3 + 4 * c) = v) (hr : s = 4 → tx' (base + 4 + 4 * c) = r) (hR : InR a ∧ InR v ∧ InR r) (hy : g' y = some (.inr (.inl (13, [.inl (s + 200), .inl a, .inl v, .inl r, .inl c])))) : TH g' tx' base (c + 1) w fw fh fu pm (nd + 1) (fun i => if i = nd then y else el i) (fun i => if i = nd then c else js i) := by
  obtain ⟨s1, s2⟩ := H.so1 ag hs (by omega) (Int.le_refl _) (fun z => by omega)
  exact ⟨hc', by omega, s1, s2, (H.sw.g u).step H.hc hc' ag H.hi (by rw [hs]; omega), (H.sh.g u).step (by omega) H.hc hc' ag H.hi (by rw [hs]; omega), (H.su.g u).step (by omega) H.hc hc' ag H.hi (by rw [hs]; omega), H.mr.step H.hc hc' ag (by rw [hs]; omega), (H.ds.g u).new ag ⟨s, a, v, r, hy, hs4, hs, ha, hv, hr, hR⟩⟩
theorem J_dnO {a v r p' : Int} (h : TW T0 T b n p N c w) (ht : tk b n p ≠ 0) (hs4 : 4 ≤ s ∧ s ≤ 8) (hs : s = soF b n p) (hc : 0 ≤ c ∧ c < 24) (hR : InR a ∧ InR v ∧ InR r) (hm : MSdone b n s (te b n p) (.inr (a, v, r, p'))) (hx : XSdone b n s (te b n p) (.inr (a, v, r, p'))) : JCl T0 T b n p N c w := by
  obtain ⟨T2, y1, y2, y3, y4, y8⟩ := pre_in h hs (by omega) (fun z => by omega) hc
  have hw := h.2.2.2.1
  have hN := h.2.1.2
  have hp' := hx.1
  obtain ⟨-, T3, k2, f3, ka, kv, kr, k5⟩ := hm _ 0 w (700 * N + 1 + 4 * c) T2 y1 (by omega)
  have f3' : bF T2 T3 (700 * N) c w := f3.bF hc hw.1
  by_cases h59 : tk b n p' = 59
  · obtain ⟨T4, z1, z2, z3, z4, z5, z6, z7, z8⟩ := cl_done h hc y3 (by omega) f3' k2 ⟨Int.le_refl _, by omega⟩ h59
    have tg := te_gt (b := b) (n := n) (p := p') hp'.2 (by rw [h59]; decide)
    refine Or.inr ⟨T4, te b n p', w, ⟨by omega, tg.2.1⟩, hc.2, z1, fun Kc hK => y8 Kc (fun z => by omega) (fun z => by omega) (fun _ => k5 _ (z8 Kc hK)), ?_⟩
    intro S0 S x0 q M kd K fs0 h0 hxx hf hT hB hK
    obtain ⟨fw, fh, fu, m, l, ed, pm, nd, el, js, g, hT, H⟩ := hT
    have hnd := H.ds.1
    have q6 := z6 (by omega)
    refine rdx_go hs (by omega) hxx hT h0 (fld_none h (s := s) (by omega) (fun z => by omega) H) (fun S1 t1 f1 b1 T1 => rdx_ok (A := 11) (B := 550) (p' := p') (w' := w) (base := 700 * N) (tx' := aI T4 2) t1 hc T1 ⟨fs0, h0⟩ (by rw [b1]; omega) h59 (fun S2 Kc f2 b2 t2 T2' hk => ?_) (fun S' f' b' t' T' => hK S' _ f' t' T' (by rw [b1] at b'; omega)))
    exact clx_dn hs4 hx t2 T2' ((hf.trans f1).trans f2) h0 (by omega) (by omega) (fun y S3 ed' g' f3 b3 t3 u3 hy3 T3' => hk S3 f3 t3 ⟨_, _, _, _, _, _, _, _, _, _, g', T3', H.done hs4 u3 hc z1.2.2.1 z3 z4 (by rw [q6 2 (by omega) (by omega), ← ka]; congr 1; omega) (fun z => by rw [q6 3 (by omega) (by omega), ← kv z]; congr 1; omega) (fun z => by rw [q6 4 (by omega) (by omega), ← kr z]; congr 1; omega) hR hy3⟩)
  · obtain ⟨T4, z1, z2, z3⟩ := cl_no59 h hc y3 f3' k2 h59
    refine Or.inl ⟨1, tq b n p', T4, by decide, z2, z1, fun Kc hK => y8 Kc (fun z => by omega) (fun z => by omega) (fun _ => k5 _ (z3 Kc hK)), ?_⟩
    intro S0 S x0 q M kd K fs0 h0 hxx hf hT hB hK
    obtain ⟨fw, fh, fu, m, l, ed, pm, nd, el, js, g, hT, H⟩ := hT
    have hnd := H.ds.1
    exact rdx_go hs (by omega) hxx hT h0 (fld_none h (s := s) (by omega) (fun z => by omega) H) (fun S1 t1 f1 b1 T1 => rdx_w59 (A := 11) (B := 550) (p' := p') t1 hc T1 ⟨fs0, h0⟩ (by rw [b1]; omega) h59 (fun S2 Kc f2 b2 t2 T2' hk => clx_dn hs4 hx t2 T2' ((hf.trans f1).trans f2) h0 (by omega) (by omega) (fun y S3 ed' g' f3 b3 t3 u3 hy3 T3' => hk S3 f3 t3)) hK)
end CLDN
