/-! PURE: text(): a clause of questions, both sides -/
section CLEI
variable {T0 T : St} {b : Int → Int} {n p N c w s lim : Int}
theorem TH.ask {g g' : Nat → Option PE} {tx tx' : Int → Int} {base w' : Int} {fw fh fu : Option Nat} {pm : Int → Int} {nd : Int} {el : Int → Nat} {js : Int → Int} {e d : Nat} {ψ : (Int → Int) → Int} (H : TH g tx base c w fw fh fu pm nd el js) (hsl : (s = 1 ∧ lim = 5) ∨ (s = 2 ∧ lim = 8)) (hn : fldT s fw fh fu = none) (u : extP g g') (hc : 0 ≤ c ∧ c < 24) (hc' : tx' base = c + 1) (ag : agT tx tx' base c w) (hs : tx' (base + 1 + 4 * c) = s) (h2 : tx' (base + 2 + 4 * c) = w ∧ tx' (base + 3 + 4 * c) = w') (hw : w ≤ w') (hd : d ≤ 40) (ok : okB lim ψ) (hx : xAsk g' d lim e ψ) (hm : cAsk tx' (base + 100) w w' lim ψ) : TH g' tx' base (c + 1) w' fw (if s = 1 then some e else fh) (if s = 1 then fu else some e) pm nd el js := by
  obtain ⟨s1, s2⟩ := H.so1 ag hs (by omega) hw (fun _ => h2.2)
  unfold fldT at hn
  rcases hsl with ⟨e1, e2⟩ | ⟨e1, e2⟩
  · subst e1
    subst e2
    rw [if_neg (by decide), if_pos rfl] at hn
    subst hn
    rw [if_pos rfl, if_pos rfl]
    exact ⟨hc', by omega, s1, s2, (H.sw.g u).step H.hc hc' ag H.hi (by rw [hs]; decide), (H.sh.g u).new H.hc hc.1 hc' ag hs hd ok hx (by rw [h2.1, h2.2]; exact hm), (H.su.g u).step (by omega) H.hc hc' ag H.hi (by rw [hs]; decide), H.mr.step H.hc hc' ag (by rw [hs]; decide), (H.ds.g u).step ag (by rw [hs]; decide)⟩
  · subst e1
    subst e2
    rw [if_neg (by decide), if_neg (by decide), if_pos rfl] at hn
    subst hn
    rw [if_neg (by decide), if_neg (by decide)]
    exact ⟨hc', by omega, s1, s2, (H.sw.g u).step H.hc hc' ag H.hi (by rw [hs]; decide), (H.sh.g u).step (by omega) H.hc hc' ag H.hi (by rw [hs]; decide), (H.su.g u).new H.hc hc.1 hc' ag hs hd ok hx (by rw [h2.1, h2.2]; exact hm), H.mr.step H.hc hc' ag (by rw [hs]; decide), (H.ds.g u).step ag (by rw [hs]; decide)⟩
theorem J_eiF {f pl : Int} (h : TW T0 T b n p N c w) (ht : tk b n p ≠ 0) (hsl : (s = 1 ∧ lim = 5) ∨ (s = 2 ∧ lim = 8)) (hs : s = soF b n p) (h1 : bt (fI T 21) s = 0) (hc : 0 ≤ c ∧ c < 24) (hf : 1 ≤ f ∧ f ≤ 6) (hm : MSei b n lim (te b n p) 0 (.inl (f, pl))) (hx : XSei b n lim (s + 200) (te b n p) 0 (.inl (f, pl))) : JCl T0 T b n p N c w := by
  obtain ⟨T2, y1, y2, y3, y4, y8⟩ := pre_in h hs (by omega) (fun _ => h1) hc
  have hw := h.2.2.2.1
  have hl : (if s = 2 then (8 : Int) else 5) = lim := by split <;> omega
  rw [hl] at y1
  obtain ⟨T3, f3, p3, k3⟩ := hm T2 w 0 y1 ⟨by omega, Int.le_refl _⟩
  have f3' : bF T2 T3 (700 * N) c w := by
    have := f3.bF (c := c)
    rw [y4] at this
    exact this
  refine Or.inl ⟨f, pl, T3, hf, p3, twF_b (twF_pre h.2.2.2.2.2 y3 h.2.1.2 hc) f3' hc hw.1, fun Kc hK => y8 Kc (fun z => by omega) (fun _ => k3 _ (cl_end_F (by omega) hK)) (fun z => by omega), ?_⟩
  exact xclF_go h hs (by omega) (fun _ => h1) hc (fun S0 S1 x0 q m l ed fw fh fu pm nd el js g Kc t1 T1 H b1 hk => clx_eiF hsl hx t1 T1.hl.1 (by omega) hk) ht
theorem J_eiO {p' : Int} {ψ : (Int → Int) → Int} (h : TW T0 T b n p N c w) (ht : tk b n p ≠ 0) (hsl : (s = 1 ∧ lim = 5) ∨ (s = 2 ∧ lim = 8)) (hs : s = soF b n p) (h1 : bt (fI T 21) s = 0) (hc : 0 ≤ c ∧ c < 24) (hm : MSei b n lim (te b n p) 0 (.inr (ψ, p'))) (hx : XSei b n lim (s + 200) (te b n p) 0 (.inr (ψ, p'))) : JCl T0 T b n p N c w := by
  obtain ⟨T2, y1, y2, y3, y4, y8⟩ := pre_in h hs (by omega) (fun _ => h1) hc
  have hw := h.2.2.2.1
  have hp' := hx.1.1
  have hl : (if s = 2 then (8 : Int) else 5) = lim := by split <;> omega
  rw [hl] at y1
  obtain ⟨-, w1, T3, ⟨k2, k3, ok, k1, k4, -⟩, f3, k5⟩ := hm T2 w 0 y1 ⟨by omega, Int.le_refl _⟩
  have f3' : bF T2 T3 (700 * N) c w := by
    have := f3.bF (c := c)
    rw [y4] at this
    exact this
  have e12 : fI T3 12 = 700 * N := by rw [f3'.1 12 (by omega) (by omega) (by omega) (by omega) (by omega), y4]
  by_cases h59 : tk b n p' = 59
  · obtain ⟨T4, z1, z2, z3, z4, z5, z6, z7, z8⟩ := cl_done h hc y3 (by omega) f3' k2 ⟨by omega, by omega⟩ h59
    have tg := te_gt (b := b) (n := n) (p := p') hp'.2 (by rw [h59]; decide)
    refine Or.inr ⟨T4, te b n p', w1, ⟨by omega, tg.2.1⟩, hc.2, z1, fun Kc hK => y8 Kc (fun z => by omega) (fun _ => k5 _ (z8 Kc hK)) (fun z => by omega), ?_⟩
    intro S0 S x0 q M kd K fs0 h0 hxx hf hT hB hK
    obtain ⟨fw, fh, fu, m, l, ed, pm, nd, el, js, g, hT, H⟩ := hT
    have hfn := fld_none h (s := s) (by omega) (fun _ => h1) H
    have hcs : cAsk (aI T4 2) (700 * N + 100) w w1 lim ψ := by
      rw [e12] at k3
      have lo := k3.1
      exact k3.ag (fun i i0 i1 => z7 i (by omega))
    refine rdx_go hs (by omega) hxx hT h0 hfn (fun S1 t1 f1 b1 T1 => rdx_ok (A := 40 * (p' - te b n p)) (B := 2000 * (p' - te b n p)) (p' := p') (w' := w1) (base := 700 * N) (tx' := aI T4 2) t1 hc T1 ⟨fs0, h0⟩ (by rw [b1]; omega) h59 (fun S2 Kc f2 b2 t2 T2' hk => ?_) (fun S' f' b' t' T' => hK S' _ f' t' T' (by rw [b1] at b'; omega)))
    exact clx_ei hsl hx t2 T2' ((hf.trans f1).trans f2) h0 (by omega) (fun e S3 g' f3 b3 t3 T3' u3 x3 => hk S3 f3 t3 ⟨_, _, _, _, _, _, _, _, _, js, g', T3', H.ask hsl hfn u3 hc z1.2.2.1 z3 z4 (z5 (by omega)) (by omega) (show dA 0 + 2 ≤ 40 by decide) ok (x3 _ (Nat.le_refl _)) hcs⟩)
  · obtain ⟨T4, z1, z2, z3⟩ := cl_no59 h hc y3 f3' k2 h59
    refine Or.inl ⟨1, tq b n p', T4, by decide, z2, z1, fun Kc hK => y8 Kc (fun z => by omega) (fun _ => k5 _ (z3 Kc hK)) (fun z => by omega), ?_⟩
    intro S0 S x0 q M kd K fs0 h0 hxx hf hT hB hK
    obtain ⟨fw, fh, fu, m, l, ed, pm, nd, el, js, g, hT, H⟩ := hT
    exact rdx_go hs (by omega) hxx hT h0 (fld_none h (s := s) (by omega) (fun _ => h1) H) (fun S1 t1 f1 b1 T1 => rdx_w59 (A := 40 * (p' - te b n p)) (B := 2000 * (p' - te b n p)) (p' := p') t1 hc T1 ⟨fs0, h0⟩ (by rw [b1]; omega) h59 (fun S2 Kc f2 b2 t2 T2' hk => clx_ei hsl hx t2 T2' ((hf.trans f1).trans f2) h0 (by omega) (fun e S3 g' f3 b3 t3 T3' u3 x3 => hk S3 f3 t3)) hK)
end CLEI
