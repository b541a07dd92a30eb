/-! PURE: text(): a clause of a sum, both sides -/
section CLSUM
variable {T0 T : St} {b : Int → Int} {n p N c w : Int}
theorem xclF_go {s f pl : Int} (h : TW T0 T b n p N c w) (hs : s = soF b n p) (h0s : 0 ≤ s) (h1 : s < 3 → bt (fI T 21) s = 0) (hc : 0 ≤ c ∧ c < 24)
    (hcl : ∀ (S0 S1 : St) (x0 q m l ed : Nat) (fw fh fu : Option Nat) (pm : Int → Int) (nd : Int) (el : Int → Nat) (js : Int → Int) (g : Nat → Option PE) (Kc : Option Nat → St → Prop), xtk S1 x0 b n (te b n p) 0 (s + 200) → TC S0 S1 q c fw fh fu m l ed pm nd el g → TH g (aI T 2) (700 * N) c w fw fh fu pm nd el js → (fI S1 200 = 40 * (n - te b n p) + 90 ∧ fI S1 201 = 2000 * (n - te b n p) + 500) → (∀ q' S', frX S1 S' x0 → eW S' q' f pl → Kc (some q') S') → w_X3_clause x0 q S1 Kc) (ht : tk b n p ≠ 0) : XclF b n p N c w (aI T 2) f pl := by
  intro S0 S x0 q M kd K fs0 h0 hx hf hT hB hK
  have hn := hx.n300
  have tg := te_gt (b := b) (n := n) (p := p) hn.2.1 ht
  obtain ⟨fw, fh, fu, m, l, ed, pm, nd, el, js, g, hT, H⟩ := hT
  exact rdx_go hs h0s hx hT h0 (fld_none h h0s h1 H) (fun S1 t1 f1 b1 T1 => rdx_clF (A := 40 * (n - te b n p) + 90) (B := 2000 * (n - te b n p) + 500) t1 hc T1 ⟨fs0, h0⟩ (by rw [b1]; omega) (fun S2 Kc f2 b2 t2 T2 hk => hcl S0 S2 x0 q m l ed fw fh fu pm nd el js g Kc t2 T2 H b2 hk) (fun q' S' f2 w2 => hK q' S' (hf.trans (f1.trans f2)) w2))
theorem pre_in {s : Int} (h : TW T0 T b n p N c w) (hs : s = soF b n p) (h0s : 0 ≤ s) (h1 : s < 3 → bt (fI T 21) s = 0) (hc : 0 ≤ c ∧ c < 24) : ∃ T2, exS b n (if s = 2 then 8 else 5) T2 (te b n p) 0 w ∧ p < te b n p ∧ preT T T2 N c s ∧ fI T2 12 = 700 * N ∧
    ∀ K : Int → St → Prop, (s = 0 → w_M_summed T2 (clE s (700 * N + 1 + 4 * c) w K)) → (s = 1 ∨ s = 2 → w_M_either T2 (clE s (700 * N + 1 + 4 * c) w K)) → (3 ≤ s → w_M_done (700 * N + 1 + 4 * c) s T2 (clE s (700 * N + 1 + 4 * c) w K)) → w_M_clause T K := by
  obtain ⟨⟨lim, e1⟩, e2, e3, e4, e5, e6⟩ := h
  obtain ⟨T2, y1, y2, y3, y4, y5, y6, y7, y8⟩ := cl_pre e1 hs h0s h1 (by rw [e2.1]; exact e3) hc e5.1
  rw [e2.1] at y6 y7 y8
  exact ⟨T2, y1, y2, ⟨y3, y4, y5, y6, y7⟩, by rw [y4 12 (by omega) (by omega) (by omega), e2.1], y8⟩
theorem J_sumF {f pl : Int} (h : TW T0 T b n p N c w) (ht : tk b n p ≠ 0) (hs : 0 = soF b n p) (h1 : bt (fI T 21) 0 = 0) (hc : 0 ≤ c ∧ c < 24) (hf : 1 ≤ f ∧ f ≤ 6) (hm : MSsum b n 5 (te b n p) 0 (.inl (f, pl))) (hx : XS 2 0 40 b n 5 200 (te b n p) 0 (.inl (f, pl))) : JCl T0 T b n p N c w := by
  obtain ⟨T2, y1, y2, y3, y4, y8⟩ := pre_in h hs (Int.le_refl _) (fun _ => h1) hc
  have hw := h.2.2.2.1
  obtain ⟨T3, f3, p3, k3⟩ := (hm.sm (Int.le_refl _)) T2 w 0 (by rw [if_neg (by decide)] at y1; exact y1) ⟨by omega, Int.le_refl _⟩
  have f3' : bF T2 T3 (700 * N) c w := by
    have := f3.bF (c := c)
    rw [y4] at this
    exact this
  refine Or.inl ⟨f, pl, T3, hf, p3, twF_b (twF_pre h.2.2.2.2.2 y3 h.2.1.2 hc) f3' hc hw.1, fun Kc hK => y8 Kc (fun _ => k3 _ (cl_end_F (by omega) hK)) (fun z => by omega) (fun z => by omega), ?_⟩
  exact xclF_go h hs (Int.le_refl _) (fun _ => h1) hc (fun S0 S1 x0 q m l ed fw fh fu pm nd el js g Kc t1 T1 H b1 hk => clx_sumF hx t1 T1.hl.1 (by omega) hk) ht
theorem TH.so1 {g : Nat → Option PE} {tx tx' : Int → Int} {base s w' : Int} {fw fh fu : Option Nat} {pm : Int → Int} {nd : Int} {el : Int → Nat} {js : Int → Int} (H : TH g tx base c w fw fh fu pm nd el js) (ag : agT tx tx' base c w) (hs : tx' (base + 1 + 4 * c) = s) (h8 : 0 ≤ s ∧ s ≤ 8) (hw : w ≤ w') (h3 : s < 3 → tx' (base + 3 + 4 * c) = w') : (∀ k, 0 ≤ k → k < c + 1 → 0 ≤ tx' (base + 1 + 4 * k) ∧ tx' (base + 1 + 4 * k) ≤ 8) ∧ hiT tx' base (c + 1) w' := by
  refine ⟨fun k k0 k1 => ?_, fun k k0 k1 k2 => ?_⟩
  · by_cases ck : k = c
    · rw [ck, hs]; exact h8
    · rw [ag.1 k k0 (by omega) 1 (by omega) (by omega)]
      exact H.so k k0 (by omega)
  · by_cases ck : k = c
    · rw [ck, hs] at k2
      rw [ck, h3 (by omega)]
      exact Int.le_refl _
    · rw [ag.1 k k0 (by omega) 1 (by omega) (by omega)] at k2
      rw [ag.1 k k0 (by omega) 3 (by omega) (by omega)]
      have := H.hi k k0 (by omega) k2
      omega
theorem dsT.g {g g' : Nat → Option PE} {tx : Int → Int} {base nd : Int} {el : Int → Nat} {js : Int → Int} (h : dsT g tx base c nd el js) (u : extP g g') : dsT g' tx base c nd el js := ⟨h.1, fun i i0 i1 => ⟨(h.2.1 i i0 i1).1, (h.2.1 i i0 i1).2.ext u⟩, h.2.2⟩
/-- the header after a clause of sums -/
theorem TH.sum {g g' : Nat → Option PE} {tx tx' : Int → Int} {base w' : Int} {fh fu : Option Nat} {pm : Int → Int} {nd : Int} {el : Int → Nat} {js : Int → Int} {e d : Nat} {φ : (Int → Int) → Int} (H : TH g tx base c w none fh fu pm nd el js) (u : extP g g') (hc : 0 ≤ c ∧ c < 24) (hc' : tx' base = c + 1) (ag : agT tx tx' base c w) (hs : tx' (base + 1 + 4 * c) = 0) (h2 : tx' (base + 2 + 4 * c) = w ∧ tx' (base + 3 + 4 * c) = w') (hw : w ≤ w') (hd : d ≤ 70) (ok : okF 5 φ) (hx : xSum g' d 5 e φ) (hm : cSum tx' (base + 100) w w' 5 φ) : TH g' tx' base (c + 1) w' (some e) fh fu pm nd el js := by
  obtain ⟨s1, s2⟩ := H.so1 ag hs (by omega) hw (fun _ => h2.2)
  exact ⟨hc', by omega, s1, s2, (H.sw.g u).new H.hc hc.1 hc' ag hs hd ok hx (by rw [h2.1, h2.2]; exact hm), (H.sh.g u).step (by omega) H.hc hc' ag H.hi (by rw [hs]; decide), (H.su.g u).step (by omega) H.hc hc' ag H.hi (by rw [hs]; decide), H.mr.step H.hc hc' ag (by rw [hs]; decide), (H.ds.g u).step ag (by rw [hs]; decide)⟩
theorem cl_no59 {T2 T3 : St} {s p' w' lim2 : Int} (h : TW T0 T b n p N c w) (hc : 0 ≤ c ∧ c < 24) (hp : preT T T2 N c s) (hb : bF T2 T3 (700 * N) c w) (h3 : exS b n lim2 T3 p' 0 w') (ht : tk b n p' ≠ 59) : ∃ T4, twF T0 T4 N ∧ fI T4 8 = tq b n p' ∧ ∀ K : Int → St → Prop, K 1 T4 → clE s (700 * N + 1 + 4 * c) w K 0 T3 := by
  obtain ⟨-, e2, e3, e4, e5, e6⟩ := h
  have t2 := twF_pre e6 hp e2.2 hc
  have t3 := twF_b t2 hb hc e4.1
  obtain ⟨q1, q2, q3, q4, q5⟩ := hp
  have b12 : fI T3 12 = 700 * N := by rw [hb.1 12 (by omega) (by omega) (by omega) (by omega) (by omega), q2 12 (by omega) (by omega) (by omega), e2.1]
  have bc : aI T3 2 (fI T3 12) = c := by rw [b12, hb.2.2 _ (by omega), q5 _ (by omega), e3]
  obtain ⟨T4, z1, z2, z3, z4⟩ := cl_end_f (s := s) (w := w) h3 bc hc (x := 700 * N + 1 + 4 * c) (by rw [b12]) ht
  rw [b12] at z3
  exact ⟨T4, ⟨fun k k1 k2 k3 => by rw [z1, t3.1 k k1 k2 k3], fun k k1 k2 => by rw [z2 k k1, t3.2.1 k k1 k2], fun i hi => by rw [z3 i (by omega) (by omega) (by omega), t3.2.2 i hi]⟩, by rw [z1]; exact tok8 h3, z4⟩
theorem J_sumO {p' : Int} {φ : (Int → Int) → Int} (h : TW T0 T b n p N c w) (ht : tk b n p ≠ 0) (hs : 0 = soF b n p) (h1 : bt (fI T 21) 0 = 0) (hc : 0 ≤ c ∧ c < 24) (hm : MSsum b n 5 (te b n p) 0 (.inr (φ, p'))) (hx : XS 2 0 40 b n 5 200 (te b n p) 0 (.inr (φ, p'))) : JCl T0 T b n p N c w := by
  obtain ⟨T2, y1, y2, y3, y4, y8⟩ := pre_in h hs (Int.le_refl _) (fun _ => h1) hc
  have hw := h.2.2.2.1
  have hp' := hx.1.1
  rw [if_neg (by decide)] at y1
  obtain ⟨-, ok, w1, T3, k1, k2, f3, k3, k4, k5⟩ := (hm.sm (Int.le_refl _)) T2 w 0 y1 ⟨by omega, Int.le_refl _⟩
  have f3' : bF T2 T3 (700 * N) c w := by
    have := f3.bF (c := c)
    rw [y4] at this
    exact this
  have tF := twF_b (twF_pre h.2.2.2.2.2 y3 h.2.1.2 hc) f3' hc hw.1
  by_cases h59 : tk b n p' = 59
  · obtain ⟨T4, z1, z2, z3, z4, z5, z6, z7, z8⟩ := cl_done h hc y3 (by decide) f3' k2 ⟨by omega, by omega⟩ h59
    have tg := te_gt (b := b) (n := n) (p := p') hp'.2 (by rw [h59]; decide)
    refine Or.inr ⟨T4, te b n p', w1, ⟨by omega, tg.2.1⟩, hc.2, z1, fun Kc hK => y8 Kc (fun _ => k5 _ (z8 Kc hK)) (fun z => by omega) (fun z => by omega), ?_⟩
    intro S0 S x0 q M kd K fs0 h0 hxx hf hT hB hK
    obtain ⟨fw, fh, fu, m, l, ed, pm, nd, el, js, g, hT, H⟩ := hT
    have hfw : fw = none := by
      have := fld_none h (Int.le_refl 0) (fun _ => h1) H
      exact this
    subst hfw
    have hcs : cSum (aI T4 2) (700 * N + 100) w w1 5 φ := by
      rw [y4] at k3
      have lo := k3.1
      exact k3.ag (fun i i0 i1 => z7 i (by omega))
    refine rdx_go hs (Int.le_refl _) hxx hT h0 rfl (fun S1 t1 f1 b1 T1 => rdx_ok (A := 40 * (p' - te b n p)) (B := 2000 * (p' - te b n p)) (p' := p') (w' := w1) (base := 700 * N) (tx' := aI T4 2) t1 hc T1 ⟨fs0, h0⟩ (by rw [b1]; omega) h59 (fun S2 Kc f2 b2 t2 T2' hk => ?_) (fun S' f' b' t' T' => hK S' _ f' t' T' (by rw [b1] at b'; omega)))
    exact clx_sum hx t2 T2' ((hf.trans f1).trans f2) h0 (by omega) (fun e S3 g' f3 b3 t3 T3' u3 x3 => hk S3 f3 t3 ⟨_, _, _, _, _, _, _, _, _, js, g', T3', H.sum u3 hc z1.2.2.1 z3 z4 (z5 (by decide)) (by omega) (show dpt 0 2 ≤ 70 by decide) ok (x3 _ (Nat.le_refl _)) hcs⟩)
  · obtain ⟨T4, z1, z2, z3⟩ := cl_no59 h hc y3 f3' k2 h59
    refine Or.inl ⟨1, tq b n p', T4, by decide, z2, z1, fun Kc hK => y8 Kc (fun _ => k5 _ (z3 Kc hK)) (fun z => by omega) (fun z => by omega), ?_⟩
    intro S0 S x0 q M kd K fs0 h0 hxx hf hT hB hK
    obtain ⟨fw, fh, fu, m, l, ed, pm, nd, el, js, g, hT, H⟩ := hT
    exact rdx_go hs (Int.le_refl _) hxx hT h0 (fld_none h (Int.le_refl 0) (fun _ => h1) H) (fun S1 t1 f1 b1 T1 => rdx_w59 (A := 40 * (p' - te b n p)) (B := 2000 * (p' - te b n p)) (p' := p') t1 hc T1 ⟨fs0, h0⟩ (by rw [b1]; omega) h59 (fun S2 Kc f2 b2 t2 T2' hk => clx_sum hx t2 T2' ((hf.trans f1).trans f2) h0 (by omega) (fun e S3 g' f3 b3 t3 T3' u3 x3 => hk S3 f3 t3)) hK)
end CLSUM
