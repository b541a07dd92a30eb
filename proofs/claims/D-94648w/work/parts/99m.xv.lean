/-! PURE: text(): doings, component -/
theorem x_init13B {S : St} {q : Nat} {a1 a2 a3 a4 a5 : Int} {v1 v2 v3 v4 v5 : PV} {G : St → Prop} (h : gI S q = some (.inr (.inl (13, [v1, v2, v3, v4, v5])))) (hB : 0 ≤ fI S 200 ∧ 0 ≤ fI S 201)
    (hG : ∀ S', frW S S' (fun a => a = q) → gI S' q = some (.inr (.inl (13, [.inl a1, .inl a2, .inl a3, .inl a4, .inl a5]))) → (fI S' 200 = fI S 200 ∧ fI S' 201 = fI S 201) → G S') : ∃ u w : Int, ((0 ≤ u ∧ u ≤ fI S 200) ∧ 0 ≤ w ∧ w ≤ fI S 201) ∧ w_X13_init q a1 a2 a3 a4 a5 (bset S u w) (fun S1 => ∀ S2 : St, S2 = bset S1 (fI S 200 - u) (fI S 201 - w) → G S2) := by
  refine ⟨0, 0, ⟨⟨Int.le_refl _, hB.1⟩, Int.le_refl _, hB.2⟩, 0, 0, ⟨⟨Int.le_refl _, by rw [bset_200]; exact Int.le_refl _⟩, Int.le_refl _, by rw [bset_201]; exact Int.le_refl _⟩, fun S1 z1 => ?_⟩
  have g1 : gI S1 q = some (.inr (.inl (13, [v1, v2, v3, v4, v5]))) := by rw [z1]; exact h
  refine ⟨_, g1, rfl, fun S2 z2 => ?_⟩
  have g2 : gI S2 q = some (.inr (.inl (13, [.inl a1, v2, v3, v4, v5]))) := by rw [z2, gI_gset_s]; rfl
  refine ⟨_, g2, rfl, fun S3 z3 => ?_⟩
  have g3 : gI S3 q = some (.inr (.inl (13, [.inl a1, .inl a2, v3, v4, v5]))) := by rw [z3, gI_gset_s]; rfl
  refine ⟨_, g3, rfl, fun S4 z4 => ?_⟩
  have g4 : gI S4 q = some (.inr (.inl (13, [.inl a1, .inl a2, .inl a3, v4, v5]))) := by rw [z4, gI_gset_s]; rfl
  refine ⟨_, g4, rfl, fun S5 z5 => ?_⟩
  have g5 : gI S5 q = some (.inr (.inl (13, [.inl a1, .inl a2, .inl a3, .inl a4, v5]))) := by rw [z5, gI_gset_s]; rfl
  refine ⟨_, g5, rfl, fun S6 z6 S7 z7 => hG S7 ?_ (by rw [z7, gI_bset, z6, gI_gset_s]; rfl) (by rw [z7, bset_200, bset_201]; omega)⟩
  rw [z7, z6, z5, z4, z3, z2, z1]
  exact frW.br (frW.tr (frW.tr (frW.tr (frW.tr (frW.tr (frW.br (frW.br (frW.br (frW.refl _ _)))) (frW.old rfl)) (frW.old rfl)) (frW.old rfl)) (frW.old rfl)) (frW.old rfl))
/-- a doing of sort s: what it answers -/
def XSdone (b : Int → Int) (n s p : Int) (res : RSd) : Prop := match res with
  | .inl (f, pl) => ∀ (S : St) (x0 : Nat) (k o : Int) (K : Option Nat → Option Nat → St → Prop), xtk S x0 b n p o (s + 200) → (10 ≤ fI S 200 ∧ 100 ≤ fI S 201) → (∀ q S', frX S S' x0 → eW S' q f pl → K (some q) none S') → w_X3_doing x0 k S K
  | .inr (a, c, d, p') => (p < p' ∧ p' ≤ n) ∧ ∀ (S : St) (x0 : Nat) (k o : Int) (K : Option Nat → Option Nat → St → Prop), xtk S x0 b n p o (s + 200) → (10 ≤ fI S 200 ∧ 100 ≤ fI S 201) → (∀ q S', frX S S' x0 → gI S q = none → xtk S' x0 b n p' o (s + 200) → gI S' q = some (.inr (.inl (13, [.inl (s + 200), .inl a, .inl c, .inl d, .inl k]))) → K none (some q) S') → w_X3_doing x0 k S K
theorem sX_wo {b : Int → Int} {n p : Int} : (sX b n p = 210 ↔ woP b n p 29807) ∧ (sX b n p = 211 ↔ woP b n p (W3 102 111 114)) ∧ (sX b n p = 212 ↔ woP b n p (W4 119 105 116 104)) ∧ (sX b n p = 209 ↔ woP b n p (W4 109 97 110 121)) := by
  have h := sX_w (b := b) (n := n) (p := p) (i := 10) (by decide)
  have h1 := sX_w (b := b) (n := n) (p := p) (i := 11) (by decide)
  have h2 := sX_w (b := b) (n := n) (p := p) (i := 12) (by decide)
  have h3 := sX_w (b := b) (n := n) (p := p) (i := 9) (by decide)
  rw [show (200 : Int) + ((10 : Nat) : Int) = 210 by rfl, pw_vals.2.2.2.2.2.2.2.2.2.2.1] at h
  rw [show (200 : Int) + ((11 : Nat) : Int) = 211 by rfl, pw_vals.2.2.2.2.2.2.2.2.2.2.2.1] at h1
  rw [show (200 : Int) + ((12 : Nat) : Int) = 212 by rfl, pw_vals.2.2.2.2.2.2.2.2.2.2.2.2.1] at h2
  rw [show (200 : Int) + ((9 : Nat) : Int) = 209 by rfl, pw_vals.2.2.2.2.2.2.2.2.2.1] at h3
  exact ⟨h, h1, h2, h3⟩
def dV (s : Int) : Int := if s = 5 then 212 else 210
theorem dV_wo {b : Int → Int} {n p s : Int} : sX b n p = dV s ↔ woP b n p (dW s) := by
  unfold dV dW
  by_cases h : s = 5
  · rw [if_pos h, if_pos h]; exact sX_wo.2.2.1
  · rw [if_neg h, if_neg h]; exact sX_wo.1
section DONE
variable {b : Int → Int} {n p s o k : Int} {S : St} {x0 : Nat} {K : Option Nat → Option Nat → St → Prop}
theorem dn_34 (hs : 4 ≤ s ∧ s ≤ 8) (hx : xtk S x0 b n p o (s + 200)) (h : j_X3_doing_34 x0 k x0 0 (dH1 s) S K) : w_X3_doing x0 k S K := by
  have hx' := hx
  obtain ⟨hp, tp, num, h1, h2, h3⟩ := hx'
  unfold dH1 at h
  refine ⟨_, _, h2, rfl, fun _ => ⟨fun n7 => ⟨_, _, h2, rfl, fun _ => ⟨fun n8 => ?_, fun e8 => ?_⟩⟩, fun e7 => ?_⟩⟩
  · rw [if_neg (by omega), if_neg (by omega)] at h; exact h
  · rw [if_neg (by omega), if_pos (by omega)] at h; exact h
  · rw [if_pos (by omega)] at h; exact h
theorem dH1_bd (s : Int) : dH1 s ≤ 9999 := by
  unfold dH1
  repeat' split
  all_goals omega
theorem dH2_bd (s : Int) : dH2 s ≤ 9999 := by
  unfold dH2
  split <;> omega
theorem dn_1 (hs : 4 ≤ s ∧ s ≤ 8) (hx : xtk S x0 b n p o (s + 200)) (hB : 1 ≤ fI S 200 ∧ 8 ≤ fI S 201)
    (hX : ¬ nuP b n p 0 (dH1 s) → ∀ q S', frX S S' x0 → eW S' q (nuF b n p) (tq b n p) → K (some q) none S')
    (h58 : nuP b n p 0 (dH1 s) → (s = 7 ∨ s = 8) → ∀ S1, frX S S1 x0 → (fI S1 200 = fI S 200 - 1 ∧ fI S1 201 = fI S 201 - 8) → xtk S1 x0 b n (te b n p) o (s + 200) → j_X3_doing_58 x0 k (tm b n p) S1 K)
    (h94 : nuP b n p 0 (dH1 s) → (s = 4 ∨ s = 5 ∨ s = 6) → ∀ S1, frX S S1 x0 → (fI S1 200 = fI S 200 - 1 ∧ fI S1 201 = fI S 201 - 8) → xtk S1 x0 b n (te b n p) o (s + 200) → j_X3_doing_94 x0 k (tm b n p) x0 (dV s) S1 K) : w_X3_doing x0 k S K := by
  refine dn_34 hs hx ⟨hx.o, numB hx hB ⟨Int.le_refl _, dH1_bd s⟩ (fun hn S1 f1 b1 t1 => ?_) hX⟩
  have t1' := t1
  obtain ⟨hp, tp, num, h1, h2, h3⟩ := t1'
  refine ⟨_, _, h2, rfl, fun _ => ⟨fun e7 => h58 hn (by omega) S1 f1 b1 t1, fun n7 => ⟨_, _, h2, rfl, fun _ => ⟨fun n8 => ⟨_, _, h2, rfl, fun _ => ⟨fun n5 => ?_, fun e5 => ?_⟩⟩, fun e8 => h58 hn (by omega) S1 f1 b1 t1⟩⟩⟩⟩
  · have h := h94 hn (by omega) S1 f1 b1 t1
    unfold dV at h
    rw [if_neg (by omega)] at h
    exact h
  · have h := h94 hn (by omega) S1 f1 b1 t1
    unfold dV at h
    rw [if_pos (by omega)] at h
    exact h
theorem dn_94 {a : Int} (hs : s = 4 ∨ s = 5 ∨ s = 6) (hx : xtk S x0 b n p o (s + 200)) (hB : 1 ≤ fI S 200 ∧ 8 ≤ fI S 201)
    (hX : ¬ woP b n p (dW s) → ∀ q S', frX S S' x0 → eW S' q 1 (tq b n p) → K (some q) none S')
    (hG : woP b n p (dW s) → ∀ S1, frX S S1 x0 → (fI S1 200 = fI S 200 - 1 ∧ fI S1 201 = fI S 201 - 8) → xtk S1 x0 b n (te b n p) o (s + 200) → j_X3_doing_116 x0 k a x0 0 (dH2 s) S1 K) : j_X3_doing_94 x0 k a x0 (dV s) S K := by
  refine ⟨hx.o, wantB hx hB (fun hw S1 f1 b1 t1 => ?_) (fun hw => hX (fun z => hw (dV_wo.mpr z)))⟩
  have h := hG (dV_wo.mp hw) S1 f1 b1 t1
  have t1' := t1
  obtain ⟨hp, tp, num, h1, h2, h3⟩ := t1'
  unfold dH2 at h
  refine ⟨_, _, h2, rfl, fun _ => ⟨fun n5 => ?_, fun e5 => ?_⟩⟩
  · rw [if_neg (by omega)] at h; exact h
  · rw [if_pos (by omega)] at h; exact h
/-- a doing without more -/
theorem dn_end {S1 : St} {q : Nat} {a1 a2 a3 a4 : Int} {S0 : St} {p' : Int} (hx : xtk S x0 b n p' o (s + 200)) (f : frX S0 S x0) (hx0 : gI S0 x0 ≠ none) (hB : 1 ≤ fI S 200 ∧ 5 ≤ fI S 201) (hq : gI S q = none) (e1 : S1 = bset (gset S q (.inr (.inl (13, [.inl 0, .inl 0, .inl 0, .inl 0, .inl 0])))) (fI S 200 - 1) (fI S 201 - ((5 : Nat) : Int)))
    (hK : ∀ q S', frX S0 S' x0 → gI S0 q = none → xtk S' x0 b n p' o (s + 200) → gI S' q = some (.inr (.inl (13, [.inl (s + 200), .inl a1, .inl a2, .inl a3, .inl a4]))) → K none (some q) S') :
    ∃ u w : Int, ((0 ≤ u ∧ u ≤ fI S1 200) ∧ 0 ≤ w ∧ w ≤ fI S1 201) ∧ w_X13_init q (s + 200) a1 a2 a3 a4 (bset S1 u w) (fun S3 => ∀ S4 : St, S4 = bset S3 (fI S1 200 - u) (fI S1 201 - w) → K none (some q) S4) := by
  obtain ⟨hqx, f1, g1, t1, b1⟩ := x_new hx hq e1
  refine x_init13B g1 (by omega) (fun S2 f2 g2 b2 => ?_)
  have hq0 : gI S0 q = none := (f.W.liv hx.ne) _ hq
  exact hK q S2 (frW.trans (f.trans f1).W f2 (fun a z => Or.inr (by rw [z]; exact hq0))).X hq0 (t1.frW f2 (fun z => hqx z.symm)) g2
end DONE
section DONE2
variable {b : Int → Int} {n p s : Int}
theorem nu_te (h : p ≤ n) {lo hi : Int} (hn : nuP b n p lo hi) : p < te b n p ∧ te b n p ≤ n := by
  have := te_gt (b := b) (n := n) (p := p) h (by rw [hn.1]; decide)
  omega
theorem wo_te (h : p ≤ n) {x : Int} (hn : woP b n p x) : p < te b n p ∧ te b n p ≤ n := by
  have := te_gt (b := b) (n := n) (p := p) h (by rw [hn.1]; decide)
  omega
theorem d1_fX (hs : 4 ≤ s ∧ s ≤ 8) (h : ¬ nuP b n p 0 (dH1 s)) : XSdone b n s p (.inl (nuF b n p, tq b n p)) := by
  intro S x0 k o K hx hB hK
  exact dn_1 hs hx (by omega) (fun _ => hK) (fun z => absurd z h) (fun z => absurd z h)
theorem d1_okX (hpn : 0 ≤ p ∧ p ≤ n) (hs : s = 7 ∨ s = 8) (h : nuP b n p 0 (dH1 s)) : XSdone b n s p (.inr (tm b n p, -1, -1, te b n p)) := by
  refine ⟨nu_te hpn.2 h, fun S x0 k o K hx hB hK => ?_⟩
  refine dn_1 (by omega) hx (by omega) (fun z => absurd h z) (fun _ _ S1 f1 b1 t1 => ?_) (fun _ z => by omega)
  refine ⟨⟨by omega, by omega⟩, fun q S2 hq e2 => ?_⟩
  obtain ⟨-, f2, -, t2, b2⟩ := x_new t1 hq e2
  have t2' := t2
  obtain ⟨hp, tp, num, h1, h2, h3⟩ := t2'
  exact ⟨_, _, h2, rfl, fun _ => dn_end t1 f1 hx.ne (by omega) hq e2 hK⟩
theorem d2_fX (hs : s = 4 ∨ s = 5 ∨ s = 6) (h : nuP b n p 0 (dH1 s)) (h1 : ¬ woP b n (te b n p) (dW s)) : XSdone b n s p (.inl (1, tq b n (te b n p))) := by
  intro S x0 k o K hx hB hK
  exact dn_1 (by omega) hx (by omega) (fun z => absurd h z) (fun _ z => by omega) (fun _ _ S1 f1 b1 t1 => dn_94 hs t1 (by omega) (fun _ q S2 f2 w2 => hK q S2 (f1.trans f2) w2) (fun z => absurd z h1))
theorem d3_fX (hs : s = 4 ∨ s = 5 ∨ s = 6) (h : nuP b n p 0 (dH1 s)) (h1 : woP b n (te b n p) (dW s)) (h2 : ¬ nuP b n (te b n (te b n p)) 0 (dH2 s)) : XSdone b n s p (.inl (nuF b n (te b n (te b n p)), tq b n (te b n (te b n p)))) := by
  intro S x0 k o K hx hB hK
  refine dn_1 (by omega) hx (by omega) (fun z => absurd h z) (fun _ z => by omega) (fun _ _ S1 f1 b1 t1 => dn_94 hs t1 (by omega) (fun z => absurd h1 z) (fun _ S2 f2 b2 t2 => ?_))
  exact ⟨t2.o, numB t2 (by omega) ⟨Int.le_refl _, dH2_bd s⟩ (fun z => absurd z h2) (fun _ q S3 f3 w3 => hK q S3 ((f1.trans f2).trans f3) w3)⟩
theorem d3_okX (hpn : 0 ≤ p ∧ p ≤ n) (hs : s = 5 ∨ s = 6) (h : nuP b n p 0 (dH1 s)) (h1 : woP b n (te b n p) (dW s)) (h2 : nuP b n (te b n (te b n p)) 0 (dH2 s)) : XSdone b n s p (.inr (tm b n p, tm b n (te b n (te b n p)), -1, te b n (te b n (te b n p)))) := by
  have e1 := nu_te hpn.2 h
  have e2 := wo_te e1.2 h1
  have e3 := nu_te e2.2 h2
  refine ⟨⟨by omega, by omega⟩, fun S x0 k o K hx hB hK => ?_⟩
  refine dn_1 (by omega) hx (by omega) (fun z => absurd h z) (fun _ z => by omega) (fun _ _ S1 f1 b1 t1 => dn_94 (by omega) t1 (by omega) (fun z => absurd h1 z) (fun _ S2 f2 b2 t2 => ?_))
  refine ⟨t2.o, numB t2 (by omega) ⟨Int.le_refl _, dH2_bd s⟩ (fun _ S3 f3 b3 t3 => ?_) (fun z => absurd h2 z)⟩
  have t3' := t3
  obtain ⟨hp, tp, num, z1, z2, z3⟩ := t3'
  refine ⟨_, _, z2, rfl, fun _ => ⟨fun e4 => by omega, fun n4 => ⟨⟨by omega, by omega⟩, fun q S4 hq e4 => ?_⟩⟩⟩
  obtain ⟨-, f4, -, t4, b4⟩ := x_new t3 hq e4
  have t4' := t4
  obtain ⟨hp', tp', num', y1, y2, y3⟩ := t4'
  exact ⟨_, _, y2, rfl, fun _ => dn_end t3 ((f1.trans f2).trans f3) hx.ne (by omega) hq e4 hK⟩
theorem d4_fX (h : nuP b n p 0 (dH1 4)) (h1 : woP b n (te b n p) (dW 4)) (h2 : nuP b n (te b n (te b n p)) 0 (dH2 4)) (h3 : ¬ woP b n (te b n (te b n (te b n p))) (W3 102 111 114)) : XSdone b n 4 p (.inl (1, tq b n (te b n (te b n (te b n p))))) := by
  intro S x0 k o K hx hB hK
  refine dn_1 (by omega) hx (by omega) (fun z => absurd h z) (fun _ z => by omega) (fun _ _ S1 f1 b1 t1 => dn_94 (by omega) t1 (by omega) (fun z => absurd h1 z) (fun _ S2 f2 b2 t2 => ?_))
  refine ⟨t2.o, numB t2 (by omega) ⟨Int.le_refl _, dH2_bd 4⟩ (fun _ S3 f3 b3 t3 => ?_) (fun z => absurd h2 z)⟩
  have t3' := t3
  obtain ⟨hp, tp, num, z1, z2, z3⟩ := t3'
  exact ⟨_, _, z2, rfl, fun _ => ⟨fun _ => ⟨t3.o, wantB t3 (by omega) (fun z => absurd (sX_wo.2.1.mp z) h3) (fun _ q S4 f4 w4 => hK q S4 (((f1.trans f2).trans f3).trans f4) w4)⟩, fun n4 => absurd rfl n4⟩⟩
theorem d5_fX (h : nuP b n p 0 (dH1 4)) (h1 : woP b n (te b n p) (dW 4)) (h2 : nuP b n (te b n (te b n p)) 0 (dH2 4)) (h3 : woP b n (te b n (te b n (te b n p))) (W3 102 111 114)) (h4 : ¬ nuP b n (te b n (te b n (te b n (te b n p)))) 1 99) : XSdone b n 4 p (.inl (nuF b n (te b n (te b n (te b n (te b n p)))), tq b n (te b n (te b n (te b n (te b n p)))))) := by
  intro S x0 k o K hx hB hK
  refine dn_1 (by omega) hx (by omega) (fun z => absurd h z) (fun _ z => by omega) (fun _ _ S1 f1 b1 t1 => dn_94 (by omega) t1 (by omega) (fun z => absurd h1 z) (fun _ S2 f2 b2 t2 => ?_))
  refine ⟨t2.o, numB t2 (by omega) ⟨Int.le_refl _, dH2_bd 4⟩ (fun _ S3 f3 b3 t3 => ?_) (fun z => absurd h2 z)⟩
  have t3' := t3
  obtain ⟨hp, tp, num, z1, z2, z3⟩ := t3'
  refine ⟨_, _, z2, rfl, fun _ => ⟨fun _ => ⟨t3.o, wantB t3 (by omega) (fun _ S4 f4 b4 t4 => ⟨⟨by omega, by omega⟩, fun q S5 hq e5 => ?_⟩) (fun z => absurd (sX_wo.2.1.mpr h3) z)⟩, fun n4 => absurd rfl n4⟩⟩
  obtain ⟨-, f5, -, t5, b5⟩ := x_new t4 hq e5
  have t5' := t5
  obtain ⟨hp', tp', num', y1, y2, y3⟩ := t5'
  exact ⟨_, _, y2, rfl, fun _ => ⟨t5.o, numB t5 (by omega) (by omega) (fun z => absurd z h4) (fun _ q' S6 f6 w6 => hK q' S6 (((((f1.trans f2).trans f3).trans f4).trans f5).trans f6) w6)⟩⟩
theorem d5_okX (hpn : 0 ≤ p ∧ p ≤ n) (h : nuP b n p 0 (dH1 4)) (h1 : woP b n (te b n p) (dW 4)) (h2 : nuP b n (te b n (te b n p)) 0 (dH2 4)) (h3 : woP b n (te b n (te b n (te b n p))) (W3 102 111 114)) (h4 : nuP b n (te b n (te b n (te b n (te b n p)))) 1 99) : XSdone b n 4 p (.inr (tm b n p, tm b n (te b n (te b n p)), tm b n (te b n (te b n (te b n (te b n p)))), te b n (te b n (te b n (te b n (te b n p)))))) := by
  have e1 := nu_te hpn.2 h
  have e2 := wo_te e1.2 h1
  have e3 := nu_te e2.2 h2
  have e4 := wo_te e3.2 h3
  have e5 := nu_te e4.2 h4
  refine ⟨⟨by omega, by omega⟩, fun S x0 k o K hx hB hK => ?_⟩
  refine dn_1 (by omega) hx (by omega) (fun z => absurd h z) (fun _ z => by omega) (fun _ _ S1 f1 b1 t1 => dn_94 (by omega) t1 (by omega) (fun z => absurd h1 z) (fun _ S2 f2 b2 t2 => ?_))
  refine ⟨t2.o, numB t2 (by omega) ⟨Int.le_refl _, dH2_bd 4⟩ (fun _ S3 f3 b3 t3 => ?_) (fun z => absurd h2 z)⟩
  have t3' := t3
  obtain ⟨hp, tp, num, z1, z2, z3⟩ := t3'
  refine ⟨_, _, z2, rfl, fun _ => ⟨fun _ => ⟨t3.o, wantB t3 (by omega) (fun _ S4 f4 b4 t4 => ⟨⟨by omega, by omega⟩, fun q S5 hq e5 => ?_⟩) (fun z => absurd (sX_wo.2.1.mpr h3) z)⟩, fun n4 => absurd rfl n4⟩⟩
  obtain ⟨hqx, f5, g5, t5, b5⟩ := x_new t4 hq e5
  have t5' := t5
  obtain ⟨hp', tp', num', y1, y2, y3⟩ := t5'
  refine ⟨_, _, y2, rfl, fun _ => ⟨t5.o, numB t5 (by omega) (by omega) (fun _ S6 f6 b6 t6 => ?_) (fun z => absurd h4 z)⟩⟩
  have f04 := ((f1.trans f2).trans f3).trans f4
  have hq0 : gI S q = none := (f04.W.liv t4.ne) _ hq
  refine x_init13B (f6.2.2.2 _ _ hqx g5) (by omega) (fun S7 f7 g7 b7 => ?_)
  exact hK q S7 (frW.trans ((f04.trans f5).trans f6).W f7 (fun a z => Or.inr (by rw [z]; exact hq0))).X hq0 (t6.frW f7 (fun z => hqx z.symm)) g7
end DONE2
