/-! PURE: text(): the rules of ask, component -/
def YS (W : Nat → St → (Option Nat → Option Nat → St → Prop) → Prop) (ci si fc fs : Int) (D : Nat) (b : Int → Int) (n lim kd p o : Int) (res : RSm) : Prop := match res with
  | .inl (f, pl) => ∀ (S : St) (x0 : Nat) (K : Option Nat → Option Nat → St → Prop), xtk S x0 b n p o kd → eC S → (40 * (n - p) + fc ≤ fI S 200 ∧ 2000 * (n - p) + fs ≤ fI S 201) → (∀ q S', frX S S' x0 → eW S' q f pl → K (some q) none S') → W x0 S K
  | .inr (ψ, p') => ((p < p' ∧ p' ≤ n) ∧ okB lim ψ) ∧ ∀ (S : St) (x0 : Nat) (K : Option Nat → Option Nat → St → Prop), xtk S x0 b n p o kd → eC S → (40 * (p' - p) - ci ≤ fI S 200 ∧ 2000 * (p' - p) - si ≤ fI S 201) → (∀ e S', frX S S' x0 → xtk S' x0 b n p' o kd → yR S S' D lim e ψ → K none (some e) S') → W x0 S K
section YSB
variable {W : Nat → St → (Option Nat → Option Nat → St → Prop) → Prop} {ci si fc fs : Int} {D : Nat} {b : Int → Int} {n lim kd p o : Int} {S : St} {x0 : Nat}
theorem YS.okB {ψ : (Int → Int) → Int} {p' : Int} {X : Nat → St → Prop} {G : Nat → St → Prop} (h : YS W ci si fc fs D b n lim kd p o (.inr (ψ, p'))) (ht : xtk S x0 b n p o kd) (he : eC S) (hcl : (0 ≤ ci ∧ ci ≤ 40) ∧ 0 ≤ si ∧ si ≤ 2000) (hB : 40 * (p' - p) - ci ≤ fI S 200 ∧ 2000 * (p' - p) - si ≤ fI S 201)
    (hG : ∀ e S', frX S S' x0 → (fI S' 200 = fI S 200 - (40 * (p' - p) - ci) ∧ fI S' 201 = fI S 201 - (2000 * (p' - p) - si)) → xtk S' x0 b n p' o kd → yR S S' D lim e ψ → eC S' → G e S') :
    ∃ u v : Int, ((0 ≤ u ∧ u ≤ fI S 200) ∧ 0 ≤ v ∧ v ≤ fI S 201) ∧ W x0 (bset S u v) (fun e r S1 => ∀ S2 : St, S2 = bset S1 (fI S 200 - u) (fI S 201 - v) → ((∀ q : Nat, e = some q → X q S2) ∧ (e = none → ∃ q : Nat, r = some q ∧ G q S2))) := by
  have hp := h.1.1
  refine ⟨40 * (p' - p) - ci, 2000 * (p' - p) - si, ⟨⟨by omega, hB.1⟩, by omega, hB.2⟩, h.2 _ _ _ ht.bs he (by rw [bset_200, bset_201]; omega) (fun e S1 f1 t1 r1 S2 e2 => ?_)⟩
  subst e2
  exact ⟨(fun q z => by cases z), fun _ => ⟨e, rfl, hG e _ f1.bs (by rw [bset_200, bset_201]; omega) t1.bs r1 (ht.eC he f1.bs)⟩⟩
theorem YS.fB {f pl : Int} {X : Nat → St → Prop} {G : Nat → St → Prop} (h : YS W ci si fc fs D b n lim kd p o (.inl (f, pl))) (ht : xtk S x0 b n p o kd) (he : eC S) (hfl : 0 ≤ fc ∧ 0 ≤ fs) (hB : 40 * (n - p) + fc ≤ fI S 200 ∧ 2000 * (n - p) + fs ≤ fI S 201)
    (hX : ∀ q S', frX S S' x0 → eW S' q f pl → X q S') :
    ∃ u v : Int, ((0 ≤ u ∧ u ≤ fI S 200) ∧ 0 ≤ v ∧ v ≤ fI S 201) ∧ W x0 (bset S u v) (fun e r S1 => ∀ S2 : St, S2 = bset S1 (fI S 200 - u) (fI S 201 - v) → ((∀ q : Nat, e = some q → X q S2) ∧ (e = none → ∃ q : Nat, r = some q ∧ G q S2))) := by
  have hp := ht.n300
  refine ⟨40 * (n - p) + fc, 2000 * (n - p) + fs, ⟨⟨by omega, hB.1⟩, by omega, hB.2⟩, h _ _ _ ht.bs he (by rw [bset_200, bset_201]; omega) (fun q S1 f1 w1 S2 e2 => ?_)⟩
  subst e2
  exact ⟨(fun q' z => by cases z; exact hX q _ f1.bs w1), fun z => by cases z⟩
end YSB
def dA (o : Int) : Nat := (8 - o).toNat + 1
def XSask (b : Int → Int) (n lim kd p o : Int) (res : RSm) : Prop := ∀ d, dA o ≤ d → YS (w_X3_ask d) 30 1500 50 250 (dA o) b n lim kd p o res
theorem sX_not {b : Int → Int} {n p : Int} : sX b n p = 215 ↔ isNot b n p := by
  have h := sX_w (b := b) (n := n) (p := p) (i := 15) (by decide)
  rw [show (200 : Int) + ((15 : Nat) : Int) = 215 by rfl, pw_vals.2.2.2.2.2.2.2.2.2.2.2.2.2.2.2.1] at h
  exact h
theorem sX_and {b : Int → Int} {n p : Int} : sX b n p = 214 ↔ isAnd b n p := by
  have h := sX_w (b := b) (n := n) (p := p) (i := 14) (by decide)
  rw [show (200 : Int) + ((14 : Nat) : Int) = 214 by rfl, pw_vals.2.2.2.2.2.2.2.2.2.2.2.2.2.2.1] at h
  exact h
theorem sX_or {b : Int → Int} {n p : Int} : sX b n p = 213 ↔ isOr b n p := by
  have h := sX_w (b := b) (n := n) (p := p) (i := 13) (by decide)
  rw [show (200 : Int) + ((13 : Nat) : Int) = 213 by rfl, pw_vals.2.2.2.2.2.2.2.2.2.2.2.2.2.1] at h
  exact h
theorem cmS_eq (b : Int → Int) (n p : Int) : cmS (sX b n p) = cmO (tk b n p) := by
  rcases sX_all b n p with ⟨a, c⟩ | ⟨a, c⟩ | ⟨a, -, c⟩ | ⟨a, c⟩ | ⟨a, c⟩ | ⟨a, c⟩ | ⟨-, a, c, d⟩
  · rw [a, c]; rfl
  · rw [a, c]; rfl
  · rw [a]
    show cmS _ = -1
    unfold cmS
    repeat rw [if_neg (by omega)]
  · rw [a, c]; rfl
  · rw [a, c]; rfl
  · rw [a, c]; rfl
  · rw [a]
    unfold cmS cmO
    rw [if_neg (show ¬ tk b n p = 303 by omega), if_neg (show ¬ tk b n p = 304 by omega), if_neg (show ¬ tk b n p = 4 by omega), if_neg (show ¬ tk b n p = 5 by omega)]
theorem x_init11B {S : St} {q e1 e2 : Nat} {s : Int} {u v w : PV} {G : St → Prop} (h : gI S q = some (.inr (.inl (11, [u, v, w])))) (hB : 0 ≤ fI S 200 ∧ 0 ≤ fI S 201)
    (hG : ∀ S', frW S S' (fun a => a = q) → gI S' q = some (.inr (.inl (11, [.inl s, .inr (.inr (some e1)), .inr (.inr (some e2))]))) → (fI S' 200 = fI S 200 ∧ fI S' 201 = fI S 201) → G S') : ∃ u w : Int, ((0 ≤ u ∧ u ≤ fI S 200) ∧ 0 ≤ w ∧ w ≤ fI S 201) ∧ w_X11_init q s e1 e2 (bset S u w) (fun S1 => ∀ S2 : St, S2 = bset S1 (fI S 200 - u) (fI S 201 - w) → G S2) := by
  refine ⟨0, 0, ⟨⟨Int.le_refl _, hB.1⟩, Int.le_refl _, hB.2⟩, 0, 0, ⟨⟨Int.le_refl _, by rw [bset_200]; exact Int.le_refl _⟩, Int.le_refl _, by rw [bset_201]; exact Int.le_refl _⟩, fun S1 z1 => ?_⟩
  have g1 : gI S1 q = some (.inr (.inl (11, [u, v, w]))) := by rw [z1]; exact h
  refine ⟨_, g1, rfl, fun S2 z2 => ?_⟩
  have g2 : gI S2 q = some (.inr (.inl (11, [.inl s, v, w]))) := by rw [z2, gI_gset_s]; rfl
  refine ⟨_, g2, rfl, fun S3 z3 => ?_⟩
  have g3 : gI S3 q = some (.inr (.inl (11, [.inl s, .inr (.inr (some e1)), w]))) := by rw [z3, gI_gset_s]; rfl
  refine ⟨_, g3, rfl, fun S4 z4 S5 z5 => hG S5 ?_ (by rw [z5, gI_bset, z4, gI_gset_s]; rfl) (by rw [z5, bset_200, bset_201]; omega)⟩
  rw [z5, z4, z3, z2, z1]
  exact frW.br (frW.tr (frW.tr (frW.tr (frW.br (frW.br (frW.br (frW.refl _ _)))) (frW.old rfl)) (frW.old rfl)) (frW.old rfl))
section ASK
variable {b : Int → Int} {n lim kd p o : Int}
theorem dA_s {o : Int} {d : Nat} (h : dA o ≤ d) : ∃ d', d = d' + 1 ∧ dA o ≤ d' + 1 := by
  unfold dA at *
  exact ⟨d - 1, by omega, by omega⟩
theorem ask_deepX (ht : isNot b n p) : XSask b n lim kd p 8 (.inl (3, tq b n p)) := by
  intro d hd S x0 K hx he hB hK
  have hn := hx.n300
  obtain ⟨d', rfl, hd'⟩ := dA_s hd
  have hx' := hx
  obtain ⟨hp, tp, num, h1, h2, h3⟩ := hx'
  exact ⟨_, _, h2, rfl, fun _ => ⟨fun z => absurd (sX_not.mpr ht) z, fun _ => ⟨hx.o, opsB hx (by omega) (by omega) (fun z => by omega) (fun _ q S2 f2 w2 => hK q S2 f2 w2)⟩⟩⟩
theorem ask_notFX {f pl : Int} (ho : 0 ≤ o ∧ o < 8) (ht : isNot b n p) (h : XSask b n lim kd (te b n p) (o + 1) (.inl (f, pl))) : XSask b n lim kd p o (.inl (f, pl)) := by
  intro d hd S x0 K hx he hB hK
  have hn := hx.n300
  have tg := te_gt (b := b) (n := n) (p := p) hn.2.1 (by rw [ht.1]; decide)
  obtain ⟨d', rfl, hd'⟩ := dA_s hd
  have hx' := hx
  obtain ⟨hp, tp, num, h1, h2, h3⟩ := hx'
  refine ⟨_, _, h2, rfl, fun _ => ⟨fun z => absurd (sX_not.mpr ht) z, fun _ => ⟨hx.o, opsB hx (by omega) (by omega) (fun _ S1 f1 b1 t1 => ?_) (fun z => by omega)⟩⟩⟩
  refine ⟨⟨by omega, by omega⟩, fun q S2 hq e2 => ?_⟩
  obtain ⟨hqx, f2, g2, t2, b2⟩ := x_new t1 hq e2
  have f12 := f1.trans f2
  exact ⟨t2.o, (h d' (by unfold dA at hd' ⊢; omega)).fB t2 (hx.eC he f12) (by omega) (by omega) (fun q' S3 f3 w3 => hK q' S3 (f12.trans f3) w3)⟩
theorem ask_notX {ψ : (Int → Int) → Int} {p' : Int} (ho : 0 ≤ o ∧ o < 8) (hpn : 0 ≤ p ∧ p ≤ n) (ht : isNot b n p) (h : XSask b n lim kd (te b n p) (o + 1) (.inr (ψ, p'))) : XSask b n lim kd p o (.inr (fun v => 1 - ψ v, p')) := by
  intro d hd
  have tg := te_gt (b := b) (n := n) (p := p) hpn.2 (by rw [ht.1]; decide)
  obtain ⟨d', rfl, hd'⟩ := dA_s hd
  have h' := h d' (by unfold dA at hd' ⊢; omega)
  have hp1 := h'.1.1
  refine ⟨⟨⟨by omega, by omega⟩, okB.not h'.1.2⟩, fun S x0 K hx he hB hK => ?_⟩
  have hx' := hx
  obtain ⟨hp, tp, num, h1, h2, h3⟩ := hx'
  refine ⟨_, _, h2, rfl, fun _ => ⟨fun z => absurd (sX_not.mpr ht) z, fun _ => ⟨hx.o, opsB hx (by omega) (by omega) (fun _ S1 f1 b1 t1 => ?_) (fun z => by omega)⟩⟩⟩
  refine ⟨⟨by omega, by omega⟩, fun q S2 hq e2 => ?_⟩
  obtain ⟨hqx, f2, g2, t2, b2⟩ := x_new t1 hq e2
  have f12 := f1.trans f2
  refine ⟨t2.o, h'.okB t2 (hx.eC he f12) (by omega) (by omega) (fun e S3 f3 b3 t3 r3 e3 => ?_)⟩
  have q3 := f3.2.2.2 _ _ hqx g2
  refine x_init10B q3 (by omega) (fun S4 f4 g4 b4 => ?_)
  have t4 := t3.frW f4 (fun z => hqx z.symm)
  have hqS : gI S q = none := (f1.W.liv t1.ne) _ hq
  have f14 : frX S S4 x0 := (frW.trans (f12.trans f3).W f4 (fun a z => Or.inr (by rw [z]; exact hqS))).X
  have r4 : yR S S4 (dA o) lim q (fun v => 1 - ψ v) := yR.not r3 (f12.W.liv t2.ne) hqS (ne_some g2) q3 f4 g4 h'.1.2 (by unfold dA; omega)
  obtain ⟨fs, v, z1, z2, z3⟩ := xtk_setO (o := o) t4 (by omega)
  refine ⟨fs, v, z1, z2, fun iv => ?_⟩
  obtain ⟨z4, fs2, z5, z6, z7⟩ := z3 iv
  refine ⟨z4, fs2, z5, z6, fun S5 e5 => ?_⟩
  obtain ⟨t5, f5⟩ := z7 S5 e5
  obtain ⟨fsx, hxo⟩ := hx.o
  exact hK q S5 (f14.trans f5) t5 (r4.fr f5 hxo z1)
/-- the first sum of a question -/
theorem ask_sumB {f pl : Int} {S : St} {x0 : Nat} {X : Nat → St → Prop} {G : Nat → St → Prop} (h : XS 2 0 40 b n lim kd p o (.inl (f, pl))) (hx : xtk S x0 b n p o kd) (he : eC S) (ho : 0 ≤ o ∧ o ≤ 8) (hB : 40 * (n - p) + 40 ≤ fI S 200 ∧ 2000 * (n - p) + 200 ≤ fI S 201) (hX : ∀ q S', frX S S' x0 → eW S' q f pl → X q S') :
    ∃ u v : Int, ((0 ≤ u ∧ u ≤ fI S 200) ∧ 0 ≤ v ∧ v ≤ fI S 201) ∧ ∃ d39 : Nat, d39 ≤ 40 ∧ w_ps d39 2 x0 (bset S u v) (fun e r S1 => ∀ S2 : St, S2 = bset S1 (fI S 200 - u) (fI S 201 - v) → ((∀ q : Nat, e = some q → X q S2) ∧ (e = none → ∃ q : Nat, r = some q ∧ G q S2))) := by
  obtain ⟨u, v, hb, hw⟩ := h.fB (X := X) (G := G) (d := 40) (by unfold dpt; omega) hx he (by omega) (by omega) hX
  exact ⟨u, v, hb, 40, Nat.le_refl _, hw⟩
theorem ask_sumO {φ : (Int → Int) → Int} {p' : Int} {S : St} {x0 : Nat} {X : Nat → St → Prop} {G : Nat → St → Prop} (h : XS 2 0 40 b n lim kd p o (.inr (φ, p'))) (hx : xtk S x0 b n p o kd) (he : eC S) (ho : 0 ≤ o ∧ o ≤ 8) (hB : 40 * (p' - p) ≤ fI S 200 ∧ 2000 * (p' - p) ≤ fI S 201)
    (hG : ∀ e S', frX S S' x0 → (fI S' 200 = fI S 200 - 40 * (p' - p) ∧ fI S' 201 = fI S 201 - 2000 * (p' - p)) → xtk S' x0 b n p' o kd → xR S S' (dpt o 2) lim e φ → eC S' → G e S') :
    ∃ u v : Int, ((0 ≤ u ∧ u ≤ fI S 200) ∧ 0 ≤ v ∧ v ≤ fI S 201) ∧ ∃ d39 : Nat, d39 ≤ 40 ∧ w_ps d39 2 x0 (bset S u v) (fun e r S1 => ∀ S2 : St, S2 = bset S1 (fI S 200 - u) (fI S 201 - v) → ((∀ q : Nat, e = some q → X q S2) ∧ (e = none → ∃ q : Nat, r = some q ∧ G q S2))) := by
  obtain ⟨u, v, hb, hw⟩ := h.okB (X := X) (G := G) (d := 40) (by unfold dpt; omega) hx he (by omega) (by omega) (fun e S' f1 b1 t1 r1 e1 => hG e S' f1 (by omega) t1 r1 e1)
  exact ⟨u, v, hb, 40, Nat.le_refl _, hw⟩
theorem ask_f1X {f pl : Int} (ho : 0 ≤ o ∧ o ≤ 8) (hn : ¬ isNot b n p) (h : XS 2 0 40 b n lim kd p o (.inl (f, pl))) : XSask b n lim kd p o (.inl (f, pl)) := by
  intro d hd S x0 K hx he hB hK
  have h300 := hx.n300
  obtain ⟨d', rfl, hd'⟩ := dA_s hd
  have hx' := hx
  obtain ⟨hp, tp, num, h1, h2, h3⟩ := hx'
  exact ⟨_, _, h2, rfl, fun _ => ⟨fun _ => ⟨hx.o, ask_sumB h hx he ho (by omega) hK⟩, fun z => absurd (sX_not.mp z) hn⟩⟩
theorem cmS_ne {s : Int} (h : cmS s < 0) : s ≠ 60 ∧ s ≠ 62 ∧ s ≠ 61 ∧ s ≠ 35 ∧ s ≠ 303 ∧ s ≠ 304 := by
  refine ⟨fun z => ?_, fun z => ?_, fun z => ?_, fun z => ?_, fun z => ?_, fun z => ?_⟩ <;> (rw [z] at h; exact absurd h (by decide))
theorem cmS_is {s : Int} (h : 0 ≤ cmS s) : s = 60 ∨ s = 62 ∨ s = 61 ∨ s = 35 ∨ s = 303 ∨ s = 304 := by
  unfold cmS at h
  by_cases c1 : s = 60
  · exact Or.inl c1
  rw [if_neg c1] at h
  by_cases c2 : s = 303
  · exact Or.inr (Or.inr (Or.inr (Or.inr (Or.inl c2))))
  rw [if_neg c2] at h
  by_cases c3 : s = 62
  · exact Or.inr (Or.inl c3)
  rw [if_neg c3] at h
  by_cases c4 : s = 304
  · exact Or.inr (Or.inr (Or.inr (Or.inr (Or.inr c4))))
  rw [if_neg c4] at h
  by_cases c5 : s = 61
  · exact Or.inr (Or.inr (Or.inl c5))
  rw [if_neg c5] at h
  by_cases c6 : s = 35
  · exact Or.inr (Or.inr (Or.inr (Or.inl c6)))
  rw [if_neg c6] at h
  omega
theorem ask_f2X {φ : (Int → Int) → Int} {p1 : Int} (ho : 0 ≤ o ∧ o ≤ 8) (hn : ¬ isNot b n p) (h : XS 2 0 40 b n lim kd p o (.inr (φ, p1))) (hc : cmO (tk b n p1) < 0) : XSask b n lim kd p o (.inl (1, tq b n p1)) := by
  intro d hd S x0 K hx he hB hK
  have h300 := hx.n300
  have hp1 := h.1.1
  obtain ⟨d', rfl, hd'⟩ := dA_s hd
  have hx' := hx
  obtain ⟨hp, tp, num, h1, h2, h3⟩ := hx'
  refine ⟨_, _, h2, rfl, fun _ => ⟨fun _ => ⟨hx.o, ask_sumO h hx he ho (by omega) (fun e S1 f1 b1 t1 r1 e1 => ?_)⟩, fun z => absurd (sX_not.mp z) hn⟩⟩
  rw [← cmS_eq] at hc
  obtain ⟨c1, c2, c3, c4, c5, c6⟩ := cmS_ne hc
  have t1' := t1
  obtain ⟨hp', tp', num', y1, y2, y3⟩ := t1'
  exact ⟨_, _, y2, rfl, fun _ => ⟨fun z => absurd z c1, fun _ => ⟨fun z => absurd z c2, fun _ => ⟨fun z => absurd z c3, fun _ => ⟨fun z => absurd z c4, fun _ => ⟨fun z => absurd z c5, fun _ => ⟨fun z => absurd z c6, fun _ => ⟨t1.o, wrB t1 (by omega) (fun q S2 f2 w2 => hK q S2 (f1.trans f2) w2)⟩⟩⟩⟩⟩⟩⟩⟩
theorem ask_go92 {s : Int} {P Q : Prop} (hs : 0 ≤ cmS s) (h : P) : ((s = 60 → P) ∧ (¬ (s = 60) → ((s = 62 → P) ∧ (¬ (s = 62) → ((s = 61 → P) ∧ (¬ (s = 61) → ((s = 35 → P) ∧ (¬ (s = 35) → ((s = 303 → P) ∧ (¬ (s = 303) → ((s = 304 → P) ∧ (¬ (s = 304) → Q)))))))))))) := by
  have := cmS_is hs
  exact ⟨fun _ => h, fun n1 => ⟨fun _ => h, fun n2 => ⟨fun _ => h, fun n3 => ⟨fun _ => h, fun n4 => ⟨fun _ => h, fun n5 => ⟨fun _ => h, fun n6 => by omega⟩⟩⟩⟩⟩⟩
theorem ask_f3X {φ : (Int → Int) → Int} {p1 f pl : Int} (ho : 0 ≤ o ∧ o ≤ 8) (hn : ¬ isNot b n p) (h : XS 2 0 40 b n lim kd p o (.inr (φ, p1))) (hc : 0 ≤ cmO (tk b n p1)) (h2 : XS 2 0 40 b n lim kd (te b n p1) o (.inl (f, pl))) : XSask b n lim kd p o (.inl (f, pl)) := by
  intro d hd S x0 K hx he hB hK
  have h300 := hx.n300
  have hp1 := h.1.1
  have tg := te_gt (b := b) (n := n) (p := p1) hp1.2 (cmO_0 hc)
  obtain ⟨d', rfl, hd'⟩ := dA_s hd
  have hx' := hx
  obtain ⟨hp, tp, num, z1, z2, z3⟩ := hx'
  refine ⟨_, _, z2, rfl, fun _ => ⟨fun _ => ⟨hx.o, ask_sumO h hx he ho (by omega) (fun e S1 f1 b1 t1 r1 e1 => ?_)⟩, fun z => absurd (sX_not.mp z) hn⟩⟩
  rw [← cmS_eq] at hc
  have t1' := t1
  obtain ⟨hp', tp', num', y1, y2, y3⟩ := t1'
  refine ⟨_, _, y2, rfl, fun _ => ask_go92 hc ⟨t1.o, nxB t1 (by omega) (fun S2 f2 b2 t2 => ⟨⟨by omega, by omega⟩, fun q S3 hq e3 => ?_⟩)⟩⟩
  obtain ⟨hqx, f3, g3, t3, b3⟩ := x_new t2 hq e3
  have f13 := (f1.trans f2).trans f3
  exact ⟨t3.o, ask_sumB h2 t3 (hx.eC he f13) ho (by omega) (fun q' S4 f4 w4 => hK q' S4 (f13.trans f4) w4)⟩
theorem ask_cmpX {φ χ : (Int → Int) → Int} {p1 p2 : Int} (ho : 0 ≤ o ∧ o ≤ 8) (hn : ¬ isNot b n p) (h : XS 2 0 40 b n lim kd p o (.inr (φ, p1))) (hc : 0 ≤ cmO (tk b n p1)) (h2 : XS 2 0 40 b n lim kd (te b n p1) o (.inr (χ, p2))) : XSask b n lim kd p o (.inr (fun v => cmpV (cmO (tk b n p1)) (φ v) (χ v), p2)) := by
  intro d hd
  have hp1 := h.1.1
  have hp2 := h2.1.1
  have tg := te_gt (b := b) (n := n) (p := p1) hp1.2 (cmO_0 hc)
  obtain ⟨d', rfl, hd'⟩ := dA_s hd
  refine ⟨⟨⟨by omega, by omega⟩, okB.cmp h.1.2 h2.1.2⟩, fun S x0 K hx he hB hK => ?_⟩
  have h300 := hx.n300
  have hx' := hx
  obtain ⟨hp, tp, num, z1, z2, z3⟩ := hx'
  refine ⟨_, _, z2, rfl, fun _ => ⟨fun _ => ⟨hx.o, ask_sumO h hx he ho (by omega) (fun ea S1 f1 b1 t1 r1 e1 => ?_)⟩, fun z => absurd (sX_not.mp z) hn⟩⟩
  rw [← cmS_eq] at hc hK
  have t1' := t1
  obtain ⟨hp', tp', num', y1, y2, y3⟩ := t1'
  refine ⟨_, _, y2, rfl, fun _ => ask_go92 hc ⟨t1.o, nxB t1 (by omega) (fun S2 f2 b2 t2 => ⟨⟨by omega, by omega⟩, fun q S3 hq e3 => ?_⟩)⟩⟩
  obtain ⟨hqx, f3, g3, t3, b3⟩ := x_new t2 hq e3
  have f13 := (f1.trans f2).trans f3
  refine ⟨t3.o, ask_sumO h2 t3 (hx.eC he f13) ho (by omega) (fun eb S4 f4 b4 t4 r4 e4 => ?_)⟩
  have q4 := f4.2.2.2 _ _ hqx g3
  refine x_init11B q4 (by omega) (fun S5 f5 g5 b5 => ?_)
  have t5 := t4.frW f5 (fun z => hqx z.symm)
  have hq1 : gI S1 q = none := (f2.W.liv t2.ne) _ hq
  have hqS : gI S q = none := (f1.W.liv t1.ne) _ hq1
  have f15 : frX S S5 x0 := (frW.trans (f13.trans f4).W f5 (fun a z => Or.inr (by rw [z]; exact hqS))).X
  obtain ⟨fsx, hxo⟩ := hx.o
  refine hK q S5 f15 t5 (yR.cmp r1 r4 (fun a z => z) (f13.W.liv t3.ne) (fun a y c w => ?_) (fun a y c w => ?_) hqS g5 hc h.1.2 h2.1.2 (by unfold dpt; omega) (by unfold dA; omega))
  · have ax : a ≠ x0 := fun zz => by
      rw [zz] at c w
      rcases c with c | ⟨gs, c⟩
      · exact hx.ne c
      · rw [y2, c] at w
        cases w
    have aq : a ≠ q := fun zz => by rw [zz, hq1] at w; cases w
    exact f5.2.2.2 _ _ aq (((f2.trans f3).trans f4).2.2.2 _ _ ax w)
  · have aq : a ≠ q := fun zz => by
      rw [zz] at c w
      rcases c with c | ⟨gs, c⟩
      · rw [g3] at c; cases c
      · rw [q4, c] at w
        cases w
    exact f5.2.2.2 _ _ aq w
end ASK
