/-! PURE: text(): or, component (printed by gen/mkei.py out of and) -/
section EITHER
variable {b : Int → Int} {n lim kd p o : Int}
def XSei (b : Int → Int) (n lim kd p o : Int) (res : RSm) : Prop := YS w_X3_either 20 500 70 400 (dA o + 2) b n lim kd p o res
theorem both_inF {f pl : Int} {S : St} {x0 : Nat} {X : Nat → St → Prop} {G : Nat → St → Prop} (h : XSboth b n lim kd p o (.inl (f, pl))) (ho : 0 ≤ o ∧ o ≤ 8) (hx : xtk S x0 b n p o kd) (he : eC S) (hB : 40 * (n - p) + 60 ≤ fI S 200 ∧ 2000 * (n - p) + 300 ≤ fI S 201) (hX : ∀ q S', frX S S' x0 → eW S' q f pl → X q S') :
    ∃ u v : Int, ((0 ≤ u ∧ u ≤ fI S 200) ∧ 0 ≤ v ∧ v ≤ fI S 201) ∧ w_X3_both x0 (bset S u v) (fun e r S1 => ∀ S2 : St, S2 = bset S1 (fI S 200 - u) (fI S 201 - v) → ((∀ q : Nat, e = some q → X q S2) ∧ (e = none → ∃ q : Nat, r = some q ∧ G q S2))) :=
  YS.fB (X := X) (G := G) h hx he (by omega) (by omega) hX
theorem both_inO {ψ : (Int → Int) → Int} {p' : Int} {S : St} {x0 : Nat} {X : Nat → St → Prop} {G : Nat → St → Prop} (h : XSboth b n lim kd p o (.inr (ψ, p'))) (ho : 0 ≤ o ∧ o ≤ 8) (hx : xtk S x0 b n p o kd) (he : eC S) (hB : 40 * (p' - p) - 25 ≤ fI S 200 ∧ 2000 * (p' - p) - 1000 ≤ fI S 201)
    (hG : ∀ e S', frX S S' x0 → (fI S' 200 = fI S 200 - (40 * (p' - p) - 25) ∧ fI S' 201 = fI S 201 - (2000 * (p' - p) - 1000)) → xtk S' x0 b n p' o kd → yR S S' (dA o + 1) lim e ψ → eC S' → G e S') :
    ∃ u v : Int, ((0 ≤ u ∧ u ≤ fI S 200) ∧ 0 ≤ v ∧ v ≤ fI S 201) ∧ w_X3_both x0 (bset S u v) (fun e r S1 => ∀ S2 : St, S2 = bset S1 (fI S 200 - u) (fI S 201 - v) → ((∀ q : Nat, e = some q → X q S2) ∧ (e = none → ∃ q : Nat, r = some q ∧ G q S2))) :=
  YS.okB (X := X) (G := G) h hx he (by omega) (by omega) hG
theorem XSboth.bd {ψ : (Int → Int) → Int} {p' : Int} (h : XSboth b n lim kd p o (.inr (ψ, p'))) : (p < p' ∧ p' ≤ n) ∧ okB lim ψ := h.1
/-- the loop of or -/
def XeL (b : Int → Int) (n lim kd : Int) (ψ : (Int → Int) → Int) (p o : Int) (res : RSm) : Prop := match res with
  | .inl (f, pl) => ∃ m : Nat, ∀ (S0 S : St) (x0 q : Nat) (k : Int) (K : Option Nat → Option Nat → St → Prop) (fs0 : List PV), gI S0 x0 = some (.inr (.inl (3, fs0))) → xtk S x0 b n p o kd → frX S0 S x0 → LI S0 S (dA o + 1) lim q k 22 ψ → (1 ≤ k ∧ k ≤ p) → (40 * (n - p) + 60 ≤ fI S 200 ∧ 2000 * (n - p) + 300 ≤ fI S 201) → (∀ q S', frX S0 S' x0 → eW S' q f pl → K (some q) none S') → l_X3_either_17 x0 q K (fun zS => j_X3_either_43 q zS K) m S
  | .inr (ψ', p') => ((p ≤ p' ∧ p' ≤ n) ∧ okB lim ψ') ∧ ∃ m : Nat, ∀ (S0 S : St) (x0 q : Nat) (k : Int) (K : Option Nat → Option Nat → St → Prop) (fs0 : List PV), gI S0 x0 = some (.inr (.inl (3, fs0))) → xtk S x0 b n p o kd → frX S0 S x0 → LI S0 S (dA o + 1) lim q k 22 ψ → (1 ≤ k ∧ k ≤ p) → (40 * (p' - p) + 1 ≤ fI S 200 ∧ 2000 * (p' - p) + 2 ≤ fI S 201) → (∀ e S', frX S0 S' x0 → xtk S' x0 b n p' o kd → yR S0 S' (dA o + 2) lim e ψ' → K none (some e) S') → l_X3_either_17 x0 q K (fun zS => j_X3_either_43 q zS K) m S
theorem eL_stopX {ψ : (Int → Int) → Int} (h : ¬ isOr b n p) (hp : 0 ≤ p ∧ p ≤ n) (hok : okB lim ψ) : XeL b n lim kd ψ p o (.inr (ψ, p)) := by
  refine ⟨⟨⟨Int.le_refl _, hp.2⟩, hok⟩, 1, fun S0 S x0 q k K fs0 h0 ht hf hC hk hB hK => ?_⟩
  have hl : liv S0 S := hf.W.liv ht.ne
  have h300 := ht.n300
  have ht' := ht
  obtain ⟨hp', tp, num, h1, h2, h3⟩ := ht'
  refine ⟨_, _, h2, rfl, fun _ => ⟨fun _ => ?_, fun z => absurd (sX_or.mp z) h⟩⟩
  exact LI.fin hC (by omega) (Or.inr ⟨rfl, rfl⟩) hl (by omega) (fun e S' f1 r1 => hK e S' (frW.trans hf.W f1 (fun _ z => z.elim)).X (ht.frW f1 id) r1)
theorem eL_faultX {ψ : (Int → Int) → Int} {f pl : Int} (ho : 0 ≤ o ∧ o ≤ 8) (ht : isOr b n p) (h : XSboth b n lim kd (te b n p) o (.inl (f, pl))) : XeL b n lim kd ψ p o (.inl (f, pl)) := by
  refine ⟨1, fun S0 S x0 q k K fs0 h0 hx hf hC hk hB hK => ?_⟩
  have h300 := hx.n300
  have tg := te_gt (b := b) (n := n) (p := p) h300.2.1 (by rw [ht.1]; decide)
  have hx' := hx
  obtain ⟨hp', tp, num, h1, h2, h3⟩ := hx'
  refine ⟨_, _, h2, rfl, fun _ => ⟨fun z => absurd (sX_or.mpr ht) z, fun _ => ⟨hx.o, nxB hx (by omega) (fun S1 f1 b1 t1 => ⟨t1.o, both_inF h ho t1 (hx.eC hC.e f1) (by omega) (fun q' S2 f2 w2 => ?_)⟩)⟩⟩⟩
  exact hK q' S2 (hf.trans (f1.trans f2)) w2
theorem eL_goX {ψ χ : (Int → Int) → Int} {p2 : Int} {res : RSm} (ho : 0 ≤ o ∧ o ≤ 8) (hpn : 0 ≤ p ∧ p ≤ n) (ht : isOr b n p) (h : XSboth b n lim kd (te b n p) o (.inr (χ, p2))) (h2 : XeL b n lim kd (fun v => twoV 22 (ψ v) (χ v)) p2 o res) : XeL b n lim kd ψ p o res := by
  have tg := te_gt (b := b) (n := n) (p := p) hpn.2 (by rw [ht.1]; decide)
  have hbd := h.bd
  have core : ∀ (m : Nat) (S0 S : St) (x0 q : Nat) (k : Int) (K : Option Nat → Option Nat → St → Prop) (fs0 : List PV), gI S0 x0 = some (.inr (.inl (3, fs0))) → xtk S x0 b n p o kd → frX S0 S x0 → LI S0 S (dA o + 1) lim q k 22 ψ → (1 ≤ k ∧ k ≤ p) → (40 * (p2 - te b n p) - 24 ≤ fI S 200 ∧ 2000 * (p2 - te b n p) - 550 ≤ fI S 201) →
      (∀ S', xtk S' x0 b n p2 o kd → frX S0 S' x0 → LI S0 S' (dA o + 1) lim q (k + 1) 22 (fun v => twoV 22 (ψ v) (χ v)) → (fI S' 200 = fI S 200 - (40 * (p2 - te b n p) - 24) ∧ fI S' 201 = fI S 201 - (2000 * (p2 - te b n p) - 550)) → l_X3_either_17 x0 q K (fun zS => j_X3_either_43 q zS K) m S') → l_X3_either_17 x0 q K (fun zS => j_X3_either_43 q zS K) (m + 1) S := by
    intro m S0 S x0 q k K fs0 h0 hx hf hC hk hB hG
    have h300 := hx.n300
    have hx' := hx
    obtain ⟨hp', tp, num, z1, z2, z3⟩ := hx'
    refine ⟨_, _, z2, rfl, fun _ => ⟨fun z => absurd (sX_or.mpr ht) z, fun _ => ⟨hx.o, nxB hx (by omega) (fun S1 f1 b1 t1 => ⟨t1.o, both_inO h ho t1 (hx.eC hC.e f1) (by omega) (fun e S2 f2 b2 t2 r2 e2 => ?_)⟩)⟩⟩⟩
    obtain ⟨fs, hxo⟩ := hx.o
    obtain ⟨fs1, hx1⟩ := t1.o
    have c1 := hC.fr f1.W h0 hxo
    have c2 := c1.fr f2.W h0 hx1
    have l1 : liv S0 S1 := (hf.trans f1).W.liv t1.ne
    have l2 : liv S1 S2 := f2.W.liv t2.ne
    refine ⟨c2.o, x_l_addB c1 f2.W h0 hx1 l1 r2 hbd.2 (by omega) l2 (by omega) (fun S3 f3 b3 c3 => ?_)⟩
    rw [if_neg (show ¬ (k = 0) by omega)] at c3
    have nx0 : ¬ gI S0 x0 = none := ne_some h0
    exact hG S3 (t2.frW f3 nx0) (frW.trans ((hf.trans f1).trans f2).W f3 (fun a z => Or.inr z)).X c3 (by omega)
  match res, h2 with
  | .inl (f, pl), ⟨m, h2⟩ =>
    exact ⟨m + 1, fun S0 S x0 q k K fs0 h0 hx hf hC hk hB hK => core m S0 S x0 q k K fs0 h0 hx hf hC hk (by omega) (fun S' t' f' c' b' => h2 S0 S' x0 q (k + 1) K fs0 h0 t' f' c' (by omega) (by omega) hK)⟩
  | .inr (ψ', p'), ⟨⟨hp1, hok⟩, m, h2⟩ =>
    exact ⟨⟨by omega, hok⟩, m + 1, fun S0 S x0 q k K fs0 h0 hx hf hC hk hB hK => core m S0 S x0 q k K fs0 h0 hx hf hC hk (by omega) (fun S' t' f' c' b' => h2 S0 S' x0 q (k + 1) K fs0 h0 t' f' c' (by omega) (by omega) hK)⟩
theorem ei_faultX {f pl : Int} (ho : 0 ≤ o ∧ o ≤ 8) (h : XSboth b n lim kd p o (.inl (f, pl))) : XSei b n lim kd p o (.inl (f, pl)) := by
  intro S x0 K hx he hB hK
  have h300 := hx.n300
  refine ⟨⟨by omega, by omega⟩, fun q S1 hq e1 => ?_⟩
  obtain ⟨hqx, f1, g1, t1, b1⟩ := x_new hx hq e1
  refine x_liB (S0 := S) (D := 0) (lim := lim) (op := 22) (ψ := fun _ => 0) g1 hq (by omega) (fun S2 f2 b2 c2 => ?_)
  have t2 := t1.frW f2 (fun z => hqx z.symm)
  have f12 : frX S S2 x0 := (frW.trans f1.W f2 (fun a z => Or.inr (by rw [z]; exact hq))).X
  exact ⟨t2.o, both_inF h ho t2 c2.e (by omega) (fun q' S3 f3 w3 => hK q' S3 (f12.trans f3) w3)⟩
theorem ei_okX {ψ : (Int → Int) → Int} {p1 : Int} {res : RSm} (ho : 0 ≤ o ∧ o ≤ 8) (h : XSboth b n lim kd p o (.inr (ψ, p1))) (h2 : XeL b n lim kd ψ p1 o res) : XSei b n lim kd p o res := by
  have hbd := h.bd
  have core : ∀ (S : St) (x0 : Nat) (K : Option Nat → Option Nat → St → Prop), xtk S x0 b n p o kd → eC S → (40 * (p1 - p) - 23 ≤ fI S 200 ∧ 2000 * (p1 - p) - 547 ≤ fI S 201) →
      (∀ (S' : St) (q : Nat) (fs0 : List PV), gI S x0 = some (.inr (.inl (3, fs0))) → xtk S' x0 b n p1 o kd → frX S S' x0 → LI S S' (dA o + 1) lim q 1 22 ψ → (fI S' 200 = fI S 200 - (40 * (p1 - p) - 23) ∧ fI S' 201 = fI S 201 - (2000 * (p1 - p) - 547)) → ∃ m, l_X3_either_17 x0 q K (fun zS => j_X3_either_43 q zS K) m S') → w_X3_either x0 S K := by
    intro S x0 K hx he hB hG
    have h300 := hx.n300
    refine ⟨⟨by omega, by omega⟩, fun q S1 hq e1 => ?_⟩
    obtain ⟨hqx, f1, g1, t1, b1⟩ := x_new hx hq e1
    refine x_liB (S0 := S) (D := dA o + 1) (lim := lim) (op := 22) (ψ := ψ) g1 hq (by omega) (fun S2 f2 b2 c2 => ?_)
    have t2 := t1.frW f2 (fun z => hqx z.symm)
    have f12 : frX S S2 x0 := (frW.trans f1.W f2 (fun a z => Or.inr (by rw [z]; exact hq))).X
    refine ⟨t2.o, both_inO h ho t2 c2.e (by omega) (fun e S3 f3 b3 t3 r3 e3 => ?_)⟩
    obtain ⟨fs0, h0⟩ := hx.o
    obtain ⟨fs2, hx2⟩ := t2.o
    have c3 := c2.fr f3.W h0 hx2
    refine ⟨c3.o, x_l_addB c2 f3.W h0 hx2 (f12.W.liv t2.ne) r3 hbd.2 (by omega) (f3.W.liv t3.ne) (by omega) (fun S4 f4 b4 c4 => ?_)⟩
    rw [if_pos rfl] at c4
    exact hG S4 q fs0 h0 (t3.frW f4 (ne_some h0)) (frW.trans (f12.trans f3).W f4 (fun a z => Or.inr z)).X c4 (by omega)
  match res, h2 with
  | .inl (f, pl), ⟨m, h2⟩ =>
    intro S x0 K hx he hB hK
    have h300 := hx.n300
    exact core S x0 K hx he (by omega) (fun S' q fs0 h0 t' f' c' b' => ⟨m, h2 S S' x0 q 1 K fs0 h0 t' f' c' (by omega) (by omega) hK⟩)
  | .inr (ψ', p'), ⟨⟨hp1, hok⟩, m, h2⟩ =>
    refine ⟨⟨by omega, hok⟩, fun S x0 K hx he hB hK => ?_⟩
    have h300 := hx.n300
    exact core S x0 K hx he (by omega) (fun S' q fs0 h0 t' f' c' b' => ⟨m, h2 S S' x0 q 1 K fs0 h0 t' f' c' (by omega) (by omega) hK⟩)
end EITHER
