/-! PURE: text(): and, or, component -/
theorem x_liB {S0 S : St} {q D : Nat} {lim op : Int} {ψ : (Int → Int) → Int} {G : St → Prop} (h : gI S q = some (.inr (.inl (14, [.inl 0, .inr (.inr none), .inl 0])))) (h0 : gI S0 q = none) (hB : 0 ≤ fI S 200 ∧ 0 ≤ fI S 201)
    (hG : ∀ S', frW S S' (fun a => a = q) → (fI S' 200 = fI S 200 ∧ fI S' 201 = fI S 201) → LI S0 S' D lim q 0 op ψ → G S') : ∃ u v : Int, ((0 ≤ u ∧ u ≤ fI S 200) ∧ 0 ≤ v ∧ v ≤ fI S 201) ∧ w_J2_init q (bset S u v) (fun S1 => ∀ S2 : St, S2 = bset S1 (fI S 200 - u) (fI S 201 - v) → G S2) := by
  refine ⟨0, 0, ⟨⟨Int.le_refl _, hB.1⟩, Int.le_refl _, hB.2⟩, x_li_init (S := bset S 0 0) h (by rw [bset_200, bset_201]; omega) (fun e0 S1 c1 c2 f1 g1 S2 e2 => ?_)⟩
  have f2 : frW S S2 (fun a => a = q) := by rw [e2]; exact frW.bs f1
  have hq : e0 ≠ q := fun z => by rw [z] at c2; have := c2.symm.trans h; cases this
  have c3 : gI S2 e0 = _ := f2.2.2.2 _ _ hq c2
  have r2 : rI S2 500 0 = some e0 := by rw [f2.2.2.1]; exact c1
  have g2 : gI S2 q = some (.inr (.inl (14, [.inl 0, .inr (.inr (some e0)), .inl 0]))) := by rw [e2]; exact g1
  exact hG S2 f2 (by rw [e2, bset_200, bset_201]; omega) ⟨e0, fun _ => 0, fun _ => none, fun _ => ψ, fun _ => ψ, ⟨⟨e0, r2, c3⟩, 0, _, g2, c3, by omega, fun _ => r2, fun i i0 i1 => by omega⟩, ⟨h0, fun z => absurd r2 z⟩, ⟨(fun a y w => by cases w), (fun a y w => by cases w), rfl, rfl⟩, fun i i0 i1 => by omega, fun z => by omega, fun i i0 i1 => by omega, fun z => by omega⟩
theorem x_l_addB {S0 Si S : St} {q e D x0 : Nat} {lim k op : Int} {ψ χ : (Int → Int) → Int} {fs0 fs1 : List PV} {G : St → Prop} (hC : LI S0 Si D lim q k op ψ) (f : frW Si S (fun a => a = x0)) (h0 : gI S0 x0 = some (.inr (.inl (3, fs0)))) (hx : gI Si x0 = some (.inr (.inl (3, fs1)))) (hl : liv S0 Si)
    (hR : yR Si S D lim e χ) (ok : okB lim χ) (hk : 0 ≤ k ∧ k < 300) (hl2 : liv Si S) (hB : 1 ≤ fI S 200 ∧ 450 ≤ fI S 201)
    (hG : ∀ S', frW S S' (fun a => gI S0 a = none) → (fI S' 200 = fI S 200 - 1 ∧ fI S' 201 = fI S 201 - 450) → LI S0 S' D lim q (k + 1) op (if k = 0 then χ else fun v => twoV op (ψ v) (χ v)) → G S') :
    ∃ u v : Int, ((0 ≤ u ∧ u ≤ fI S 200) ∧ 0 ≤ v ∧ v ≤ fI S 201) ∧ w_J2_add q e (bset S u v) (fun r S1 => (r = 0 ∨ r = 1) → ∀ S2 : St, S2 = bset S1 (fI S 200 - u) (fI S 201 - v) → G S2) := by
  refine ⟨1, 450, ⟨⟨by omega, hB.1⟩, by omega, hB.2⟩, x_l_add (S := bset S 1 450) hC (frW.br f) h0 hx hl hR ok hk hl2 (by rw [bset_200, bset_201]; omega) (fun S1 f1 c1 _ S2 e2 => ?_)⟩
  subst e2
  exact hG _ (frW.bs f1) (by rw [bset_200, bset_201]; exact ⟨rfl, rfl⟩) c1
section BOTH
variable {b : Int → Int} {n lim kd p o : Int}
def XSboth (b : Int → Int) (n lim kd p o : Int) (res : RSm) : Prop := YS w_X3_both 25 1000 60 300 (dA o + 1) b n lim kd p o res
theorem ask_inF {f pl : Int} {S : St} {x0 : Nat} {X : Nat → St → Prop} {G : Nat → St → Prop} (h : XSask b n lim kd p o (.inl (f, pl))) (ho : 0 ≤ o ∧ o ≤ 8) (hx : xtk S x0 b n p o kd) (he : eC S) (hB : 40 * (n - p) + 50 ≤ fI S 200 ∧ 2000 * (n - p) + 250 ≤ fI S 201) (hX : ∀ q S', frX S S' x0 → eW S' q f pl → X q S') :
    ∃ u v : Int, ((0 ≤ u ∧ u ≤ fI S 200) ∧ 0 ≤ v ∧ v ≤ fI S 201) ∧ ∃ d39 : Nat, d39 ≤ 10 ∧ w_X3_ask d39 x0 (bset S u v) (fun e r S1 => ∀ S2 : St, S2 = bset S1 (fI S 200 - u) (fI S 201 - v) → ((∀ q : Nat, e = some q → X q S2) ∧ (e = none → ∃ q : Nat, r = some q ∧ G q S2))) := by
  obtain ⟨u, v, hb, hw⟩ := (h 10 (by unfold dA; omega)).fB (X := X) (G := G) hx he (by omega) (by omega) hX
  exact ⟨u, v, hb, 10, Nat.le_refl _, hw⟩
theorem ask_inO {ψ : (Int → Int) → Int} {p' : Int} {S : St} {x0 : Nat} {X : Nat → St → Prop} {G : Nat → St → Prop} (h : XSask b n lim kd p o (.inr (ψ, p'))) (ho : 0 ≤ o ∧ o ≤ 8) (hx : xtk S x0 b n p o kd) (he : eC S) (hB : 40 * (p' - p) - 30 ≤ fI S 200 ∧ 2000 * (p' - p) - 1500 ≤ fI S 201)
    (hG : ∀ e S', frX S S' x0 → (fI S' 200 = fI S 200 - (40 * (p' - p) - 30) ∧ fI S' 201 = fI S 201 - (2000 * (p' - p) - 1500)) → xtk S' x0 b n p' o kd → yR S S' (dA o) lim e ψ → eC S' → G e S') :
    ∃ u v : Int, ((0 ≤ u ∧ u ≤ fI S 200) ∧ 0 ≤ v ∧ v ≤ fI S 201) ∧ ∃ d39 : Nat, d39 ≤ 10 ∧ w_X3_ask d39 x0 (bset S u v) (fun e r S1 => ∀ S2 : St, S2 = bset S1 (fI S 200 - u) (fI S 201 - v) → ((∀ q : Nat, e = some q → X q S2) ∧ (e = none → ∃ q : Nat, r = some q ∧ G q S2))) := by
  obtain ⟨u, v, hb, hw⟩ := (h 10 (by unfold dA; omega)).okB (X := X) (G := G) hx he (by omega) (by omega) hG
  exact ⟨u, v, hb, 10, Nat.le_refl _, hw⟩
theorem XSask.bd {ψ : (Int → Int) → Int} {p' : Int} (h : XSask b n lim kd p o (.inr (ψ, p'))) : (p < p' ∧ p' ≤ n) ∧ okB lim ψ := (h (dA o) (Nat.le_refl _)).1
/-- the loop of and -/
def XbL (b : Int → Int) (n lim kd : Int) (ψ : (Int → Int) → Int) (p o : Int) (res : RSm) : Prop := match res with
  | .inl (f, pl) => ∃ m : Nat, ∀ (S0 S : St) (x0 q : Nat) (k : Int) (K : Option Nat → Option Nat → St → Prop) (fs0 : List PV), gI S0 x0 = some (.inr (.inl (3, fs0))) → xtk S x0 b n p o kd → frX S0 S x0 → LI S0 S (dA o) lim q k 21 ψ → (1 ≤ k ∧ k ≤ p) → (40 * (n - p) + 50 ≤ fI S 200 ∧ 2000 * (n - p) + 250 ≤ fI S 201) → (∀ q S', frX S0 S' x0 → eW S' q f pl → K (some q) none S') → l_X3_both_17 x0 q K (fun zS => j_X3_both_43 q zS K) m S
  | .inr (ψ', p') => ((p ≤ p' ∧ p' ≤ n) ∧ okB lim ψ') ∧ ∃ m : Nat, ∀ (S0 S : St) (x0 q : Nat) (k : Int) (K : Option Nat → Option Nat → St → Prop) (fs0 : List PV), gI S0 x0 = some (.inr (.inl (3, fs0))) → xtk S x0 b n p o kd → frX S0 S x0 → LI S0 S (dA o) lim q k 21 ψ → (1 ≤ k ∧ k ≤ p) → (40 * (p' - p) + 1 ≤ fI S 200 ∧ 2000 * (p' - p) + 2 ≤ fI S 201) → (∀ e S', frX S0 S' x0 → xtk S' x0 b n p' o kd → yR S0 S' (dA o + 1) lim e ψ' → K none (some e) S') → l_X3_both_17 x0 q K (fun zS => j_X3_both_43 q zS K) m S
theorem bL_stopX {ψ : (Int → Int) → Int} (h : ¬ isAnd b n p) (hp : 0 ≤ p ∧ p ≤ n) (hok : okB lim ψ) : XbL b n lim kd ψ p o (.inr (ψ, p)) := by
  refine ⟨⟨⟨Int.le_refl _, hp.2⟩, hok⟩, 1, fun S0 S x0 q k K fs0 h0 ht hf hC hk hB hK => ?_⟩
  have hl : liv S0 S := hf.W.liv ht.ne
  have h300 := ht.n300
  have ht' := ht
  obtain ⟨hp', tp, num, h1, h2, h3⟩ := ht'
  refine ⟨_, _, h2, rfl, fun _ => ⟨fun _ => ?_, fun z => absurd (sX_and.mp z) h⟩⟩
  exact LI.fin hC (by omega) (Or.inl ⟨rfl, rfl⟩) hl (by omega) (fun e S' f1 r1 => hK e S' (frW.trans hf.W f1 (fun _ z => z.elim)).X (ht.frW f1 id) r1)
theorem bL_faultX {ψ : (Int → Int) → Int} {f pl : Int} (ho : 0 ≤ o ∧ o ≤ 8) (ht : isAnd b n p) (h : XSask b n lim kd (te b n p) o (.inl (f, pl))) : XbL b n lim kd ψ p o (.inl (f, pl)) := by
  refine ⟨1, fun S0 S x0 q k K fs0 h0 hx hf hC hk hB hK => ?_⟩
  have h300 := hx.n300
  have tg := te_gt (b := b) (n := n) (p := p) h300.2.1 (by rw [ht.1]; decide)
  have hx' := hx
  obtain ⟨hp', tp, num, h1, h2, h3⟩ := hx'
  refine ⟨_, _, h2, rfl, fun _ => ⟨fun z => absurd (sX_and.mpr ht) z, fun _ => ⟨hx.o, nxB hx (by omega) (fun S1 f1 b1 t1 => ⟨t1.o, ask_inF h ho t1 (hx.eC hC.e f1) (by omega) (fun q' S2 f2 w2 => ?_)⟩)⟩⟩⟩
  exact hK q' S2 (hf.trans (f1.trans f2)) w2
theorem bL_goX {ψ χ : (Int → Int) → Int} {p2 : Int} {res : RSm} (ho : 0 ≤ o ∧ o ≤ 8) (hpn : 0 ≤ p ∧ p ≤ n) (ht : isAnd b n p) (h : XSask b n lim kd (te b n p) o (.inr (χ, p2))) (h2 : XbL b n lim kd (fun v => twoV 21 (ψ v) (χ v)) p2 o res) : XbL b n lim kd ψ p o res := by
  have tg := te_gt (b := b) (n := n) (p := p) hpn.2 (by rw [ht.1]; decide)
  have hbd := h.bd
  have core : ∀ (m : Nat) (S0 S : St) (x0 q : Nat) (k : Int) (K : Option Nat → Option Nat → St → Prop) (fs0 : List PV), gI S0 x0 = some (.inr (.inl (3, fs0))) → xtk S x0 b n p o kd → frX S0 S x0 → LI S0 S (dA o) lim q k 21 ψ → (1 ≤ k ∧ k ≤ p) → (40 * (p2 - te b n p) - 29 ≤ fI S 200 ∧ 2000 * (p2 - te b n p) - 1050 ≤ fI S 201) →
      (∀ S', xtk S' x0 b n p2 o kd → frX S0 S' x0 → LI S0 S' (dA o) lim q (k + 1) 21 (fun v => twoV 21 (ψ v) (χ v)) → (fI S' 200 = fI S 200 - (40 * (p2 - te b n p) - 29) ∧ fI S' 201 = fI S 201 - (2000 * (p2 - te b n p) - 1050)) → l_X3_both_17 x0 q K (fun zS => j_X3_both_43 q zS K) m S') → l_X3_both_17 x0 q K (fun zS => j_X3_both_43 q zS K) (m + 1) S := by
    intro m S0 S x0 q k K fs0 h0 hx hf hC hk hB hG
    have h300 := hx.n300
    have hx' := hx
    obtain ⟨hp', tp, num, z1, z2, z3⟩ := hx'
    refine ⟨_, _, z2, rfl, fun _ => ⟨fun z => absurd (sX_and.mpr ht) z, fun _ => ⟨hx.o, nxB hx (by omega) (fun S1 f1 b1 t1 => ⟨t1.o, ask_inO h ho t1 (hx.eC hC.e f1) (by omega) (fun e S2 f2 b2 t2 r2 e2 => ?_)⟩)⟩⟩⟩
    obtain ⟨fs, hxo⟩ := hx.o
    obtain ⟨fs1, hx1⟩ := t1.o
    have c1 := hC.fr f1.W h0 hxo
    have c2 := c1.fr f2.W h0 hx1
    have l1 : liv S0 S1 := (hf.trans f1).W.liv t1.ne
    have l2 : liv S1 S2 := f2.W.liv t2.ne
    refine ⟨c2.o, x_l_addB c1 f2.W h0 hx1 l1 r2 hbd.2 (by omega) l2 (by omega) (fun S3 f3 b3 c3 => ?_)⟩
    rw [if_neg (show ¬ (k = 0) by omega)] at c3
    have nx0 : ¬ gI S0 x0 = none := ne_some h0
    exact hG S3 (t2.frW f3 nx0) (frW.trans ((hf.trans f1).trans f2).W f3 (fun a z => Or.inr z)).X c3 (by omega)
  match res, h2 with
  | .inl (f, pl), ⟨m, h2⟩ =>
    exact ⟨m + 1, fun S0 S x0 q k K fs0 h0 hx hf hC hk hB hK => core m S0 S x0 q k K fs0 h0 hx hf hC hk (by omega) (fun S' t' f' c' b' => h2 S0 S' x0 q (k + 1) K fs0 h0 t' f' c' (by omega) (by omega) hK)⟩
  | .inr (ψ', p'), ⟨⟨hp1, hok⟩, m, h2⟩ =>
    exact ⟨⟨by omega, hok⟩, m + 1, fun S0 S x0 q k K fs0 h0 hx hf hC hk hB hK => core m S0 S x0 q k K fs0 h0 hx hf hC hk (by omega) (fun S' t' f' c' b' => h2 S0 S' x0 q (k + 1) K fs0 h0 t' f' c' (by omega) (by omega) hK)⟩
theorem both_faultX {f pl : Int} (ho : 0 ≤ o ∧ o ≤ 8) (h : XSask b n lim kd p o (.inl (f, pl))) : XSboth b n lim kd p o (.inl (f, pl)) := by
  intro S x0 K hx he hB hK
  have h300 := hx.n300
  refine ⟨⟨by omega, by omega⟩, fun q S1 hq e1 => ?_⟩
  obtain ⟨hqx, f1, g1, t1, b1⟩ := x_new hx hq e1
  refine x_liB (S0 := S) (D := 0) (lim := lim) (op := 21) (ψ := fun _ => 0) g1 hq (by omega) (fun S2 f2 b2 c2 => ?_)
  have t2 := t1.frW f2 (fun z => hqx z.symm)
  have f12 : frX S S2 x0 := (frW.trans f1.W f2 (fun a z => Or.inr (by rw [z]; exact hq))).X
  exact ⟨t2.o, ask_inF h ho t2 c2.e (by omega) (fun q' S3 f3 w3 => hK q' S3 (f12.trans f3) w3)⟩
theorem both_okX {ψ : (Int → Int) → Int} {p1 : Int} {res : RSm} (ho : 0 ≤ o ∧ o ≤ 8) (h : XSask b n lim kd p o (.inr (ψ, p1))) (h2 : XbL b n lim kd ψ p1 o res) : XSboth b n lim kd p o res := by
  have hbd := h.bd
  have core : ∀ (S : St) (x0 : Nat) (K : Option Nat → Option Nat → St → Prop), xtk S x0 b n p o kd → eC S → (40 * (p1 - p) - 28 ≤ fI S 200 ∧ 2000 * (p1 - p) - 1047 ≤ fI S 201) →
      (∀ (S' : St) (q : Nat) (fs0 : List PV), gI S x0 = some (.inr (.inl (3, fs0))) → xtk S' x0 b n p1 o kd → frX S S' x0 → LI S S' (dA o) lim q 1 21 ψ → (fI S' 200 = fI S 200 - (40 * (p1 - p) - 28) ∧ fI S' 201 = fI S 201 - (2000 * (p1 - p) - 1047)) → ∃ m, l_X3_both_17 x0 q K (fun zS => j_X3_both_43 q zS K) m S') → w_X3_both x0 S K := by
    intro S x0 K hx he hB hG
    have h300 := hx.n300
    refine ⟨⟨by omega, by omega⟩, fun q S1 hq e1 => ?_⟩
    obtain ⟨hqx, f1, g1, t1, b1⟩ := x_new hx hq e1
    refine x_liB (S0 := S) (D := dA o) (lim := lim) (op := 21) (ψ := ψ) g1 hq (by omega) (fun S2 f2 b2 c2 => ?_)
    have t2 := t1.frW f2 (fun z => hqx z.symm)
    have f12 : frX S S2 x0 := (frW.trans f1.W f2 (fun a z => Or.inr (by rw [z]; exact hq))).X
    refine ⟨t2.o, ask_inO h ho t2 c2.e (by omega) (fun e S3 f3 b3 t3 r3 e3 => ?_)⟩
    obtain ⟨fs0, h0⟩ := hx.o
    obtain ⟨fs2, hx2⟩ := t2.o
    have c3 := c2.fr f3.W h0 hx2
    refine ⟨c3.o, x_l_addB c2 f3.W h0 hx2 (f12.W.liv t2.ne) r3 hbd.2 (by omega) (f3.W.liv t3.ne) (by omega) (fun S4 f4 b4 c4 => ?_)⟩
    rw [if_pos rfl] at c4
    exact hG S4 q fs0 h0 (t3.frW f4 (ne_some h0)) (frW.trans (f12.trans f3).W f4 (fun a z => Or.inr z)).X c4 (by omega)
  match res, h2 with
  | .inl (f, pl), ⟨m, h2⟩ =>
    intro S x0 K hx he hB hK
    have h300 := hx.n300
    exact core S x0 K hx he (by omega) (fun S' q fs0 h0 t' f' c' b' => ⟨m, h2 S S' x0 q 1 K fs0 h0 t' f' c' (by omega) (by omega) hK⟩)
  | .inr (ψ', p'), ⟨⟨hp1, hok⟩, m, h2⟩ =>
    refine ⟨⟨by omega, hok⟩, fun S x0 K hx he hB hK => ?_⟩
    have h300 := hx.n300
    exact core S x0 K hx he (by omega) (fun S' q fs0 h0 t' f' c' b' => ⟨m, h2 S S' x0 q 1 K fs0 h0 t' f' c' (by omega) (by omega) hK⟩)
end BOTH
