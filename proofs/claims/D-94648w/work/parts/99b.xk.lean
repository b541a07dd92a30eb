/-! PURE: text(): one, product, sum of the component: what a parse answers -/
theorem frX.W {S S' : St} {x0 : Nat} (h : frX S S' x0) : frW S S' (fun a => a = x0) := h
theorem frW.X {S S' : St} {x0 : Nat} (h : frW S S' (fun a => a = x0)) : frX S S' x0 := h
theorem xtk.frW {S S' : St} {x0 : Nat} {P : Nat → Prop} {b : Int → Int} {n p o kd : Int} (h : xtk S x0 b n p o kd) (hf : frW S S' P) (hq : ¬ P x0) : xtk S' x0 b n p o kd := by
  obtain ⟨hp, tp, num, h1, h2, h3⟩ := h
  refine ⟨hp, tp, num, ?_, hf.2.2.2 _ _ hq h2, h3⟩
  unfold hT at h1 ⊢
  rw [hf.2.1, hf.2.2.1]
  exact h1
theorem xtk.n300 {S : St} {x0 : Nat} {b : Int → Int} {n p o kd : Int} (h : xtk S x0 b n p o kd) : 0 ≤ p ∧ p ≤ n ∧ n ≤ 300 := by
  obtain ⟨hp, tp, num, h1, -⟩ := h
  exact ⟨hp.1, hp.2, h1.2.1.2⟩
theorem xtk.eC {S S' : St} {x0 : Nat} {b : Int → Int} {n p o kd : Int} (h : xtk S x0 b n p o kd) (he : eC S) (hf : frX S S' x0) : eC S' := by
  obtain ⟨fs, hx⟩ := h.o
  exact he.fr hf.W (fun a z => (frW.el3 hx he a z).2)
theorem xtk.ne {S : St} {x0 : Nat} {b : Int → Int} {n p o kd : Int} (h : xtk S x0 b n p o kd) : gI S x0 ≠ none := by
  obtain ⟨fs, hx⟩ := h.o
  exact ne_some hx
/-- the depth -/
def dpt (o : Int) (i : Nat) : Nat := (3 * (8 - o)).toNat + 1 + i
def XS (i : Nat) (cl fl : Int) (b : Int → Int) (n lim kd p o : Int) (res : RSm) : Prop := match res with
  | .inl (f, pl) => ∀ (S : St) (x0 d : Nat) (K : Option Nat → Option Nat → St → Prop), dpt o i ≤ d → xtk S x0 b n p o kd → eC S → (40 * (n - p) + fl ≤ fI S 200 ∧ 2000 * (n - p) + 5 * fl ≤ fI S 201) → (∀ q S', frX S S' x0 → eW S' q f pl → K (some q) none S') → w_ps d i x0 S K
  | .inr (φ, p') => ((p < p' ∧ p' ≤ n) ∧ okF lim φ) ∧ ∀ (S : St) (x0 d : Nat) (K : Option Nat → Option Nat → St → Prop), dpt o i ≤ d → xtk S x0 b n p o kd → eC S → (40 * (p' - p) - cl ≤ fI S 200 ∧ 2000 * (p' - p) - 5 * cl ≤ fI S 201) → (∀ e S', frX S S' x0 → xtk S' x0 b n p' o kd → xR S S' (dpt o i) lim e φ → K none (some e) S') → w_ps d i x0 S K
section XSB
variable {i : Nat} {cl fl : Int} {b : Int → Int} {n lim kd p o : Int} {S : St} {x0 d : Nat}
theorem XS.okB {φ : (Int → Int) → Int} {p' : Int} {X : Nat → St → Prop} {G : Nat → St → Prop} (h : XS i cl fl b n lim kd p o (.inr (φ, p'))) (hd : dpt o i ≤ d) (ht : xtk S x0 b n p o kd) (he : eC S) (hcl : 0 ≤ cl ∧ cl ≤ 40) (hB : 40 * (p' - p) - cl ≤ fI S 200 ∧ 2000 * (p' - p) - 5 * cl ≤ fI S 201)
    (hG : ∀ e S', frX S S' x0 → (fI S' 200 = fI S 200 - (40 * (p' - p) - cl) ∧ fI S' 201 = fI S 201 - (2000 * (p' - p) - 5 * cl)) → xtk S' x0 b n p' o kd → xR S S' (dpt o i) lim e φ → eC S' → G e S') :
    ∃ u v : Int, ((0 ≤ u ∧ u ≤ fI S 200) ∧ 0 ≤ v ∧ v ≤ fI S 201) ∧ w_ps d i x0 (bset S u v) (fun e r S1 => ∀ S2 : St, S2 = bset S1 (fI S 200 - u) (fI S 201 - v) → ((∀ q : Nat, e = some q → X q S2) ∧ (e = none → ∃ q : Nat, r = some q ∧ G q S2))) := by
  have hp := h.1.1
  refine ⟨40 * (p' - p) - cl, 2000 * (p' - p) - 5 * cl, ⟨⟨by omega, hB.1⟩, by omega, hB.2⟩, h.2 _ _ _ _ hd ht.bs he (by rw [bset_200, bset_201]; omega) (fun e S1 f1 t1 r1 S2 e2 => ?_)⟩
  subst e2
  exact ⟨(fun q z => by cases z), fun _ => ⟨e, rfl, hG e _ f1.bs (by rw [bset_200, bset_201]; omega) t1.bs r1 (ht.eC he f1.bs)⟩⟩
theorem XS.fB {f pl : Int} {X : Nat → St → Prop} {G : Nat → St → Prop} (h : XS i cl fl b n lim kd p o (.inl (f, pl))) (hd : dpt o i ≤ d) (ht : xtk S x0 b n p o kd) (he : eC S) (hfl : 0 ≤ fl) (hB : 40 * (n - p) + fl ≤ fI S 200 ∧ 2000 * (n - p) + 5 * fl ≤ fI S 201)
    (hX : ∀ q S', frX S S' x0 → eW S' q f pl → X q S') :
    ∃ u v : Int, ((0 ≤ u ∧ u ≤ fI S 200) ∧ 0 ≤ v ∧ v ≤ fI S 201) ∧ w_ps d i x0 (bset S u v) (fun e r S1 => ∀ S2 : St, S2 = bset S1 (fI S 200 - u) (fI S 201 - v) → ((∀ q : Nat, e = some q → X q S2) ∧ (e = none → ∃ q : Nat, r = some q ∧ G q S2))) := by
  have hp := ht.n300
  refine ⟨40 * (n - p) + fl, 2000 * (n - p) + 5 * fl, ⟨⟨by omega, hB.1⟩, by omega, hB.2⟩, h _ _ _ _ hd ht.bs he (by rw [bset_200, bset_201]; omega) (fun q S1 f1 w1 S2 e2 => ?_)⟩
  subst e2
  exact ⟨(fun q' z => by cases z; exact hX q _ f1.bs w1), fun z => by cases z⟩
end XSB
theorem x_addB {S0 Si S : St} {q e D x0 : Nat} {lim k t : Int} {φ χ : (Int → Int) → Int} {fs0 fs1 : List PV} {G : St → Prop} (hC : CH S0 Si D lim q k φ) (f : frW Si S (fun a => a = x0)) (h0 : gI S0 x0 = some (.inr (.inl (3, fs0)))) (hx : gI Si x0 = some (.inr (.inl (3, fs1)))) (hl : liv S0 Si) (hl2 : liv Si S)
    (hR : xR Si S D lim e χ) (ok : okF lim χ) (ht : isOp t) (hk : 0 ≤ k ∧ k < 300) (hB : 2 ≤ fI S 200 ∧ 900 ≤ fI S 201)
    (hG : ∀ S', frW S S' (fun a => gI S0 a = none) → (fI S' 200 = fI S 200 - 2 ∧ fI S' 201 = fI S 201 - 900) → CH S0 S' D lim q (k + 1) (fun v => binV (opk t) (φ v) (χ v)) → G S') :
    ∃ u v : Int, ((0 ≤ u ∧ u ≤ fI S 200) ∧ 0 ≤ v ∧ v ≤ fI S 201) ∧ w_X6_add q t e (bset S u v) (fun S1 => ∀ S2 : St, S2 = bset S1 (fI S 200 - u) (fI S 201 - v) → G S2) := by
  refine ⟨2, 900, ⟨⟨by omega, hB.1⟩, by omega, hB.2⟩, x_c_add (S := bset S 2 900) hC (frW.br f) h0 hx hl hl2 hR ok ht hk (by rw [bset_200, bset_201]; omega) (fun S1 f1 c1 S2 e2 => ?_)⟩
  subst e2
  exact hG _ (frW.bs f1) (by rw [bset_200, bset_201]; exact ⟨rfl, rfl⟩) c1
theorem CH.o {S0 S : St} {D q : Nat} {lim k : Int} {φ : (Int → Int) → Int} (h : CH S0 S D lim q k φ) : ∃ fs : List PV, gI S q = some (.inr (.inl (6, fs))) := by
  obtain ⟨e0, m, s, edm, eds, elm, els, g, Φ, χs, tok, ⟨i1, -⟩, -⟩ := h
  exact ⟨_, i1⟩
theorem CH.e {S0 S : St} {D q : Nat} {lim k : Int} {φ : (Int → Int) → Int} (h : CH S0 S D lim q k φ) : eC S := by
  obtain ⟨e0, m, s, edm, eds, elm, els, g, Φ, χs, tok, ⟨-, i2, -⟩, -⟩ := h
  exact i2.1
theorem x_initB {S0 Si S : St} {q e D : Nat} {lim : Int} {φ : (Int → Int) → Int} {fs : List PV} {G : St → Prop} (hq : gI S q = some (.inr (.inl (6, fs)))) (hfs : fs.length = 3) (hq0 : gI S0 q = none) (hl : liv S0 S) (hR : xR Si S D lim e φ) (hli : liv S0 Si) (hqi : gI Si q ≠ none) (hcS : eC S) (hci : ∀ a, rI S 500 0 = some a → gI Si a ≠ none) (ok : okF lim φ) (hB : 2 ≤ fI S 200 ∧ 6 ≤ fI S 201)
    (hG : ∀ S', frW S S' (fun a => a = q) → (fI S' 200 = fI S 200 - 2 ∧ fI S' 201 = fI S 201 - 6) → CH S0 S' D lim q 0 φ → G S') : ∃ u v : Int, ((0 ≤ u ∧ u ≤ fI S 200) ∧ 0 ≤ v ∧ v ≤ fI S 201) ∧ w_X6_init q e (bset S u v) (fun S1 => ∀ S2 : St, S2 = bset S1 (fI S 200 - u) (fI S 201 - v) → G S2) := by
  refine ⟨2, 6, ⟨⟨by omega, hB.1⟩, by omega, hB.2⟩, x_c_init (S := bset S 2 6) hq hfs hq0 hl hR hli hqi hcS hci ok (by rw [bset_200, bset_201]; omega) (fun S1 f1 c1 S2 e2 => ?_)⟩
  subst e2
  exact hG _ (frW.bs f1) (by rw [bset_200, bset_201]; exact ⟨rfl, rfl⟩) c1
/-- the loop of product: the chain q of value φ stands, the token behind p is at hand -/
def XprL (b : Int → Int) (n lim kd : Int) (φ : (Int → Int) → Int) (p o : Int) (res : RSm) : Prop := match res with
  | .inl (f, pl) => ∃ m : Nat, ∀ (S0 S : St) (x0 q d : Nat) (k : Int) (K : Option Nat → Option Nat → St → Prop) (fs0 : List PV), dpt o 0 ≤ d → gI S0 x0 = some (.inr (.inl (3, fs0))) → xtk S x0 b n p o kd → eC S → frX S0 S x0 → CH S0 S (dpt o 0) lim q k φ → (0 ≤ k ∧ k < p) → (40 * (n - p) + 20 ≤ fI S 200 ∧ 2000 * (n - p) + 100 ≤ fI S 201) → (∀ q S', frX S0 S' x0 → eW S' q f pl → K (some q) none S') → l_X3_product_12 (w_ps d) x0 q K m S
  | .inr (φ', p') => ((p ≤ p' ∧ p' ≤ n) ∧ okF lim φ') ∧ ∃ m : Nat, ∀ (S0 S : St) (x0 q d : Nat) (k : Int) (K : Option Nat → Option Nat → St → Prop) (fs0 : List PV), dpt o 0 ≤ d → gI S0 x0 = some (.inr (.inl (3, fs0))) → xtk S x0 b n p o kd → eC S → frX S0 S x0 → CH S0 S (dpt o 0) lim q k φ → (0 ≤ k ∧ k < p) → (40 * (p' - p) ≤ fI S 200 ∧ 2000 * (p' - p) ≤ fI S 201) → (∀ e S', frX S0 S' x0 → xtk S' x0 b n p' o kd → xR S0 S' (dpt o 1) lim e φ' → K none (some e) S') → l_X3_product_12 (w_ps d) x0 q K m S
theorem XprL_stop {b : Int → Int} {n lim kd p o : Int} {φ : (Int → Int) → Int} (h : tk b n p ≠ 42 ∧ tk b n p ≠ 47) (hp : 0 ≤ p ∧ p ≤ n) (hok : okF lim φ) : XprL b n lim kd φ p o (.inr (φ, p)) := by
  refine ⟨⟨⟨Int.le_refl _, hp.2⟩, hok⟩, 1, fun S0 S x0 q d k K fs0 hd h0 ht he hf hC hk hB hK => ?_⟩
  obtain ⟨hp', tp, num, h1, h2, h3⟩ := ht
  have s42 : sX b n p ≠ 42 := fun z => h.1 ((sX_sg (by omega)).mp z)
  have s47 : sX b n p ≠ 47 := fun z => h.2 ((sX_sg (by omega)).mp z)
  have n3 := h1.2.1
  obtain ⟨e, c1, c2⟩ := CH.end (S := bset S 0 0) (hC : CH S0 (bset S 0 0) (dpt o 0) lim q k φ) (by omega)
  refine ⟨_, _, h2, rfl, fun _ => ⟨fun z => absurd z s42, fun _ => ⟨_, _, h2, rfl, fun _ => ⟨fun _ => ⟨hC.o, 0, 0, ⟨⟨by omega, by omega⟩, by omega, by omega⟩, c1 _ (fun S2 e2 => ⟨e, rfl, ?_⟩)⟩, fun z => absurd z s47⟩⟩⟩⟩
  subst e2
  have t' : xtk S x0 b n p o kd := ⟨hp', tp, num, h1, h2, h3⟩
  exact hK e _ (hf.W.br.br).X t'.bs.bs c2
/-- into the round -/
theorem pr_in {b : Int → Int} {n kd p o : Int} {S : St} {x0 q d m : Nat} {K : Option Nat → Option Nat → St → Prop} (ht : tk b n p = 42 ∨ tk b n p = 47) (h : xtk S x0 b n p o kd) (hj : j_X3_product_30 (w_ps d) x0 q S K (l_X3_product_12 (w_ps d) x0 q K m)) : l_X3_product_12 (w_ps d) x0 q K (m + 1) S := by
  obtain ⟨hp', tp, num, h1, h2, h3⟩ := h
  refine ⟨_, _, h2, rfl, fun _ => ⟨fun z => hj, fun z => ⟨_, _, h2, rfl, fun _ => ⟨fun z2 => ?_, fun _ => hj⟩⟩⟩⟩
  rcases ht with c | c
  · exact absurd ((sX_sg (by omega)).mpr c) z
  · exact absurd ((sX_sg (by omega)).mpr c) z2
theorem XprL_fault {b : Int → Int} {n lim kd p o f pl : Int} {φ : (Int → Int) → Int} (ht : tk b n p = 42 ∨ tk b n p = 47) (h : XS 0 20 20 b n lim kd (te b n p) o (.inl (f, pl))) : XprL b n lim kd φ p o (.inl (f, pl)) := by
  refine ⟨1, fun S0 S x0 q d k K fs0 hd h0 hx he hf hC hk hB hK => pr_in ht hx ?_⟩
  have hn := hx.n300
  have tg := te_gt (b := b) (n := n) (p := p) hn.2.1 (by omega)
  obtain ⟨fs, hxo⟩ := hx.o
  have hx' := hx
  obtain ⟨hp', tp, num, h1, h2, h3⟩ := hx'
  refine ⟨_, _, h2, rfl, fun _ => ⟨⟨_, h2⟩, nxB hx (by omega) (fun S1 f1 b1 t1 => ⟨t1.o, h.fB hd t1 (hx.eC he f1) (by omega) (by omega) (fun q S2 f2 w2 => ?_)⟩)⟩⟩
  exact hK q S2 (hf.trans (f1.trans f2)) w2
/-- a round that goes well -/
theorem pr_round {b : Int → Int} {n lim kd p o p2 : Int} {φ χ : (Int → Int) → Int} {S0 S : St} {x0 q d : Nat} {k : Int} {K : Option Nat → Option Nat → St → Prop} {C : St → Prop} {fs0 : List PV} (ht : tk b n p = 42 ∨ tk b n p = 47) (h : XS 0 20 20 b n lim kd (te b n p) o (.inr (χ, p2)))
    (hd : dpt o 0 ≤ d) (h0 : gI S0 x0 = some (.inr (.inl (3, fs0)))) (hx : xtk S x0 b n p o kd) (he : eC S) (hf : frX S0 S x0) (hC : CH S0 S (dpt o 0) lim q k φ) (hk : 0 ≤ k ∧ k < p) (hB : 40 * (p2 - te b n p) - 18 ≤ fI S 200 ∧ 2000 * (p2 - te b n p) + 800 ≤ fI S 201)
    (hG : ∀ S', xtk S' x0 b n p2 o kd → eC S' → frX S0 S' x0 → CH S0 S' (dpt o 0) lim q (k + 1) (fun v => binV (opk (tk b n p)) (φ v) (χ v)) → k + 1 < p2 → (fI S' 200 = fI S 200 - (40 * (p2 - te b n p) - 18) ∧ fI S' 201 = fI S 201 - (2000 * (p2 - te b n p) + 800)) → C S') : j_X3_product_30 (w_ps d) x0 q S K C := by
  have hn := hx.n300
  have tg := te_gt (b := b) (n := n) (p := p) hn.2.1 (by omega)
  have hp := h.1.1
  obtain ⟨fs, hxo⟩ := hx.o
  have hx' := hx
  obtain ⟨hp', tp, num, h1, h2, h3⟩ := hx'
  have st : sX b n p = tk b n p := by rcases ht with c | c <;> rw [c] <;> exact (sX_sg (by omega)).mpr c
  refine ⟨_, _, h2, rfl, fun _ => ⟨⟨_, h2⟩, nxB hx (by omega) (fun S1 f1 b1 t1 => ⟨t1.o, h.okB hd t1 (hx.eC he f1) (by omega) (by omega) (fun e S2 f2 b2 t2 r2 e2 => ?_)⟩)⟩⟩
  obtain ⟨fs1, hx1⟩ := t1.o
  have c1 := hC.fr f1.W h0 hxo
  have c2 := c1.fr f2.W h0 hx1
  have l1 : liv S0 S1 := (hf.trans f1).W.liv t1.ne
  have l2 : liv S1 S2 := f2.W.liv t2.ne
  rw [st]
  refine ⟨c2.o, x_addB c1 f2.W h0 hx1 l1 l2 r2 h.1.2 (by unfold isOp; omega) (by omega) (by omega) (fun S3 f3 b3 c3 => ?_)⟩
  have nx0 : ¬ gI S0 x0 = none := ne_some h0
  have f03 : frX S0 S3 x0 := (frW.trans ((hf.trans f1).trans f2).W f3 (fun a z => Or.inr z)).X
  have t3 := t2.frW f3 nx0
  exact hG S3 t3 c3.e f03 c3 (by omega) (by omega)
theorem XprL_go {b : Int → Int} {n lim kd p o p2 : Int} {φ χ : (Int → Int) → Int} {res : RSm} (ht : tk b n p = 42 ∨ tk b n p = 47) (hpn : 0 ≤ p ∧ p ≤ n) (h : XS 0 20 20 b n lim kd (te b n p) o (.inr (χ, p2))) (h2 : XprL b n lim kd (fun v => binV (opk (tk b n p)) (φ v) (χ v)) p2 o res) : XprL b n lim kd φ p o res := by
  have tg := te_gt (b := b) (n := n) (p := p) hpn.2 (by omega)
  have hp := h.1.1
  match res, h2 with
  | .inl (f, pl), ⟨m, h2⟩ =>
    refine ⟨m + 1, fun S0 S x0 q d k K fs0 hd h0 hx he hf hC hk hB hK => pr_in ht hx (pr_round ht h hd h0 hx he hf hC hk (by omega) (fun S' t' e' f' c' k' b' => ?_))⟩
    exact h2 S0 S' x0 q d (k + 1) K fs0 hd h0 t' e' f' c' (by omega) (by omega) hK
  | .inr (φ', p'), ⟨⟨hp1, hok⟩, m, h2⟩ =>
    refine ⟨⟨by omega, hok⟩, m + 1, fun S0 S x0 q d k K fs0 hd h0 hx he hf hC hk hB hK => pr_in ht hx (pr_round ht h hd h0 hx he hf hC hk (by omega) (fun S' t' e' f' c' k' b' => ?_))⟩
    exact h2 S0 S' x0 q d (k + 1) K fs0 hd h0 t' e' f' c' (by omega) (by omega) hK
/-- product up to its first member -/
theorem prod_in {b : Int → Int} {n kd p o : Int} {S : St} {x0 d : Nat} {K : Option Nat → Option Nat → St → Prop} (hx : xtk S x0 b n p o kd) (hB : 1 ≤ fI S 200 ∧ 3 ≤ fI S 201)
    (hj : ∀ (q : Nat) (S1 : St), gI S q = none → q ≠ x0 → frX S S1 x0 → gI S1 q = some (.inr (.inl (6, [.inr (.inr none), .inr (.inr none), .inr (.inr none)]))) → xtk S1 x0 b n p o kd → (fI S1 200 = fI S 200 - 1 ∧ fI S1 201 = fI S 201 - 3) →
      ∃ u v : Int, ((0 ≤ u ∧ u ≤ fI S1 200) ∧ 0 ≤ v ∧ v ≤ fI S1 201) ∧ w_ps d 0 x0 (bset S1 u v) (fun e64 r61 S62 => ∀ S63 : St, S63 = bset S62 (fI S1 200 - u) (fI S1 201 - v) → ((∀ q : Nat, e64 = some q → K (some q) none S63) ∧ (e64 = none → ∃ q65 : Nat, r61 = some q65 ∧ ∃ u2 v2 : Int, ((0 ≤ u2 ∧ u2 ≤ fI S63 200) ∧ 0 ≤ v2 ∧ v2 ≤ fI S63 201) ∧ w_X6_init q q65 (bset S63 u2 v2) (fun S71 => ∀ S72 : St, S72 = bset S71 (fI S63 200 - u2) (fI S63 201 - v2) → ∃ n12 : Nat, l_X3_product_12 (w_ps d) x0 q K n12 S72))))) : w_ps (d + 1) 1 x0 S K := by
  refine Or.inr (Or.inl ⟨rfl, ⟨hB.1, hB.2⟩, fun q S1 hq e1 => ?_⟩)
  have hqx : q ≠ x0 := fun z => hx.ne (by rw [← z]; exact hq)
  have f1 : frX S S1 x0 := frX.new hq e1
  have f1' : frW S S1 (fun _ => False) := by rw [e1]; exact frW.br (frW.new hq)
  have t1 := hx.frW f1' id
  exact ⟨t1.o, hj q S1 hq hqx f1 (by rw [e1, gI_bset, gI_gset_s]) t1 (by rw [e1, bset_200, bset_201]; exact ⟨rfl, rfl⟩)⟩
theorem prod_faultX {b : Int → Int} {n lim kd p o f pl : Int} (h : XS 0 20 20 b n lim kd p o (.inl (f, pl))) : XS 1 10 30 b n lim kd p o (.inl (f, pl)) := by
  intro S x0 d K hd hx he hB hK
  have hn := hx.n300
  obtain ⟨d', rfl⟩ : ∃ d', d = d' + 1 := ⟨d - 1, by unfold dpt at hd; omega⟩
  refine prod_in hx (by omega) (fun q S1 hq hqx f1 g1 t1 b1 => h.fB (by unfold dpt at hd ⊢; omega) t1 (hx.eC he f1) (by omega) (by omega) (fun q' S2 f2 w2 => ?_))
  exact hK q' S2 (f1.trans f2) w2
theorem prod_okX {b : Int → Int} {n lim kd p o p1 : Int} {φ : (Int → Int) → Int} {res : RSm} (h : XS 0 20 20 b n lim kd p o (.inr (φ, p1))) (h2 : XprL b n lim kd φ p1 o res) : XS 1 10 30 b n lim kd p o res := by
  have hp := h.1.1
  have core : ∀ (S : St) (x0 d : Nat) (K : Option Nat → Option Nat → St → Prop), dpt o 1 ≤ d + 1 → xtk S x0 b n p o kd → eC S → (40 * (p1 - p) - 17 ≤ fI S 200 ∧ 2000 * (p1 - p) - 91 ≤ fI S 201) →
      (∀ (S' : St) (q : Nat) (fs0 : List PV), gI S x0 = some (.inr (.inl (3, fs0))) → xtk S' x0 b n p1 o kd → eC S' → frX S S' x0 → CH S S' (dpt o 0) lim q 0 φ → (fI S' 200 = fI S 200 - (40 * (p1 - p) - 17) ∧ fI S' 201 = fI S 201 - (2000 * (p1 - p) - 91)) → ∃ m, l_X3_product_12 (w_ps d) x0 q K m S') → w_ps (d + 1) 1 x0 S K := by
    intro S x0 d K hd hx he hB hG
    refine prod_in hx (by omega) (fun q S1 hq hqx f1 g1 t1 b1 => h.okB (by unfold dpt at hd ⊢; omega) t1 (hx.eC he f1) (by omega) (by omega) (fun e S2 f2 b2 t2 r2 e2 => ?_))
    have e1 := hx.eC he f1
    have q2 := f2.2.2.2 _ _ hqx g1
    have l2 : liv S S2 := (f1.trans f2).W.liv t2.ne
    refine x_initB q2 rfl hq l2 r2 (f1.W.liv t1.ne) (ne_some g1) e2 (fun a ha => ?_) h.1.2 (by omega) (fun S3 f3 b3 c3 => ?_)
    · obtain ⟨e9, z1, z2⟩ := e1
      rw [f2.2.2.1, z1] at ha
      cases ha
      exact ne_some z2
    · obtain ⟨fs0, h0⟩ := hx.o
      exact hG S3 q fs0 h0 (t2.frW f3 (fun z => hqx z.symm)) c3.e (frW.trans (f1.trans f2).W f3 (fun a z => Or.inr (by rw [z]; exact hq))).X c3 (by omega)
  match res, h2 with
  | .inl (f, pl), ⟨m, h2⟩ =>
    intro S x0 d K hd hx he hB hK
    have hn := hx.n300
    obtain ⟨d', rfl⟩ : ∃ d', d = d' + 1 := ⟨d - 1, by unfold dpt at hd; omega⟩
    exact core S x0 d' K hd hx he (by omega) (fun S' q fs0 h0 t' e' f' c' b' => ⟨m, h2 S S' x0 q d' 0 K fs0 (by unfold dpt at hd ⊢; omega) h0 t' e' f' c' (by omega) (by omega) hK⟩)
  | .inr (φ', p'), ⟨⟨hp1, hok⟩, m, h2⟩ =>
    refine ⟨⟨by omega, hok⟩, fun S x0 d K hd hx he hB hK => ?_⟩
    have hn := hx.n300
    obtain ⟨d', rfl⟩ : ∃ d', d = d' + 1 := ⟨d - 1, by unfold dpt at hd; omega⟩
    exact core S x0 d' K hd hx he (by omega) (fun S' q fs0 h0 t' e' f' c' b' => ⟨m, h2 S S' x0 q d' 0 K fs0 (by unfold dpt at hd ⊢; omega) h0 t' e' f' c' (by omega) (by omega) hK⟩)
