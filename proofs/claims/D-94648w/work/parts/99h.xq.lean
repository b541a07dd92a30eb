/-! PURE: text(): lists of questions -/
theorem is_all {S : St} {d q l : Nat} {k c op : Int} {fs : List PV} {el : Int → Nat} {x Ψ : Int → Int} (hq : gI S q = some (.inr (.inl (12, fs)))) (h0 : fs[0]? = some (.inl c)) (h1 : fs[1]? = some (.inr (.inr (some l)))) (hl : lst (gI S) l k el) (hk : 1 ≤ k ∧ k ≤ 300)
    (hel : ∀ i, 0 ≤ i → i < k → isAsked S (el i) ∧ ∀ K : Int → Prop, K (x i) → w_is d (el i) S K) (hx : ∀ i, 0 ≤ i → i < k → x i = 0 ∨ x i = 1) (hΨ1 : Ψ 1 = x 0) (hΨ : ∀ i, 1 ≤ i → i < k → Ψ (i + 1) = twoV op (Ψ i) (x i)) (ho : (op = 21 ∧ c = 1) ∨ (op = 22 ∧ c = 0)) {K : Int → Prop} (hK : K (Ψ k)) : w_is (d + 1) q S K := by
  refine Or.inr (Or.inr ⟨⟨_, hq⟩, k.toNat + 1, ?_⟩)
  have loop : ∀ (n : Nat) (i cnt : Int), 0 ≤ i → i ≤ k → k - i = n → (0 ≤ cnt ∧ cnt ≤ i) → (1 ≤ i → (op = 21 → Ψ i = if cnt = i then 1 else 0) ∧ (op = 22 → Ψ i = if cnt ≤ 0 then 0 else 1)) → l_X12_is_9_4 (w_is d) q S K (fun z2 => j_X12_is_9_49 (w_is d) q z2 S K) (n + 1) cnt i := by
    intro n
    induction n with
    | zero =>
      intro i cnt i0 i1 e hc hv
      have : i = k := by omega
      subst this
      obtain ⟨v1, v2⟩ := hv hk.1
      refine ⟨fs, l, hq, h1, hl.o, lst_size hl (fun _ => ⟨fun _ => ⟨fs, c, hq, h0, fun _ => ⟨fun cz => ?_, fun cz => ⟨fs, l, hq, h1, hl.o, lst_size hl (fun _ => ?_)⟩⟩⟩, fun z => absurd (Int.le_refl _) z⟩)⟩
      · have v := v2 (by omega)
        rw [v] at hK
        exact ⟨fun z => by rw [if_pos z] at hK; exact hK, fun z => by rw [if_neg z] at hK; exact hK⟩
      · have v := v1 (by omega)
        rw [v] at hK
        exact ⟨fun z => by rw [if_neg z] at hK; exact hK, fun z => by rw [if_pos z] at hK; exact hK⟩
    | succ n ih =>
      intro i cnt i0 i1 e hc hv
      have hi : i < k := by omega
      have hx1 := hx i i0 hi
      have hnext : ∀ y : Int, x i = y → j_X12_is_9_41 (w_is d) q i cnt y S K (fun z2 => j_X12_is_9_49 (w_is d) q z2 S K) (l_X12_is_9_4 (w_is d) q S K (fun z2 => j_X12_is_9_49 (w_is d) q z2 S K) (n + 1)) := fun y ey => by
        refine ⟨by constructor <;> omega, fun v ev _ => ⟨by constructor <;> omega, ?_⟩⟩
        subst ev
        refine ih (i + 1) (cnt + y) (by omega) (by omega) (by omega) (by omega) (fun _ => ?_)
        by_cases iz : i = 0
        · subst iz
          rw [show (0 : Int) + 1 = 1 by rfl, hΨ1, ey]
          exact ⟨fun _ => by by_cases y1 : y = 1; rw [if_pos (by omega)]; exact y1; rw [if_neg (by omega)]; omega, fun _ => by by_cases y1 : y = 1; rw [if_neg (by omega)]; exact y1; rw [if_pos (by omega)]; omega⟩
        · obtain ⟨v1, v2⟩ := hv (by omega)
          rw [hΨ i (by omega) hi, ey]
          unfold twoV
          refine ⟨fun o => ?_, fun o => ?_⟩
          · rw [if_pos o, v1 o]
            by_cases c1 : cnt = i
            · rw [if_pos c1, if_neg (by omega)]
              by_cases y1 : y = 1
              · rw [if_pos (by omega)]; exact y1
              · rw [if_neg (by omega)]; omega
            · rw [if_neg c1, if_pos rfl, if_neg (by omega)]
          · rw [if_neg (by omega), v2 o]
            by_cases c1 : cnt ≤ 0
            · rw [if_pos c1, if_pos rfl]
              by_cases y1 : y = 1
              · rw [if_neg (by omega)]; exact y1
              · rw [if_pos (by omega)]; omega
            · rw [if_neg c1, if_neg (by omega), if_neg (by omega)]
      refine ⟨fs, l, hq, h1, hl.o, lst_size hl (fun _ => ⟨fun z => by omega, fun _ => ⟨fs, l, hq, h1, hl.o, lst_get hl ⟨i0, hi⟩ hk.2 ⟨el i, rfl, (hel i i0 hi).1, (hel i i0 hi).2 _ (fun _ => ⟨fun z => hnext 0 z, fun z => hnext 1 (by omega)⟩)⟩⟩⟩)⟩
  exact loop k.toNat 0 0 (Int.le_refl _) (by omega) (by omega) ⟨Int.le_refl _, Int.le_refl _⟩ (fun z => by omega)
/-- a list of questions under construction -/
def LI (S0 S : St) (D : Nat) (lim : Int) (q : Nat) (k op : Int) (ψ : (Int → Int) → Int) : Prop := ∃ (ed : Nat) (el : Int → Nat) (g : Nat → Option PE) (ψs Ψ : Int → (Int → Int) → Int),
  liX S q k ed el ∧ (gI S0 q = none ∧ (rI S 500 0 ≠ some ed → gI S0 ed = none)) ∧ (extP g (gI S) ∧ gNw S0 g ∧ g q = none ∧ g ed = none)
    ∧ (∀ i, 0 ≤ i → i < k → askC g (el i) ∧ okB lim (ψs i) ∧ ∀ d, D ≤ d → xAsk g d lim (el i) (ψs i)) ∧ (0 < k → Ψ 1 = ψs 0) ∧ (∀ i, 1 ≤ i → i < k → Ψ (i + 1) = fun v => twoV op (Ψ i v) (ψs i v)) ∧ (0 < k → Ψ k = ψ)
theorem LI.e {S0 S : St} {D q : Nat} {lim k op : Int} {ψ : (Int → Int) → Int} (h : LI S0 S D lim q k op ψ) : eC S := by
  obtain ⟨ed, el, g, ψs, Ψ, h1, -⟩ := h
  exact h1.1
theorem LI.o {S0 S : St} {D q : Nat} {lim k op : Int} {ψ : (Int → Int) → Int} (h : LI S0 S D lim q k op ψ) : ∃ fs : List PV, gI S q = some (.inr (.inl (14, fs))) := by
  obtain ⟨ed, el, g, ψs, Ψ, h1, -⟩ := h
  exact h1.c.1
theorem liX.x0 {S S' : St} {l ed x0 : Nat} {sz : Int} {el : Int → Nat} {fs : List PV} (z : liX S l sz ed el) (f : frW S S' (fun a => a = x0)) (hx : gI S x0 = some (.inr (.inl (3, fs)))) : liX S' l sz ed el :=
  z.fr f (fun y => by obtain ⟨-, pn, pf, z1, -⟩ := z; rw [y, hx] at z1; cases z1) (fun y => by obtain ⟨-, pn, pf, -, z1, -⟩ := z; rw [y, hx] at z1; cases z1) (frW.el3 hx z.1)
theorem g_x0 {S0 S : St} {g : Nat → Option PE} {x0 : Nat} {fs fs0 : List PV} (k1 : extP g (gI S)) (k2 : gNw S0 g) (h0 : gI S0 x0 = some (.inr (.inl (3, fs0)))) (hx : gI S x0 = some (.inr (.inl (3, fs)))) : g x0 = none := by
  cases hc : g x0 with
  | none => rfl
  | some y =>
    have e1 := k1 _ _ hc
    rw [hx] at e1
    rcases k2 _ _ hc with z | ⟨gs, z⟩
    · rw [h0] at z; cases z
    · rw [z] at e1; cases e1
theorem LI.fr {S0 S S' : St} {D q x0 : Nat} {lim k op : Int} {ψ : (Int → Int) → Int} {fs fs0 : List PV} (h : LI S0 S D lim q k op ψ) (f : frW S S' (fun a => a = x0)) (h0 : gI S0 x0 = some (.inr (.inl (3, fs0)))) (hx : gI S x0 = some (.inr (.inl (3, fs)))) : LI S0 S' D lim q k op ψ := by
  obtain ⟨ed, el, g, ψs, Ψ, h1, h2, ⟨h3, h4, h5⟩, h6⟩ := h
  have hr : rI S' = rI S := f.2.2.1
  exact ⟨ed, el, g, ψs, Ψ, h1.x0 f hx, by rw [hr]; exact h2, ⟨h3.fr f (fun a z => by rw [z]; exact g_x0 h3 h4 h0 hx), h4, h5⟩, h6⟩
theorem x_l_add {S0 Si S : St} {q e D x0 : Nat} {lim k op : Int} {ψ χ : (Int → Int) → Int} {fs0 fs1 : List PV} {K : Int → St → Prop} (hC : LI S0 Si D lim q k op ψ) (f : frW Si S (fun a => a = x0)) (h0 : gI S0 x0 = some (.inr (.inl (3, fs0)))) (hx : gI Si x0 = some (.inr (.inl (3, fs1)))) (hl : liv S0 Si)
    (hR : yR Si S D lim e χ) (ok : okB lim χ) (hk : 0 ≤ k ∧ k < 300) (hl2 : liv Si S) (hB : 1 ≤ fI S 200 ∧ 450 ≤ fI S 201)
    (hK : ∀ S', frW S S' (fun a => gI S0 a = none) → LI S0 S' D lim q (k + 1) op (if k = 0 then χ else fun v => twoV op (ψ v) (χ v)) → K 1 S') : w_J2_add q e S K := by
  obtain ⟨ed, el, g1, ψs, Ψ, i1, ⟨i2, i3⟩, ⟨k1, k2, k3, k4⟩, l1, l2, l3, l4⟩ := hC
  obtain ⟨g2, r1, r2, r3, r4⟩ := hR
  have rr : rI S = rI Si := f.2.2.1
  have s1 := i1.x0 f hx
  have k1S : extP g1 (gI S) := k1.fr f (fun a z => by rw [z]; exact g_x0 k1 k2 h0 hx)
  obtain ⟨⟨sfs, s14⟩, ⟨sa, s8⟩⟩ := s1.c
  have q2 : g2 q = none := r2.no (by obtain ⟨⟨_, z⟩, -⟩ := i1.c; exact ne_some z) r1 s14 (fun gs z => by injection z with z; injection z with z; injection z with z _; cases z)
  have ed2 : g2 ed = none := r2.no (by obtain ⟨-, ⟨_, z⟩⟩ := i1.c; exact ne_some z) r1 s8 (fun gs z => by injection z with z; cases z)
  have hgU : ∃ g : Nat → Option PE, extP g (gI S) ∧ extP g1 g ∧ extP g2 g ∧ gNw S0 g ∧ ∀ a, g1 a = none → g2 a = none → g a = none := by
    refine ⟨fun a => if (g1 a).isSome = true ∨ (g2 a).isSome = true then gI S a else none, fun a y w => ?_, fun a y w => ?_, fun a y w => ?_, fun a y w => ?_, fun a z1 z2 => ?_⟩
    · dsimp only at w
      split at w
      · exact w
      · cases w
    · dsimp only
      rw [if_pos (Or.inl (by rw [w]; rfl))]
      exact k1S _ _ w
    · dsimp only
      rw [if_pos (Or.inr (by rw [w]; rfl))]
      exact r1 _ _ w
    · dsimp only at w
      split at w
      · rename_i hc
        rcases hc with hc | hc
        · cases hz : g1 a with
          | none => rw [hz] at hc; cases hc
          | some y1 =>
            have := k1S _ _ hz
            rw [w] at this
            cases this
            exact k2 _ _ hz
        · cases hz : g2 a with
          | none => rw [hz] at hc; cases hc
          | some y1 =>
            have := r1 _ _ hz
            rw [w] at this
            cases this
            exact (r2.liv hl) _ _ hz
      · cases w
    · dsimp only
      rw [if_neg]
      rintro (z | z)
      · rw [z1] at z; cases z
      · rw [z2] at z; cases z
  obtain ⟨gU, u1, u2, u3, u5, u6⟩ := hgU
  have uq := u6 q k3 q2
  have ued := u6 ed k4 ed2
  refine x_add s1 (r3.El r1) hk.2 hB (fun S2 ed' c2 f2 nz2 li2 => ?_)
  have u2' : extP gU (gI S2) := u1.fr f2 (fun a z => by rcases z with z | z; rw [z]; exact uq; rw [z.1]; exact ued)
  have r2S : rI S2 = rI S := f2.2.2.1
  have ned : gU ed' = none := by
    rcases c2 with d | d
    · rw [d.1]; exact ued
    · cases hc : gU ed' with
      | none => rfl
      | some y => rw [u1 _ _ hc] at d; cases d
  refine hK S2 (f2.mono (fun a z => Or.inl ?_)) ⟨ed', _, gU, fun i => if i = k then χ else ψs i, fun i => if i = k + 1 then (if k = 0 then χ else fun v => twoV op (ψ v) (χ v)) else Ψ i, li2, ⟨i2, fun z => ?_⟩, ⟨u2', u5, uq, ned⟩, fun i i0 i1' => ?_, fun _ => ?_, fun i i0 i1' => ?_, fun _ => by dsimp only; rw [if_pos rfl]⟩
  · rcases z with z | z
    · rw [z]; exact i2
    · rw [z.1]; exact i3 (by rw [← rr]; exact z.2)
  · rcases c2 with d | d
    · rw [d.1]; exact i3 (by rw [← rr]; exact d.2)
    · exact hl _ (hl2 _ d)
  · dsimp only
    by_cases ci : i = k
    · rw [if_pos ci, if_pos ci]
      exact ⟨r3.ext u3, ok, fun d hd => (r4 d hd).ext u3⟩
    · rw [if_neg ci, if_neg ci]
      obtain ⟨z1, z2, z3⟩ := l1 i i0 (by omega)
      exact ⟨z1.ext u2, z2, fun d hd => (z3 d hd).ext u2⟩
  · dsimp only
    by_cases kz : k = 0
    · subst kz
      rw [if_pos (show (1 : Int) = 0 + 1 by rfl), if_pos rfl, if_pos rfl]
    · rw [if_neg (show ¬ ((1 : Int) = k + 1) by omega), if_neg (show ¬ ((0 : Int) = k) by omega)]
      exact l2 (by omega)
  · dsimp only
    by_cases ci : i = k
    · subst ci
      rw [if_pos rfl, if_neg (show ¬ (i = 0) by omega), if_neg (show ¬ (i = i + 1) by omega), if_pos rfl, l4 (by omega)]
    · rw [if_neg (show ¬ (i + 1 = k + 1) by omega), if_neg (show ¬ (i = k + 1) by omega), if_neg ci]
      exact l3 i i0 (by omega)
theorem LI.ok {S0 S : St} {D q : Nat} {lim k op : Int} {ψ : (Int → Int) → Int} (h : LI S0 S D lim q k op ψ) (hk : 1 ≤ k) : okB lim ψ := by
  obtain ⟨ed, el, g, ψs, Ψ, -, -, -, l1, l2, l3, l4⟩ := h
  rw [← l4 (by omega)]
  have hn : ∀ n : Nat, (n : Int) + 1 ≤ k → okB lim (Ψ ((n : Int) + 1)) := by
    intro n
    induction n with
    | zero =>
      intro _
      show okB lim (Ψ 1)
      rw [l2 (by omega)]
      exact (l1 0 (by omega) (by omega)).2.1
    | succ n ih =>
      intro z
      have := l3 ((n : Int) + 1) (by omega) (by omega)
      rw [show (((n + 1 : Nat) : Int) + 1) = (n : Int) + 1 + 1 by omega, this]
      exact okB.two (ih (by omega)) (l1 _ (by omega) (by omega)).2.1
  have := hn (k - 1).toNat (by omega)
  rw [show (((k - 1).toNat : Int) + 1) = k by omega] at this
  exact this
theorem x_init12B {S : St} {q y : Nat} {c : Int} {v w : PV} {G : St → Prop} (h : gI S q = some (.inr (.inl (12, [v, w])))) (hc : c = 0 ∨ c = 1) (hB : 0 ≤ fI S 200 ∧ 0 ≤ fI S 201)
    (hG : ∀ S', frW S S' (fun a => a = q) → gI S' q = some (.inr (.inl (12, [.inl c, .inr (.inr (some y))]))) → (fI S' 200 = fI S 200 ∧ fI S' 201 = fI S 201) → G S') : ∃ u w : Int, ((0 ≤ u ∧ u ≤ fI S 200) ∧ 0 ≤ w ∧ w ≤ fI S 201) ∧ w_X12_init q c y (bset S u w) (fun S1 => ∀ S2 : St, S2 = bset S1 (fI S 200 - u) (fI S 201 - w) → G S2) := by
  refine ⟨0, 0, ⟨⟨Int.le_refl _, hB.1⟩, Int.le_refl _, hB.2⟩, 0, 0, ⟨⟨Int.le_refl _, by rw [bset_200]; exact Int.le_refl _⟩, Int.le_refl _, by rw [bset_201]; exact Int.le_refl _⟩, fun S1 e1 => ?_⟩
  have g1 : gI S1 q = some (.inr (.inl (12, [v, w]))) := by rw [e1]; exact h
  refine ⟨_, g1, rfl, hc, fun S2 e2 => ?_⟩
  have g2 : gI S2 q = some (.inr (.inl (12, [.inl c, w]))) := by rw [e2, gI_gset_s]; rfl
  refine ⟨_, g2, rfl, fun S3 e3 S4 e4 => hG S4 ?_ (by rw [e4, gI_bset, e3, gI_gset_s]; rfl) (by rw [e4, bset_200, bset_201]; omega)⟩
  rw [e4, e3, e2, e1]
  exact frW.br (frW.tr (frW.tr (frW.br (frW.br (frW.br (frW.refl _ _)))) (frW.old rfl)) (frW.old rfl))
theorem liX.get0 {S : St} {l ed : Nat} {sz : Int} {el : Int → Nat} {K : Option Nat → Prop} (h : liX S l sz ed el) (hs : 0 < sz ∧ sz ≤ 300) (hK : K (some (el 0))) : w_J2_get l 0 S K := lst_get (h.lst rfl rfl) ⟨Int.le_refl _, hs.1⟩ hs.2 hK
/-- the end: one question alone, or All of them -/
theorem LI.fin {S0 S : St} {D q : Nat} {lim k op c : Int} {ψ : (Int → Int) → Int} {K : Option Nat → Option Nat → St → Prop} (h : LI S0 S D lim q k op ψ) (hk : 1 ≤ k ∧ k ≤ 300) (ho : (op = 21 ∧ c = 1) ∨ (op = 22 ∧ c = 0)) (hl : liv S0 S) (hB : 1 ≤ fI S 200 ∧ 2 ≤ fI S 201)
    (hK : ∀ e S', frW S S' (fun _ => False) → yR S0 S' (D + 1) lim e ψ → K none (some e) S') :
    (∃ fs : List PV, gI S q = some (.inr (.inl (14, fs)))) ∧ w_J2_size q S (fun (r2 : Int) => InR r2 → ((¬ r2 = 1 → ((1 : Int) ≤ fI S 200 ∧ ((2 : Nat) : Int) ≤ fI S 201) ∧ (∀ (q5 : Nat) (S6 : St), gI S q5 = none → S6 = bset (gset S q5 (.inr (.inl (12, [.inl 0, .inr (.inr none)])))) (fI S 200 - 1) (fI S 201 - ((2 : Nat) : Int)) → (∃ a8 b9 : Int, ((0 ≤ a8 ∧ a8 ≤ fI S6 200) ∧ 0 ≤ b9 ∧ b9 ≤ fI S6 201) ∧ w_X12_init q5 c q (bset S6 a8 b9) (fun (S12 : St) => ∀ S13 : St, S13 = bset S12 (fI S6 200 - a8) (fI S6 201 - b9) → K none (some q5) S13)))) ∧ (r2 = 1 → ((∃ fs : List PV, gI S q = some (.inr (.inl (14, fs)))) ∧ w_J2_get q 0 S (fun (r16 : Option Nat) => (∃ q18 : Nat, r16 = some q18 ∧ (isAsked S q18 ∧ K none (some q18) S))))))) := by
  have ho' := h.o
  have hok := h.ok hk.1
  obtain ⟨ed, el, g, ψs, Ψ, i1, ⟨i2, i3⟩, ⟨k1, k2, k3, k4⟩, l1, l2, l3, l4⟩ := h
  refine ⟨ho', lst_size (i1.lst rfl rfl) (fun _ => ⟨fun k1' => ⟨⟨by omega, by omega⟩, fun q5 S6 hq e6 => ?_⟩, fun kz => ⟨ho', i1.get0 (by omega) ⟨el 0, rfl, ?_, hK _ S (frW.refl _ _) ⟨g, k1, k2, (l1 0 (by omega) (by omega)).1, fun d hd => ?_⟩⟩⟩⟩)⟩
  · have f6 : frW S S6 (fun _ => False) := by rw [e6]; exact frW.br (frW.new hq)
    have g6 : gI S6 q5 = some (.inr (.inl (12, [.inl 0, .inr (.inr none)]))) := by rw [e6, gI_bset, gI_gset_s]
    have b6 : fI S6 200 = fI S 200 - 1 ∧ fI S6 201 = fI S 201 - 2 := by rw [e6, bset_200, bset_201]; exact ⟨rfl, rfl⟩
    clear e6
    refine x_init12B (w := .inr (.inr none)) g6 (by omega) (by omega) (fun S7 f7 g7 b7 => ?_)
    have f8 : frW S S7 (fun _ => False) := frW.trans f6 f7 (fun a z => Or.inr (by rw [z]; exact hq))
    have k1' : extP g (gI S7) := k1.fr f8 (fun _ z => z.elim)
    obtain ⟨h0, pn, pf, z1, z2, z3, z4, z5⟩ := i1
    have zq := f8.2.2.2 _ _ id z1
    have ze := f8.2.2.2 _ _ id z2
    refine hK q5 S7 f8 ⟨fun a => if a = q5 ∨ a = q ∨ a = ed then gI S7 a else g a, fun a y w => ?_, fun a y w => ?_, ⟨12, _, by dsimp only; rw [if_pos (Or.inl rfl)]; exact g7, by omega, by omega⟩, fun d hd S' K' hx hN hK' => ?_⟩
    · dsimp only at w
      split at w
      · exact w
      · exact k1' _ _ w
    · dsimp only at w
      split at w
      · rename_i cc
        left
        rcases cc with cc | cc | cc
        · rw [cc]; exact hl _ hq
        · rw [cc]; exact i2
        · rw [cc]
          exact i3 (fun y => by
            obtain ⟨e0, y1, y2⟩ := h0
            rw [y] at y1
            cases y1
            rw [z2] at y2
            have : pn = 0 := by injection y2 with y2; injection y2 with y2; injection y2 with y2; injection y2 with _ y2; injection y2
            omega)
      · exact k2 _ _ w
    · obtain ⟨d', rfl⟩ : ∃ d', d = d' + 1 := ⟨d - 1, by omega⟩
      have hg : extP g (gI S') := fun a y w => hx a y (by
        dsimp only
        split
        · exact k1' _ _ w
        · exact w)
      have c5 := hx q5 _ (by dsimp only; rw [if_pos (Or.inl rfl)]; exact g7)
      have cq := hx q _ (by dsimp only; rw [if_pos (Or.inr (Or.inl rfl))]; exact zq)
      have ce := hx ed _ (by dsimp only; rw [if_pos (Or.inr (Or.inr rfl))]; exact ze)
      refine is_all (x := fun i => ψs i (aI S' 9)) (Ψ := fun i => Ψ i (aI S' 9)) c5 rfl rfl (⟨_, ed, pn, pf, cq, rfl, rfl, ce, by omega, fun i i0 i1 => (z5 i i0 i1).1⟩ : lst (gI S') q k el) (by omega) (fun i i0 i1 => ⟨(l1 i i0 i1).1.S hg, fun K2 hK2 => (l1 i i0 i1).2.2 d' (by omega) S' K2 hg hN hK2⟩) (fun i i0 i1 => (l1 i i0 i1).2.1.2 _) (by show Ψ 1 _ = ψs 0 _; rw [l2 (by omega)]) (fun i i0 i1 => by show Ψ (i + 1) _ = _; rw [l3 i i0 i1]) ho (by show K' (Ψ k _); rw [l4 (by omega)]; exact hK')
  · exact (l1 0 (by omega) (by omega)).1.S k1
  · have e1 : Ψ k = ψ := l4 (by omega)
    rw [← e1, kz, l2 (by omega)]
    exact (l1 0 (by omega) (by omega)).2.2 d (by omega)
