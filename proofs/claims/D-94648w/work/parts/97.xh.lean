/-! PURE: text(): what a chain means to the component -/
theorem lst_get {S : St} {l : Nat} {n i : Int} {el : Int → Nat} {K : Option Nat → Prop} (h : lst (gI S) l n el) (hi : 0 ≤ i ∧ i < n) (hn : n ≤ 300) (hK : K (some (el i))) : w_J2_get l i S K := by
  obtain ⟨fs, ed, pn, pf, h1, h2, h3, h4, h5, h6⟩ := h
  refine ⟨fs, n, h1, h3, fun _ => ⟨fun z => by omega, fun _ => ⟨fun _ _ _ => ⟨⟨_, h1⟩, fs, ed, h1, h2, pn, pf, h4, by omega, ?_⟩, fun z => by omega⟩⟩⟩
  rw [h6 i hi.1 hi.2]
  exact hK
theorem lst_size {S : St} {l : Nat} {n : Int} {el : Int → Nat} {K : Int → Prop} (h : lst (gI S) l n el) (hK : K n) : w_J2_size l S K := by
  obtain ⟨fs, ed, pn, pf, h1, h2, h3, h4, h5, h6⟩ := h
  exact ⟨fs, n, h1, h3, fun _ => hK⟩
theorem lst.o {S : St} {l : Nat} {n : Int} {el : Int → Nat} (h : lst (gI S) l n el) : ∃ fs : List PV, gI S l = some (.inr (.inl (14, fs))) := by
  obtain ⟨fs, ed, pn, pf, h1, -⟩ := h
  exact ⟨_, h1⟩
/-- a chain of k further members -/
def chn (g : Nat → Option PE) (q : Nat) (k : Int) (e0 : Nat) (elm els : Int → Nat) : Prop := ∃ (fs : List PV) (m s : Nat), g q = some (.inr (.inl (6, fs))) ∧ fs[0]? = some (.inr (.inr (some e0))) ∧ fs[1]? = some (.inr (.inr (some m))) ∧ fs[2]? = some (.inr (.inr (some s))) ∧ lst g m k elm ∧ lst g s k els
def isOp (t : Int) : Prop := t = 42 ∨ t = 43 ∨ t = 45 ∨ t = 47
def bdV (a : Int) : Prop := -1000000 ≤ a ∧ a ≤ 1000000
theorem bdV.L {a : Int} (h : bdV a) : InL a := by unfold bdV at h; constructor <;> omega
theorem mulV_bd {a c : Int} (h : bdV a) (h2 : bdV c) : -1000000000000 ≤ a * c ∧ a * c ≤ 1000000000000 := by
  unfold bdV at h h2
  have h3 : (a + 1000000) * (c + 1000000) ≥ 0 := Int.mul_nonneg (by omega) (by omega)
  have h4 : (1000000 - a) * (1000000 - c) ≥ 0 := Int.mul_nonneg (by omega) (by omega)
  have h5 : (a + 1000000) * (1000000 - c) ≥ 0 := Int.mul_nonneg (by omega) (by omega)
  have h6 : (1000000 - a) * (c + 1000000) ≥ 0 := Int.mul_nonneg (by omega) (by omega)
  have e3 : (a + 1000000) * (c + 1000000) = a * c + 1000000 * a + 1000000 * c + 1000000000000 := by rw [Int.add_mul, Int.mul_add, Int.mul_add, Int.mul_comm a 1000000]; omega
  have e4 : (1000000 - a) * (1000000 - c) = a * c - 1000000 * a - 1000000 * c + 1000000000000 := by rw [Int.sub_mul, Int.mul_sub, Int.mul_sub, Int.mul_comm a 1000000]; omega
  have e5 : (a + 1000000) * (1000000 - c) = - (a * c) + 1000000 * a - 1000000 * c + 1000000000000 := by rw [Int.add_mul, Int.mul_sub, Int.mul_sub, Int.mul_comm a 1000000]; omega
  have e6 : (1000000 - a) * (c + 1000000) = - (a * c) - 1000000 * a + 1000000 * c + 1000000000000 := by rw [Int.sub_mul, Int.mul_add, Int.mul_add, Int.mul_comm a 1000000]; omega
  omega
theorem tdivV_bd {a c : Int} (h : bdV a) : bdV (Int.tdiv a c) := by
  unfold bdV at *
  have h1 : (Int.tdiv a c).natAbs ≤ a.natAbs := by rw [Int.natAbs_tdiv]; exact Nat.div_le_self _ _
  omega
theorem of_chain {S : St} {d q e0 : Nat} {k : Int} {elm els : Int → Nat} {Φ χ tok : Int → Int} (hc : chn (gI S) q k e0 elm els) (hk : 0 ≤ k ∧ k ≤ 300)
    (hb : ∀ i, 0 ≤ i → i < k → isOp (tok i) ∧ ∃ fs : List PV, gI S (els i) = some (.inr (.inl (15, fs))) ∧ fs[0]? = some (.inl (tok i))) (he : ∀ K : Int → Prop, K (Φ 0) → w_of d e0 S K)
    (hel : ∀ i, 0 ≤ i → i < k → isSum S (elm i) ∧ ∀ K : Int → Prop, K (χ i) → w_of d (elm i) S K) (hB : ∀ i, 0 ≤ i → i < k → bdV (Φ i) ∧ bdV (χ i)) (hΦ : ∀ i, 0 ≤ i → i < k → Φ (i + 1) = binV (opk (tok i)) (Φ i) (χ i)) {K : Int → Prop} (hK : K (Φ k)) : w_of (d + 1) q S K := by
  obtain ⟨fs, m, s, h1, h2, h3, h4, h5, h6⟩ := hc
  refine Or.inr (Or.inr (Or.inr ⟨⟨_, h1⟩, fs, e0, h1, h2, he _ (fun _ => ?_)⟩))
  have loop : ∀ (n : Nat) (i : Int), 0 ≤ i → i ≤ k → k - i = n → l_X6_of_9_14 (w_of d) q S K (n + 1) (Φ i) i := by
    intro n
    induction n with
    | zero =>
      intro i i0 i1 e
      have : i = k := by omega
      subst this
      exact ⟨fs, m, h1, h3, h5.o, lst_size h5 (fun _ => ⟨fun _ => hK, fun z => absurd (Int.le_refl _) z⟩)⟩
    | succ n ih =>
      intro i i0 i1 e
      have hi : i < k := by omega
      obtain ⟨ht, bs, hb1, hb2⟩ := hb i i0 hi
      have hnext : ∀ v : Int, max (-1000000) (min 1000000 v) = Φ (i + 1) → j_X6_of_9_120 (w_of d) q i v S K (l_X6_of_9_14 (w_of d) q S K (n + 1)) := fun v ev v3 e3 _ => by
        refine ⟨by constructor <;> omega, ?_⟩
        rw [e3, ev]
        exact ih (i + 1) (by omega) (by omega) (by omega)
      have hp := hΦ i i0 hi
      have b1 := (hB i i0 hi).1
      have b2 := (hB i i0 hi).2
      have mb := mulV_bd b1 b2
      have db := tdivV_bd (c := χ i) b1
      refine ⟨fs, m, h1, h3, h5.o, lst_size h5 (fun _ => ⟨fun z => by omega, fun _ => ⟨fs, m, h1, h3, h5.o, lst_get h5 ⟨i0, hi⟩ hk.2 ⟨elm i, rfl, (hel i i0 hi).1, (hel i i0 hi).2 _ (fun _ => ⟨fs, s, h1, h4, h6.o, lst_get h6 ⟨i0, hi⟩ hk.2 ⟨els i, rfl, ⟨_, hb1⟩, ⟨_, hb1⟩, bs, tok i, hb1, hb2, fun _ _ => ?_⟩⟩)⟩⟩⟩)⟩
      refine ⟨fun n43 => ⟨fun n45 => ⟨fun n42 => ⟨fun nz => ⟨nz, db.L, hnext _ ?_⟩, fun z => hnext _ ?_⟩, fun c => ⟨by constructor <;> omega, hnext _ ?_⟩⟩, fun c => ⟨by unfold bdV at b1 b2; constructor <;> omega, hnext _ ?_⟩⟩, fun c => ⟨by unfold bdV at b1 b2; constructor <;> omega, hnext _ ?_⟩⟩
      · have o : opk (tok i) = 6 := by unfold opk; rw [if_neg n43, if_neg n45, if_neg n42]
        rw [hp, o]
        unfold binV
        rw [if_neg (by decide), if_neg (by decide), if_neg (by decide), if_neg nz]
        rfl
      · have o : opk (tok i) = 6 := by unfold opk; rw [if_neg n43, if_neg n45, if_neg n42]
        rw [hp, o]
        unfold binV
        rw [if_neg (by decide), if_neg (by decide), if_neg (by decide), if_pos z]
        rfl
      · have o : opk (tok i) = 5 := by rw [c]; rfl
        rw [hp, o]
        rfl
      · have o : opk (tok i) = 4 := by rw [c]; rfl
        rw [hp, o]
        rfl
      · have o : opk (tok i) = 3 := by rw [c]; rfl
        rw [hp, o]
        rfl
  exact ⟨k.toNat + 1, loop k.toNat 0 (Int.le_refl _) hk.1 (by omega)⟩
/-- g holds new cells and boxes alone -/
def gNw (S : St) (g : Nat → Option PE) : Prop := ∀ a y, g a = some y → gI S a = none ∨ ∃ fs : List PV, y = .inr (.inl (15, fs))
def sumC (g : Nat → Option PE) (e : Nat) : Prop := ∃ (ci : Nat) (fs : List PV), g e = some (.inr (.inl (ci, fs))) ∧ 6 ≤ ci ∧ ci ≤ 9
/-- the parse that began at S0 has made the tree e, of value φ -/
def xR (S0 S : St) (D : Nat) (lim : Int) (e : Nat) (φ : (Int → Int) → Int) : Prop := ∃ g : Nat → Option PE, extP g (gI S) ∧ gNw S0 g ∧ sumC g e ∧ ∀ d, D ≤ d → xSum g d lim e φ
def liv (S0 S : St) : Prop := ∀ a, gI S a = none → gI S0 a = none
theorem liv.trans {S0 S1 S2 : St} (h : liv S0 S1) (h' : liv S1 S2) : liv S0 S2 := fun a z => h a (h' a z)
theorem frW.liv {S S' : St} {x0 : Nat} (h : frW S S' (fun a => a = x0)) (hx : gI S' x0 ≠ none) : liv S S' := fun a z => by
  cases hg : gI S a with
  | none => rfl
  | some e =>
    by_cases c : a = x0
    · rw [c] at z; exact absurd z hx
    · rw [h.2.2.2 _ _ c hg] at z; cases z
theorem sumC.S {S : St} {g : Nat → Option PE} {e : Nat} (h : sumC g e) (hg : extP g (gI S)) : isSum S e := by
  obtain ⟨ci, fs, h1, h2, h3⟩ := h
  have h4 := hg _ _ h1
  have hc : ci = 6 ∨ ci = 7 ∨ ci = 8 ∨ ci = 9 := by omega
  rcases hc with c | c | c | c <;> subst c
  · exact Or.inr (Or.inr (Or.inr ⟨_, h4⟩))
  · exact Or.inl ⟨_, h4⟩
  · exact Or.inr (Or.inl ⟨_, h4⟩)
  · exact Or.inr (Or.inr (Or.inl ⟨_, h4⟩))
theorem sumC.El {S : St} {g : Nat → Option PE} {e : Nat} (h : sumC g e) (hg : extP g (gI S)) : isEl S e := by
  obtain ⟨ci, fs, h1, h2, h3⟩ := h
  exact ⟨ci, fs, hg _ _ h1, Or.inl ⟨h2, by omega⟩⟩
theorem sumC.ext {g g' : Nat → Option PE} {e : Nat} (h : sumC g e) (hg : extP g g') : sumC g' e := by
  obtain ⟨ci, fs, h1, h2⟩ := h
  exact ⟨ci, fs, hg _ _ h1, h2⟩
/-- a chain under construction -/
def CH (S0 S : St) (D : Nat) (lim : Int) (q : Nat) (k : Int) (φ : (Int → Int) → Int) : Prop :=
  ∃ (e0 m s edm eds : Nat) (elm els : Int → Nat) (g : Nat → Option PE) (Φ χ : Int → (Int → Int) → Int) (tok : Int → Int),
    (gI S q = some (.inr (.inl (6, [.inr (.inr (some e0)), .inr (.inr (some m)), .inr (.inr (some s))]))) ∧ liX S m k edm elm ∧ liX S s k eds els) ∧ (m ≠ s ∧ (edm = eds → rI S 500 0 = some edm))
    ∧ (gI S0 q = none ∧ gI S0 m = none ∧ gI S0 s = none ∧ (rI S 500 0 ≠ some edm → gI S0 edm = none) ∧ (rI S 500 0 ≠ some eds → gI S0 eds = none))
    ∧ (extP g (gI S) ∧ gNw S0 g ∧ g q = none ∧ g m = none ∧ g s = none ∧ g edm = none ∧ g eds = none)
    ∧ (sumC g e0 ∧ okF lim (Φ 0) ∧ ∀ d, D ≤ d → xSum g d lim e0 (Φ 0))
    ∧ (∀ i, 0 ≤ i → i < k → (sumC g (elm i) ∧ okF lim (χ i) ∧ ∀ d, D ≤ d → xSum g d lim (elm i) (χ i)) ∧ isOp (tok i) ∧ ∃ fs : List PV, g (els i) = some (.inr (.inl (15, fs))) ∧ fs[0]? = some (.inl (tok i)))
    ∧ (∀ i, 0 ≤ i → i < k → Φ (i + 1) = fun v => binV (opk (tok i)) (Φ i v) (χ i v)) ∧ Φ k = φ
theorem frW.el3 {S : St} {x0 : Nat} {fs : List PV} (hx : gI S x0 = some (.inr (.inl (3, fs)))) (hc : eC S) : ∀ y, y = x0 → ¬ isEl S y ∧ rI S 500 0 ≠ some y := fun y e => by
  subst e
  refine ⟨fun z => ?_, fun z => ?_⟩
  · obtain ⟨ci, gs, e1, c⟩ := z
    rw [hx] at e1
    cases e1
    omega
  · obtain ⟨e0, h1, h2⟩ := hc
    rw [h1] at z
    cases z
    rw [hx] at h2
    cases h2
/-- the reader's object may move -/
theorem CH.fr {S0 S S' : St} {D q x0 : Nat} {lim k : Int} {φ : (Int → Int) → Int} {fs fs0 : List PV} (h : CH S0 S D lim q k φ) (f : frW S S' (fun a => a = x0)) (h0 : gI S0 x0 = some (.inr (.inl (3, fs0)))) (hx : gI S x0 = some (.inr (.inl (3, fs)))) : CH S0 S' D lim q k φ := by
  obtain ⟨e0, m, s, edm, eds, elm, els, g, Φ, χ, tok, ⟨h1, h2, h3⟩, h4, h5, ⟨h6, h7, h8⟩, h9⟩ := h
  have hr : rI S' = rI S := f.2.2.1
  have k3 : ∀ {l sz ed el}, liX S l sz ed el → liX S' l sz ed el := fun {l sz ed el} z => z.fr f (fun y => by
      obtain ⟨-, pn, pf, z1, -⟩ := z; rw [y, hx] at z1; cases z1) (fun y => by
      obtain ⟨-, pn, pf, -, z1, -⟩ := z; rw [y, hx] at z1; cases z1) (frW.el3 hx z.1)
  refine ⟨e0, m, s, edm, eds, elm, els, g, Φ, χ, tok, ⟨f.2.2.2 _ _ (fun y => by rw [y, hx] at h1; cases h1) h1, k3 h2, k3 h3⟩, ⟨h4.1, by rw [hr]; exact h4.2⟩, by rw [hr]; exact h5, ⟨fun a y e => f.2.2.2 _ _ (fun c => ?_) (h6 a y e), h7, h8⟩, h9⟩
  have e1 := h6 a y e
  rw [c, hx] at e1
  rcases h7 a y e with z | ⟨gs, z⟩
  · rw [c, h0] at z; cases z
  · rw [z] at e1; cases e1
