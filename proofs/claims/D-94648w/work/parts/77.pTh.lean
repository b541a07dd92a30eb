/-! PURE: text(): the twin's sums: rules of the product and of the sum -/
abbrev RSm : Type := (Int × Int) ⊕ (((Int → Int) → Int) × Int)
def opk (t : Int) : Int := if t = 43 then 3 else if t = 45 then 4 else if t = 42 then 5 else 6
def flS (T : St) (w f q : Int) : Prop := ∃ T', frS T T' w ∧ fI T' 8 = q ∧ goF T f T'
/-- one has been read: what waited of minuses is written -/
def MSone (b : Int → Int) (n lim p o : Int) (res : RSm) : Prop := ∀ (j : Nat) (r : List Int) (T : St) (w k : Int), inS b n lim T p (List.replicate j 2 ++ r) o w 0 → (∀ a t, r = a :: t → a ≠ 2) → (w + (j + r.length) + k ≤ p ∧ 0 ≤ k) → (j + r.length : Int) ≤ 3 * o + 2 → (j : Int) ≤ o →
  match res with
  | .inl (f, q) => flS T w f q
  | .inr (φ, p') => p < p' ∧ okF lim φ ∧ ∃ w1 T', w < w1 ∧ inS b n lim T' p' r (o - j) (w1 + j) 1 ∧ frS T T' w ∧ cSum (aI T' 2) (fI T 12 + 100) w w1 lim φ ∧ cel (aI T' 2) (fI T 12 + 100 + 2 * w1) (List.replicate j 2) ∧ w1 + j + r.length + k ≤ p' ∧ go T T'
/-- read so far: φ, with ops yet to be written -/
def acS (b : Int → Int) (n lim : Int) (T : St) (p : Int) (r : List Int) (o w k : Int) (φ : (Int → Int) → Int) (ops : List Int) : Prop := ∃ wr, inS b n lim T p (ops ++ r) o wr 1 ∧ PF (aI T 2) (fI T 12 + 100) w wr lim ops φ ∧ okF lim φ ∧ w < wr + ops.length ∧ wr + (ops.length + r.length) + k ≤ p
def hdP (r : List Int) : Prop := ∀ a t, r = a :: t → a ≠ 2 ∧ ¬ (5 ≤ a ∧ a < 40)
def hdS (r : List Int) : Prop := ∀ a t, r = a :: t → a = 40
def opsP (ops : List Int) : Prop := (ops.length : Int) ≤ 1 ∧ ∀ a, a ∈ ops → 5 ≤ a ∧ a ≤ 6
def opsS (ops : List Int) : Prop := (ops.length : Int) ≤ 2 ∧ ∀ a, a ∈ ops → 3 ≤ a ∧ a ≤ 6
def okP (b : Int → Int) (n lim : Int) (T : St) (p p' : Int) (r : List Int) (o w k : Int) (φ : (Int → Int) → Int) : Prop := p ≤ p' ∧ (tk b n p' ≠ 42 ∧ tk b n p' ≠ 47) ∧ ∃ ops T', acS b n lim T' p' r o w k φ ops ∧ opsP ops ∧ frS T T' w ∧ go T T'
def okS (b : Int → Int) (n lim : Int) (T : St) (p p' : Int) (r : List Int) (o w k : Int) (φ : (Int → Int) → Int) : Prop := p ≤ p' ∧ (tk b n p' ≠ 42 ∧ tk b n p' ≠ 47 ∧ tk b n p' ≠ 43 ∧ tk b n p' ≠ 45) ∧ ∃ ops T', acS b n lim T' p' r o w k φ ops ∧ opsS ops ∧ frS T T' w ∧ go T T'
def MSprL (b : Int → Int) (n lim : Int) (φ : (Int → Int) → Int) (p o : Int) (res : RSm) : Prop := ∀ (r : List Int) (T : St) (w k : Int) (ops : List Int), acS b n lim T p r o w k φ ops → opsP ops → hdP r → (r.length : Int) ≤ 3 * o + 1 → 0 ≤ k →
  match res with
  | .inl (f, q) => flS T w f q
  | .inr (φ', p') => okP b n lim T p p' r o w k φ'
def MSprod (b : Int → Int) (n lim p o : Int) (res : RSm) : Prop := ∀ (r : List Int) (T : St) (w k : Int), inS b n lim T p r o w 0 → hdP r → (w + r.length + k ≤ p ∧ 0 ≤ k) → (r.length : Int) ≤ 3 * o + 1 →
  match res with
  | .inl (f, q) => flS T w f q
  | .inr (φ', p') => p < p' ∧ okP b n lim T p p' r o w k φ'
def MSsL (b : Int → Int) (n lim : Int) (φ : (Int → Int) → Int) (p o : Int) (res : RSm) : Prop := (tk b n p ≠ 42 ∧ tk b n p ≠ 47) → ∀ (r : List Int) (T : St) (w k : Int) (ops : List Int), acS b n lim T p r o w k φ ops → opsS ops → hdS r → (r.length : Int) ≤ 3 * o → 0 ≤ k →
  match res with
  | .inl (f, q) => flS T w f q
  | .inr (φ', p') => okS b n lim T p p' r o w k φ'
def MSsum (b : Int → Int) (n lim p o : Int) (res : RSm) : Prop := ∀ (r : List Int) (T : St) (w k : Int), inS b n lim T p r o w 0 → hdS r → (w + r.length + k ≤ p ∧ 0 ≤ k) → (r.length : Int) ≤ 3 * o →
  match res with
  | .inl (f, q) => flS T w f q
  | .inr (φ', p') => p < p' ∧ okS b n lim T p p' r o w k φ'
theorem flS.behind {T T1 : St} {w w1 f q : Int} (h : flS T1 w1 f q) (hf : frS T T1 w) (hw : w ≤ w1) (hg : go T T1) : flS T w f q := by
  obtain ⟨T', h1, h2, h3⟩ := h
  exact ⟨T', hf.trans h1 hw, h2, hg.fault h3⟩
theorem cons_len (a : Int) (r : List Int) : ((a :: r).length : Int) = r.length + 1 := by
  show ((r.length + 1 : Nat) : Int) = _
  omega
/-- a second operand: it goes into the sum so far -/
theorem PF.bin {tx tx1 : Int → Int} {c w wm wr lim op : Int} {ops : List Int} {φ χ : (Int → Int) → Int} (h : cSum tx1 c w wm lim φ) (e : ∀ i, c + 2 * w ≤ i → i < c + 2 * wm → tx i = tx1 i) (ok : okF lim φ) (g : PF tx c wm wr lim ops χ) (ok2 : okF lim χ) (hw : w < wm) (ho : 3 ≤ op ∧ op ≤ 6) (hb : wr + ops.length + 1 ≤ 300 ∧ c + 2 * (wr + ops.length + 1) ≤ 2800) : PF tx c w wr lim (ops ++ [op]) (fun v => binV op (φ v) (χ v)) := by
  have hl : ((ops ++ [op]).length : Int) = ops.length + 1 := by rw [List.length_append]; rfl
  obtain ⟨g1, g2⟩ := g
  refine ⟨by omega, fun tx' e' hc => ?_⟩
  have hc1 : ∀ (l : List Int) (x : Int) (d : Int), cel tx' d (l ++ [x]) → cel tx' d l ∧ tx' (d + 2 * l.length) = x ∧ tx' (d + 2 * l.length + 1) = 0 := by
    intro l
    induction l with
    | nil =>
      intro x d h
      have l0 : (([] : List Int).length : Int) = 0 := rfl
      rw [l0, show d + 2 * (0 : Int) = d by omega]
      exact ⟨trivial, h.1, h.2.1⟩
    | cons a l ih =>
      intro x d h
      obtain ⟨q1, q2, q3⟩ := ih x (d + 2) h.2.2
      rw [cons_len, show d + 2 * ((l.length : Int) + 1) = d + 2 + 2 * l.length by omega]
      exact ⟨⟨h.1, h.2.1, q1⟩, q2, q3⟩
  obtain ⟨q1, q2, q3⟩ := hc1 ops op _ hc
  have s1 : cSum tx' c w wm lim φ := cS_congr h (fun i i0 i1 => by rw [e' i i0 (by omega), e i i0 i1])
  have s2 : cSum tx' c wm (wr + ops.length) lim χ := g2 tx' (fun i i0 i1 => e' i (by omega) i1) q1
  rw [hl, ← Int.add_assoc]
  rw [show c + 2 * wr + 2 * (ops.length : Int) = c + 2 * (wr + ops.length) by omega] at q2 q3
  exact cS_bin s1 ok s2 hw ok2 hb q2 ho (by rw [q3]; omega)
theorem prL_stop {b : Int → Int} {n lim p o : Int} {φ : (Int → Int) → Int} (h : tk b n p ≠ 42 ∧ tk b n p ≠ 47) : MSprL b n lim φ p o (.inr (φ, p)) :=
  fun r T w k ops ha ho _ _ _ => ⟨Int.le_refl _, h, ops, T, ha, ho, frS.rf T w, fun _ _ hk => hk⟩
theorem prL_op {b : Int → Int} {n lim p o w k : Int} {φ : (Int → Int) → Int} {r ops : List Int} {T : St} (ht : tk b n p = 42 ∨ tk b n p = 47) (ha : acS b n lim T p r o w k φ ops) (ho : opsP ops) (hr : hdP r) (hl : (r.length : Int) ≤ 3 * o + 1) (hk : 0 ≤ k) :
    ∃ wm T', w < wm ∧ inS b n lim T' (te b n p) (opk (tk b n p) :: r) o wm 0 ∧ frS T T' w ∧ cSum (aI T' 2) (fI T 12 + 100) w wm lim φ ∧ wm + (opk (tk b n p) :: r).length + k ≤ te b n p ∧ go T T' ∧ okF lim φ := by
  obtain ⟨wr, a1, a2, a3, a4, a5⟩ := ha
  have oo := a1.2.2.2.2.1
  obtain ⟨T', u1, u2, u3, u4, u5⟩ := go_op (op := opk (tk b n p)) (least := 5) (k := k) a1 a2 ⟨a5, hk⟩ (by have := ho.1; omega) (by unfold opk; rcases ht with e | e <;> rw [e] <;> simp) (fun a h => by have := ho.2 a h; omega) (fun a t e => (hr a t e).2)
  refine ⟨wr + ops.length, T', a4, u1, ?_, u3, u4, u5, a3⟩
  have := a2.1
  exact (frS.rf T w).trans u2 this
theorem sL_op {b : Int → Int} {n lim p o w k : Int} {φ : (Int → Int) → Int} {r ops : List Int} {T : St} (ht : tk b n p = 43 ∨ tk b n p = 45) (ha : acS b n lim T p r o w k φ ops) (ho : opsS ops) (hr : hdS r) (hl : (r.length : Int) ≤ 3 * o) (hk : 0 ≤ k) :
    ∃ wm T', w < wm ∧ inS b n lim T' (te b n p) (opk (tk b n p) :: r) o wm 0 ∧ frS T T' w ∧ cSum (aI T' 2) (fI T 12 + 100) w wm lim φ ∧ wm + (opk (tk b n p) :: r).length + k ≤ te b n p ∧ go T T' ∧ okF lim φ := by
  obtain ⟨wr, a1, a2, a3, a4, a5⟩ := ha
  have oo := a1.2.2.2.2.1
  obtain ⟨T', u1, u2, u3, u4, u5⟩ := go_op (op := opk (tk b n p)) (least := 3) (k := k) a1 a2 ⟨a5, hk⟩ (by have := ho.1; omega) (by unfold opk; rcases ht with e | e <;> rw [e] <;> simp) (fun a h => by have := ho.2 a h; omega) (fun a t e => by have := hr a t e; omega)
  refine ⟨wr + ops.length, T', a4, u1, ?_, u3, u4, u5, a3⟩
  have := a2.1
  exact (frS.rf T w).trans u2 this
theorem opk_bd (t : Int) : 3 ≤ opk t ∧ opk t ≤ 6 := by
  unfold opk
  split
  · omega
  · split
    · omega
    · split <;> omega
theorem hd_op {t : Int} {r : List Int} : ∀ a s, opk t :: r = a :: s → a ≠ 2 := by
  intro a s e
  have : opk t = a := (List.cons.inj e).1
  have := opk_bd t
  omega
theorem prL_fault {b : Int → Int} {n lim p o f q : Int} {φ : (Int → Int) → Int} (ht : tk b n p = 42 ∨ tk b n p = 47) (h : MSone b n lim (te b n p) o (.inl (f, q))) : MSprL b n lim φ p o (.inl (f, q)) := by
  intro r T w k ops ha ho hr hl hk
  obtain ⟨wm, T1, u1, u2, u3, u4, u5, u6, -⟩ := prL_op ht ha ho hr hl hk
  have z := h 0 (opk (tk b n p) :: r) T1 wm k u2 hd_op (by rw [Int.natCast_zero, Int.zero_add]; exact ⟨u5, hk⟩) (by rw [cons_len]; omega) (by have := u2.2.2.2.2.1; omega)
  exact z.behind u3 (by omega) u6
theorem prL_go {b : Int → Int} {n lim p o p2 : Int} {φ χ : (Int → Int) → Int} {res : RSm} (ht : tk b n p = 42 ∨ tk b n p = 47) (h : MSone b n lim (te b n p) o (.inr (χ, p2))) (h2 : MSprL b n lim (fun v => binV (opk (tk b n p)) (φ v) (χ v)) p2 o res) : MSprL b n lim φ p o res := by
  intro r T w k ops ha ho hr hl hk
  obtain ⟨wm, T1, u1, u2, u3, u4, u5, u6, u7⟩ := prL_op ht ha ho hr hl hk
  have hp : p ≤ n := by
    obtain ⟨wr, a1, -⟩ := ha
    exact a1.2.1.2
  have tg := te_gt (b := b) (n := n) (p := p) hp (by omega)
  obtain ⟨z1, z2, w1, T2, z3, z4, z5, z6, -, z8, z9⟩ := h 0 (opk (tk b n p) :: r) T1 wm k u2 hd_op (by rw [Int.natCast_zero, Int.zero_add]; exact ⟨u5, hk⟩) (by rw [cons_len]; omega) (by have := u2.2.2.2.2.1; omega)
  rw [Int.natCast_zero] at z8
  have e12 : fI T1 12 = fI T 12 := u3.1 12 (by omega) (by omega) (by omega) (by omega) (by omega)
  have e12b : fI T2 12 = fI T1 12 := z5.1 12 (by omega) (by omega) (by omega) (by omega) (by omega)
  have z4' : inS b n lim T2 p2 ([opk (tk b n p)] ++ r) o w1 1 := by
    have e1 : o - ((0 : Nat) : Int) = o := by omega
    have e2 : w1 + ((0 : Nat) : Int) = w1 := by omega
    rw [e1, e2] at z4
    exact z4
  have n300 := z4'.1.2.1.2
  have p2n := z4'.2.1.2
  have x12 := z4'.2.2.2.2.2.2.2.1
  rw [cons_len] at z8
  have l1 : (([opk (tk b n p)] : List Int).length : Int) = 1 := rfl
  have acc : acS b n lim T2 p2 r o w k (fun v => binV (opk (tk b n p)) (φ v) (χ v)) [opk (tk b n p)] := by
    refine ⟨w1, z4', ?_, u7.bin z2, by rw [l1]; omega, by rw [l1]; omega⟩
    have g : PF (aI T2 2) (fI T2 12 + 100) wm w1 lim [] χ := by
      refine ⟨by omega, fun tx' e' _ => ?_⟩
      have l0 : (([] : List Int).length : Int) = 0 := rfl
      rw [l0, Int.add_zero]
      rw [e12b]
      rw [e12b] at e'
      exact cS_congr z6 e'
    refine PF.bin (ops := []) (by rw [e12b, e12]; exact u4) (fun i i0 i1 => z5.2.2 i (Or.inl (by omega))) u7 g z2 u1 (opk_bd _) ?_
    have l0 : (([] : List Int).length : Int) = 0 := rfl
    rw [l0]
    omega
  have fin := h2 r T2 w k [opk (tk b n p)] acc ⟨by rw [l1]; omega, fun a ha => by
    have e : a = opk (tk b n p) := by simpa using ha
    rw [e]
    unfold opk
    rcases ht with t | t <;> rw [t] <;> simp⟩ hr hl hk
  have fr2 : frS T T2 w := u3.trans z5 (by omega)
  cases res with
  | inl x =>
    obtain ⟨f, q⟩ := x
    exact flS.behind fin fr2 (Int.le_refl _) (u6.trans z9)
  | inr x =>
    obtain ⟨φ', p'⟩ := x
    obtain ⟨y1, y2, ops', T3, y3, y4, y5, y6⟩ := fin
    exact ⟨by omega, y2, ops', T3, y3, y4, fr2.trans y5 (Int.le_refl _), (u6.trans z9).trans y6⟩
theorem prod_fault {b : Int → Int} {n lim p o f q : Int} (h : MSone b n lim p o (.inl (f, q))) : MSprod b n lim p o (.inl (f, q)) := by
  intro r T w k hi hr hk hl
  exact h 0 r T w k hi (fun a t e => (hr a t e).1) (by rw [Int.natCast_zero, Int.zero_add]; exact hk) (by omega) (by have := hi.2.2.2.2.1; omega)
theorem prod_ok {b : Int → Int} {n lim p o p1 : Int} {φ : (Int → Int) → Int} {res : RSm} (h : MSone b n lim p o (.inr (φ, p1))) (h2 : MSprL b n lim φ p1 o res) : MSprod b n lim p o res := by
  intro r T w k hi hr hk hl
  obtain ⟨z1, z2, w1, T2, z3, z4, z5, z6, -, z8, z9⟩ := h 0 r T w k hi (fun a t e => (hr a t e).1) (by rw [Int.natCast_zero, Int.zero_add]; exact hk) (by omega) (by have := hi.2.2.2.2.1; omega)
  rw [Int.natCast_zero] at z8
  have e12b : fI T2 12 = fI T 12 := z5.1 12 (by omega) (by omega) (by omega) (by omega) (by omega)
  have z4' : inS b n lim T2 p1 ([] ++ r) o w1 1 := by
    have e1 : o - ((0 : Nat) : Int) = o := by omega
    have e2 : w1 + ((0 : Nat) : Int) = w1 := by omega
    rw [e1, e2] at z4
    exact z4
  have l0 : (([] : List Int).length : Int) = 0 := rfl
  have fin := h2 r T2 w k [] ⟨w1, z4', ⟨by omega, fun tx' e' _ => by
    rw [l0, Int.add_zero]
    rw [e12b]
    rw [e12b] at e'
    exact cS_congr z6 e'⟩, z2, by rw [l0]; omega, by rw [l0]; omega⟩ ⟨by rw [l0]; omega, fun a ha => absurd ha (List.not_mem_nil)⟩ hr hl hk.2
  cases res with
  | inl x =>
    obtain ⟨f, q⟩ := x
    exact flS.behind fin z5 (Int.le_refl _) z9
  | inr x =>
    obtain ⟨φ', p'⟩ := x
    obtain ⟨y1, y2, ops', T3, y3, y4, y5, y6⟩ := fin
    exact ⟨by omega, by omega, y2, ops', T3, y3, y4, z5.trans y5 (Int.le_refl _), z9.trans y6⟩
