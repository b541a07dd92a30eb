/-! PURE: texts: what a sum, what a question, what a text means on both sides -/
variable {tB : Int}
/-- names in their ranges, the first lim of them -/
def NB (lim : Int) (v : Int → Int) : Prop := ∀ i, 0 ≤ i → i < lim → 0 ≤ v i ∧ v i ≤ 1000
def extP (g g' : Nat → Option PE) : Prop := ∀ a e, g a = some e → g' a = some e
theorem extP.refl (g : Nat → Option PE) : extP g g := fun _ _ h => h
theorem extP.trans {g g' g'' : Nat → Option PE} (h : extP g g') (h' : extP g' g'') : extP g g'' := fun a e q => h' a e (h a e q)
/-- of the first lim names alone, within the bounds -/
def okF (lim : Int) (φ : (Int → Int) → Int) : Prop := (∀ v v' : Int → Int, (∀ i, 0 ≤ i → i < lim → v i = v' i) → φ v = φ v') ∧ ∀ v, NB lim v → -1000000 ≤ φ v ∧ φ v ≤ 1000000
def okB (lim : Int) (ψ : (Int → Int) → Int) : Prop := (∀ v v' : Int → Int, (∀ i, 0 ≤ i → i < lim → v i = v' i) → ψ v = ψ v') ∧ ∀ v, ψ v = 0 ∨ ψ v = 1
def xSum (g : Nat → Option PE) (d : Nat) (lim : Int) (q : Nat) (φ : (Int → Int) → Int) : Prop := ∀ (S : St) (K : Int → Prop), extP g (gI S) → NB lim (aI S 9) → K (φ (aI S 9)) → w_of d q S K
def xAsk (g : Nat → Option PE) (d : Nat) (lim : Int) (q : Nat) (ψ : (Int → Int) → Int) : Prop := ∀ (S : St) (K : Int → Prop), extP g (gI S) → NB lim (aI S 9) → K (ψ (aI S 9)) → w_is d q S K
/-- the steps lo .. hi - 1 of a text leave a value -/
def cSum (tx : Int → Int) (code lo hi lim : Int) (φ : (Int → Int) → Int) : Prop :=
  (0 ≤ code ∧ 0 ≤ lo ∧ lo ≤ hi ∧ hi ≤ 300 ∧ code + 2 * hi ≤ 2800) ∧ ∀ (n tr : Int) (T : St), (∀ i, code + 2 * lo ≤ i → i < code + 2 * hi → aI T 2 i = tx i) → (0 ≤ n ∧ n + (hi - lo) ≤ 330) → NB lim (aI T 5) →
    ∃ V : Int → Int, (∀ j, j < n → V j = aI T 6 j) ∧ V n = φ (aI T 5) ∧ ∀ (x2 : Int) (K : St → Prop) (m : Nat), (0 ≤ x2 ∧ x2 + 2 < 2800) → hi ≤ aI T 2 (x2 + 2) → l_M_work_47 x2 code K m (n + 1) tr hi (aput T 6 V) → l_M_work_47 x2 code K (m + (hi - lo).toNat) n tr lo T
/-- they leave a truth -/
def cAsk (tx : Int → Int) (code lo hi lim : Int) (ψ : (Int → Int) → Int) : Prop :=
  (0 ≤ code ∧ 0 ≤ lo ∧ lo ≤ hi ∧ hi ≤ 300 ∧ code + 2 * hi ≤ 2800) ∧ ∀ (n tr : Int) (T : St), (∀ i, code + 2 * lo ≤ i → i < code + 2 * hi → aI T 2 i = tx i) → (0 ≤ n ∧ n + (hi - lo) ≤ 330) → (0 ≤ tr ∧ tr + (hi - lo) ≤ 330) → NB lim (aI T 5) →
    ∃ V B : Int → Int, (∀ j, j < n → V j = aI T 6 j) ∧ (∀ j, j < tr → B j = aI T 7 j) ∧ B tr = ψ (aI T 5) ∧ ∀ (x2 : Int) (K : St → Prop) (m : Nat), (0 ≤ x2 ∧ x2 + 2 < 2800) → hi ≤ aI T 2 (x2 + 2) → l_M_work_47 x2 code K m n (tr + 1) hi (aput (aput T 6 V) 7 B) → l_M_work_47 x2 code K (m + (hi - lo).toNat) n tr lo T
/-- a list of n objects -/
def lst (g : Nat → Option PE) (l : Nat) (n : Int) (el : Int → Nat) : Prop := ∃ (fs : List PV) (ed pn : Nat) (pf : Int → Option Nat), g l = some (.inr (.inl (14, fs))) ∧ fs[1]? = some (.inr (.inr (some ed))) ∧ fs[2]? = some (.inl n) ∧ g ed = some (.inr (.inr (8, pn, pf))) ∧ (0 ≤ n ∧ n ≤ pn) ∧ ∀ i, 0 ≤ i → i < n → pf i = some (el i)
def sumOf (g : Nat → Option PE) (tx : Int → Int) (base : Int) (w : Option Nat) : Prop :=
  (w = none ∧ ∀ k, 0 ≤ k → k < tx base → tx (base + 1 + 4 * k) ≠ 0) ∨ ∃ (q d : Nat) (k : Int) (φ : (Int → Int) → Int), w = some q ∧ d ≤ 70 ∧ (0 ≤ k ∧ k < tx base) ∧ tx (base + 1 + 4 * k) = 0 ∧ (∀ j, 0 ≤ j → j < k → tx (base + 1 + 4 * j) ≠ 0) ∧ okF 5 φ ∧ xSum g d 5 q φ ∧ cSum tx (base + 100) (tx (base + 2 + 4 * k)) (tx (base + 3 + 4 * k)) 5 φ
def askOf (g : Nat → Option PE) (tx : Int → Int) (base s lim : Int) (w : Option Nat) : Prop :=
  (w = none ∧ ∀ k, 0 ≤ k → k < tx base → tx (base + 1 + 4 * k) ≠ s) ∨ ∃ (q d : Nat) (k : Int) (ψ : (Int → Int) → Int), w = some q ∧ d ≤ 40 ∧ (0 ≤ k ∧ k < tx base) ∧ tx (base + 1 + 4 * k) = s ∧ (∀ j, 0 ≤ j → j < k → tx (base + 1 + 4 * j) ≠ s) ∧ okB lim ψ ∧ xAsk g d lim q ψ ∧ cAsk tx (base + 100) (tx (base + 2 + 4 * k)) (tx (base + 3 + 4 * k)) lim ψ
def manyR (tx : Int → Int) (base : Int) (pm : Int → Int) : Prop := ∀ kd, 0 ≤ kd → kd ≤ 19 →
  (pm kd = 0 ∧ ∀ k, 0 ≤ k → k < tx base → ¬ (tx (base + 1 + 4 * k) = 3 ∧ tx (base + 2 + 4 * k) = kd)) ∨ ((1 ≤ pm kd ∧ pm kd ≤ 9) ∧ ∃ k, (0 ≤ k ∧ k < tx base) ∧ tx (base + 1 + 4 * k) = 3 ∧ tx (base + 2 + 4 * k) = kd ∧ tx (base + 3 + 4 * k) = pm kd ∧ ∀ j, 0 ≤ j → j < k → ¬ (tx (base + 1 + 4 * j) = 3 ∧ tx (base + 2 + 4 * j) = kd))
/-- a doing of the list against its clause -/
def doR (g : Nat → Option PE) (tx : Int → Int) (base k : Int) (q : Nat) : Prop := ∃ s a b c : Int, g q = some (.inr (.inl (13, [.inl (s + 200), .inl a, .inl b, .inl c, .inl k]))) ∧ (4 ≤ s ∧ s ≤ 8) ∧ tx (base + 1 + 4 * k) = s ∧ tx (base + 2 + 4 * k) = a ∧ (s ≤ 6 → tx (base + 3 + 4 * k) = b) ∧ (s = 4 → tx (base + 4 + 4 * k) = c) ∧ (InR a ∧ InR b ∧ InR c)
def doingsR (g : Nat → Option PE) (tx : Int → Int) (base : Int) (l : Nat) : Prop := ∃ (n : Int) (el : Int → Nat) (js : Int → Int), lst g l n el ∧ n ≤ 24 ∧ (∀ i, 0 ≤ i → i < n → (0 ≤ js i ∧ js i < tx base) ∧ doR g tx base (js i) (el i)) ∧ (∀ i, 0 ≤ i → i + 1 < n → js i < js (i + 1)) ∧ ∀ i k, 0 ≤ i → i ≤ n → (0 < i → js (i - 1) < k) → (i < n → k < js i) → 0 ≤ k → k < tx base → tx (base + 1 + 4 * k) ≤ 3
def txt (g : Nat → Option PE) (q : Nat) (tx : Int → Int) (base : Int) : Prop := ∃ (w h u : Option Nat) (m l : Nat) (c : Int) (pm : Int → Int),
  g q = some (.inr (.inl (4, [.inr (.inr w), .inr (.inr h), .inr (.inr u), .inr (.inr (some m)), .inr (.inr (some l)), .inl c]))) ∧ (0 ≤ tx base ∧ tx base ≤ 24) ∧ (∀ k, 0 ≤ k → k < tx base → 0 ≤ tx (base + 1 + 4 * k) ∧ tx (base + 1 + 4 * k) ≤ 8)
  ∧ sumOf g tx base w ∧ askOf g tx base 1 5 h ∧ askOf g tx base 2 8 u ∧ g m = some (.inl (0, 20, pm)) ∧ manyR tx base pm ∧ doingsR g tx base l
theorem xSum.ext {g g' : Nat → Option PE} {d q : Nat} {lim : Int} {φ : (Int → Int) → Int} (h : xSum g d lim q φ) (hg : extP g g') : xSum g' d lim q φ := fun S K e n k => h S K (hg.trans e) n k
theorem xAsk.ext {g g' : Nat → Option PE} {d q : Nat} {lim : Int} {φ : (Int → Int) → Int} (h : xAsk g d lim q φ) (hg : extP g g') : xAsk g' d lim q φ := fun S K e n k => h S K (hg.trans e) n k
theorem lst.ext {g g' : Nat → Option PE} {l : Nat} {n : Int} {el : Int → Nat} (h : lst g l n el) (hg : extP g g') : lst g' l n el := by
  obtain ⟨fs, ed, pn, pf, h1, h2, h3, h4, h5, h6⟩ := h
  exact ⟨fs, ed, pn, pf, hg _ _ h1, h2, h3, hg _ _ h4, h5, h6⟩
theorem doR.ext {g g' : Nat → Option PE} {tx : Int → Int} {base k : Int} {q : Nat} (h : doR g tx base k q) (hg : extP g g') : doR g' tx base k q := by
  obtain ⟨s, a, b, c, h1, h2⟩ := h
  exact ⟨s, a, b, c, hg _ _ h1, h2⟩
theorem txt.ext {g g' : Nat → Option PE} {q : Nat} {tx : Int → Int} {base : Int} (h : txt g q tx base) (hg : extP g g') : txt g' q tx base := by
  obtain ⟨w, h, u, m, l, c, pm, h1, h2, h3, h4, h5, h6, h7, h8, h9⟩ := h
  refine ⟨w, h, u, m, l, c, pm, hg _ _ h1, h2, h3, ?_, ?_, ?_, hg _ _ h7, h8, ?_⟩
  · rcases h4 with h | ⟨q, d, k, φ, z1, z2, z3, z4, z5, z6, z7, z8⟩
    · exact Or.inl h
    · exact Or.inr ⟨q, d, k, φ, z1, z2, z3, z4, z5, z6, z7.ext hg, z8⟩
  · rcases h5 with h | ⟨q, d, k, φ, z1, z2, z3, z4, z5, z6, z7, z8⟩
    · exact Or.inl h
    · exact Or.inr ⟨q, d, k, φ, z1, z2, z3, z4, z5, z6, z7.ext hg, z8⟩
  · rcases h6 with h | ⟨q, d, k, φ, z1, z2, z3, z4, z5, z6, z7, z8⟩
    · exact Or.inl h
    · exact Or.inr ⟨q, d, k, φ, z1, z2, z3, z4, z5, z6, z7.ext hg, z8⟩
  · obtain ⟨n, el, js, z1, z2, z3, z4, z5⟩ := h9
    exact ⟨n, el, js, z1.ext hg, z2, fun i i0 i1 => ⟨(z3 i i0 i1).1, (z3 i i0 i1).2.ext hg⟩, z4, z5⟩
/-- the texts of both sides -/
def TX (S T : St) : Prop := (∀ k, 0 ≤ k → k < aI S 0 2 → ∃ q, rI S 140 k = some q ∧ txt (gI S) q (aI T 2) (700 * k)) ∧ (0 ≤ aI S 4 2 ∧ aI S 4 2 ≤ aI S 0 2) ∧ (∀ k, 0 ≤ k → k < aI S 4 2 → rI S 141 k = rI S 140 k) ∧ ∀ j, (j = 140 ∨ j = 141) → ∀ k, 0 ≤ k → k < 4 → ∀ y, rI S j k = some y → ∃ fs : List PV, gI S y = some (.inr (.inl (4, fs)))
def TP (tB : Int) (S T : St) : Prop := (fI S 3 = fI T 4 ∧ 0 ≤ fI S 3 ∧ fI S 3 ≤ 300 ∧ fI S 3 ≤ tB) ∧ (∀ i, 0 ≤ i → i < fI S 3 → aI T 3 i = aI S 8 i % 256) ∧ fI S 4 = fI T 5 ∧ fI S 5 = fI T 6
def REL (tB : Int) (S T : St) : Prop := nowA S T ∧ imgA S T ∧ TP tB S T ∧ TX S T
/-- the law of a method -/
def PostF (tB : Int) (w : (Int → St → Prop) → Prop) (r : Int) (S' : St) : Prop := ∀ K' : Int → St → Prop, (∀ T', REL tB S' T' → K' r T') → w K'
/-- only the state of now and what belongs to no state was changed -/
theorem REL.same {S S' T T' : St} (h : REL tB S T) (hn : nowA S' T') (hx : sameX S S') (hm : sameM T T') : REL tB S' T' := by
  obtain ⟨-, h2, ⟨h3, h4, h5, h6⟩, h7, h8, h9, h10⟩ := h
  obtain ⟨x1, x2, x3, x4, x5⟩ := hx
  obtain ⟨m1, m2, m3⟩ := hm
  refine ⟨hn, ?_, ⟨?_, ?_, ?_, ?_⟩, ?_, ?_, ?_, ?_⟩
  · unfold imgA at h2 ⊢
    obtain ⟨⟨a0, a1, a2⟩, ⟨b0, b1, b2⟩, cy, ⟨d0, d1, d2⟩, ⟨e0, e1, e2⟩, ⟨g0, g1, g2⟩, ⟨i0, i1, i2⟩, -⟩ := h2.1
    rw [m2 1 (by omega) (by omega), x4 4 (by omega), x4 5 (by omega), x4 6 (by omega), x4 7 (by omega)]
    refine RA.eqr h2 a2 b2 g2 i2 (fun _ _ _ => rfl) (fun _ _ _ => rfl) (fun _ _ _ => rfl) (fun k j _ _ _ _ => ?_) (fun k j _ _ _ _ => ?_)
    · rw [x4 _ (by omega)]
    · rw [x4 _ (by omega)]
  · rw [x1 3 (by omega) (by omega), m1 4 (by omega) (by omega)]
    exact h3
  · rw [x1 3 (by omega) (by omega), m2 3 (by omega) (by omega), x4 8 (by omega)]
    exact h4
  · rw [x1 4 (by omega) (by omega), m1 5 (by omega) (by omega)]
    exact h5
  · rw [x1 5 (by omega) (by omega), m1 6 (by omega) (by omega)]
    exact h6
  · rw [x5, x2, m2 2 (by omega) (by omega)]
    intro k k0 k1
    obtain ⟨q, q1, q2⟩ := h7 k k0 k1
    exact ⟨q, q1, q2.ext x3⟩
  · rw [x5, x4 4 (by omega)]
    exact h8
  · rw [x2, x4 4 (by omega)]
    exact h9
  · rw [x2]
    intro j hj k k0 k1 y hy
    obtain ⟨fs, q⟩ := h10 j hj k k0 k1 y hy
    exact ⟨fs, x3 _ _ q⟩
theorem Post.full {S T S' : St} {w : (Int → St → Prop) → Prop} {r : Int} (h : REL tB S T) (hp : Post S T Eq w r S') : PostF tB w r S' := by
  obtain ⟨r', T', e, hn, hx, hm, hw⟩ := hp
  subst e
  exact fun K' hk => hw K' (hk T' (h.same hn hx hm))
