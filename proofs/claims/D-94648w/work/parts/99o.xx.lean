/-! PURE: text(): a text under construction against the twin's header -/
/-- the clauses before the c-th and the steps before the w-th are the same -/
def agT (tx tx' : Int → Int) (base c w : Int) : Prop := (∀ k, 0 ≤ k → k < c → ∀ e, 1 ≤ e → e ≤ 4 → tx' (base + e + 4 * k) = tx (base + e + 4 * k)) ∧ ∀ i, base + 100 ≤ i → i < base + 100 + 2 * w → tx' i = tx i
/-- the steps of the told clauses lie before the w-th -/
def hiT (tx : Int → Int) (base c w : Int) : Prop := ∀ k, 0 ≤ k → k < c → tx (base + 1 + 4 * k) ≤ 2 → tx (base + 3 + 4 * k) ≤ w
theorem cSum.ag {tx tx' : Int → Int} {code lo hi lim : Int} {φ : (Int → Int) → Int} (h : cSum tx code lo hi lim φ) (e : ∀ i, code + 2 * lo ≤ i → i < code + 2 * hi → tx' i = tx i) : cSum tx' code lo hi lim φ :=
  ⟨h.1, fun n tr T ht => h.2 n tr T (fun i i0 i1 => (ht i i0 i1).trans (e i i0 i1))⟩
theorem cAsk.ag {tx tx' : Int → Int} {code lo hi lim : Int} {ψ : (Int → Int) → Int} (h : cAsk tx code lo hi lim ψ) (e : ∀ i, code + 2 * lo ≤ i → i < code + 2 * hi → tx' i = tx i) : cAsk tx' code lo hi lim ψ :=
  ⟨h.1, fun n tr T ht => h.2 n tr T (fun i i0 i1 => (ht i i0 i1).trans (e i i0 i1))⟩
theorem sumOf.g {g g' : Nat → Option PE} {tx : Int → Int} {base : Int} {w : Option Nat} (h : sumOf g tx base w) (hg : extP g g') : sumOf g' tx base w := by
  rcases h with h | ⟨q, d, k, φ, z1, z2, z3, z4, z5, z6, z7, z8⟩
  · exact Or.inl h
  · exact Or.inr ⟨q, d, k, φ, z1, z2, z3, z4, z5, z6, z7.ext hg, z8⟩
theorem askOf.g {g g' : Nat → Option PE} {tx : Int → Int} {base s lim : Int} {w : Option Nat} (h : askOf g tx base s lim w) (hg : extP g g') : askOf g' tx base s lim w := by
  rcases h with h | ⟨q, d, k, φ, z1, z2, z3, z4, z5, z6, z7, z8⟩
  · exact Or.inl h
  · exact Or.inr ⟨q, d, k, φ, z1, z2, z3, z4, z5, z6, z7.ext hg, z8⟩
section STEP
variable {g : Nat → Option PE} {tx tx' : Int → Int} {base c w : Int}
theorem sumOf.step {w0 : Option Nat} (h : sumOf g tx base w0) (hc : tx base = c) (hc' : tx' base = c + 1) (ag : agT tx tx' base c w) (hi : hiT tx base c w) (hs : tx' (base + 1 + 4 * c) ≠ 0) : sumOf g tx' base w0 := by
  rcases h with ⟨e, h⟩ | ⟨q, d, k, φ, z1, z2, z3, z4, z5, z6, z7, z8⟩
  · refine Or.inl ⟨e, fun k k0 k1 => ?_⟩
    by_cases ck : k = c
    · rw [ck]; exact hs
    · rw [ag.1 k k0 (by omega) 1 (by omega) (by omega)]
      exact h k k0 (by omega)
  · have hh := hi k z3.1 (by omega) (by omega)
    have lo := z8.1
    refine Or.inr ⟨q, d, k, φ, z1, z2, by omega, by rw [ag.1 k z3.1 (by omega) 1 (by omega) (by omega)]; exact z4, fun j j0 j1 => by rw [ag.1 j j0 (by omega) 1 (by omega) (by omega)]; exact z5 j j0 j1, z6, z7, ?_⟩
    rw [ag.1 k z3.1 (by omega) 2 (by omega) (by omega), ag.1 k z3.1 (by omega) 3 (by omega) (by omega)]
    exact z8.ag (fun i i0 i1 => ag.2 i (by omega) (by omega))
theorem askOf.step {s lim : Int} {w0 : Option Nat} (s2 : s ≤ 2) (h : askOf g tx base s lim w0) (hc : tx base = c) (hc' : tx' base = c + 1) (ag : agT tx tx' base c w) (hi : hiT tx base c w) (hs : tx' (base + 1 + 4 * c) ≠ s) : askOf g tx' base s lim w0 := by
  rcases h with ⟨e, h⟩ | ⟨q, d, k, φ, z1, z2, z3, z4, z5, z6, z7, z8⟩
  · refine Or.inl ⟨e, fun k k0 k1 => ?_⟩
    by_cases ck : k = c
    · rw [ck]; exact hs
    · rw [ag.1 k k0 (by omega) 1 (by omega) (by omega)]
      exact h k k0 (by omega)
  · have hh := hi k z3.1 (by omega) (by omega)
    have lo := z8.1
    refine Or.inr ⟨q, d, k, φ, z1, z2, by omega, by rw [ag.1 k z3.1 (by omega) 1 (by omega) (by omega)]; exact z4, fun j j0 j1 => by rw [ag.1 j j0 (by omega) 1 (by omega) (by omega)]; exact z5 j j0 j1, z6, z7, ?_⟩
    rw [ag.1 k z3.1 (by omega) 2 (by omega) (by omega), ag.1 k z3.1 (by omega) 3 (by omega) (by omega)]
    exact z8.ag (fun i i0 i1 => ag.2 i (by omega) (by omega))
theorem sumOf.no0 (h : sumOf g tx base none) : ∀ k, 0 ≤ k → k < tx base → tx (base + 1 + 4 * k) ≠ 0 := by
  rcases h with ⟨-, h⟩ | ⟨q, d, k, φ, z1, -⟩
  · exact h
  · cases z1
theorem askOf.no0 {s lim : Int} (h : askOf g tx base s lim none) : ∀ k, 0 ≤ k → k < tx base → tx (base + 1 + 4 * k) ≠ s := by
  rcases h with ⟨-, h⟩ | ⟨q, d, k, φ, z1, -⟩
  · exact h
  · cases z1
theorem sumOf.ex0 {q : Nat} (h : sumOf g tx base (some q)) : ∃ k, 0 ≤ k ∧ k < tx base ∧ tx (base + 1 + 4 * k) = 0 := by
  rcases h with ⟨h, -⟩ | ⟨q, d, k, φ, -, -, z3, z4, -⟩
  · cases h
  · exact ⟨k, z3.1, z3.2, z4⟩
theorem askOf.ex0 {s lim : Int} {q : Nat} (h : askOf g tx base s lim (some q)) : ∃ k, 0 ≤ k ∧ k < tx base ∧ tx (base + 1 + 4 * k) = s := by
  rcases h with ⟨h, -⟩ | ⟨q, d, k, φ, -, -, z3, z4, -⟩
  · cases h
  · exact ⟨k, z3.1, z3.2, z4⟩
theorem sumOf.new {q d : Nat} {φ : (Int → Int) → Int} (h : sumOf g tx base none) (hc : tx base = c) (h0 : 0 ≤ c) (hc' : tx' base = c + 1) (ag : agT tx tx' base c w) (hs : tx' (base + 1 + 4 * c) = 0) (hd : d ≤ 70) (ok : okF 5 φ) (hx : xSum g d 5 q φ) (hm : cSum tx' (base + 100) (tx' (base + 2 + 4 * c)) (tx' (base + 3 + 4 * c)) 5 φ) : sumOf g tx' base (some q) :=
  Or.inr ⟨q, d, c, φ, rfl, hd, ⟨h0, by omega⟩, hs, fun j j0 j1 => by rw [ag.1 j j0 j1 1 (by omega) (by omega)]; exact h.no0 j j0 (by omega), ok, hx, hm⟩
theorem askOf.new {s lim : Int} {q d : Nat} {ψ : (Int → Int) → Int} (h : askOf g tx base s lim none) (hc : tx base = c) (h0 : 0 ≤ c) (hc' : tx' base = c + 1) (ag : agT tx tx' base c w) (hs : tx' (base + 1 + 4 * c) = s) (hd : d ≤ 40) (ok : okB lim ψ) (hx : xAsk g d lim q ψ) (hm : cAsk tx' (base + 100) (tx' (base + 2 + 4 * c)) (tx' (base + 3 + 4 * c)) lim ψ) : askOf g tx' base s lim (some q) :=
  Or.inr ⟨q, d, c, ψ, rfl, hd, ⟨h0, by omega⟩, hs, fun j j0 j1 => by rw [ag.1 j j0 j1 1 (by omega) (by omega)]; exact h.no0 j j0 (by omega), ok, hx, hm⟩
/-- a kind told -/
def toldX (tx : Int → Int) (base c kd : Int) : Prop := ∃ k, 0 ≤ k ∧ k < c ∧ tx (base + 1 + 4 * k) = 3 ∧ tx (base + 2 + 4 * k) = kd
theorem manyR.told {pm : Int → Int} (h : manyR tx base pm) (hc : tx base = c) {kd : Int} (hk : 0 ≤ kd ∧ kd ≤ 19) : 0 < pm kd ↔ toldX tx base c kd := by
  rcases h kd hk.1 hk.2 with ⟨e, z⟩ | ⟨e, k, k0, z1, z2, -⟩
  · constructor
    · intro y; omega
    · rintro ⟨k, k0, k1, y1, y2⟩
      exact absurd ⟨y1, y2⟩ (z k k0 (by omega))
  · exact ⟨fun _ => ⟨k, k0.1, by omega, z1, z2⟩, fun _ => by omega⟩
theorem manyR.step {pm : Int → Int} (h : manyR tx base pm) (hc : tx base = c) (hc' : tx' base = c + 1) (ag : agT tx tx' base c w) (hs : tx' (base + 1 + 4 * c) ≠ 3) : manyR tx' base pm := by
  intro kd k0 k1
  rcases h kd k0 k1 with ⟨e, z⟩ | ⟨e, k, kk, z1, z2, z3, z4⟩
  · refine Or.inl ⟨e, fun k i0 i1 => ?_⟩
    by_cases ck : k = c
    · rw [ck]; exact fun y => hs y.1
    · rw [ag.1 k i0 (by omega) 1 (by omega) (by omega), ag.1 k i0 (by omega) 2 (by omega) (by omega)]
      exact z k i0 (by omega)
  · refine Or.inr ⟨e, k, by omega, ?_, ?_, ?_, fun j j0 j1 => ?_⟩
    · rw [ag.1 k kk.1 (by omega) 1 (by omega) (by omega)]; exact z1
    · rw [ag.1 k kk.1 (by omega) 2 (by omega) (by omega)]; exact z2
    · rw [ag.1 k kk.1 (by omega) 3 (by omega) (by omega)]; exact z3
    · rw [ag.1 j j0 (by omega) 1 (by omega) (by omega), ag.1 j j0 (by omega) 2 (by omega) (by omega)]
      exact z4 j j0 j1
theorem manyR.new {pm : Int → Int} {a v : Int} (h : manyR tx base pm) (hc : tx base = c) (h0 : 0 ≤ c) (hc' : tx' base = c + 1) (ag : agT tx tx' base c w) (hs : tx' (base + 1 + 4 * c) = 3) (ha : tx' (base + 2 + 4 * c) = a) (hv : tx' (base + 3 + 4 * c) = v) (hr : (0 ≤ a ∧ a ≤ 19) ∧ 1 ≤ v ∧ v ≤ 9) (hn : ¬ toldX tx base c a) : manyR tx' base (fun y => if y = a then v else pm y) := by
  intro kd k0 k1
  dsimp only
  by_cases e : kd = a
  · subst e
    rw [if_pos rfl]
    refine Or.inr ⟨hr.2, c, by omega, hs, ha, hv, fun j j0 j1 => ?_⟩
    rw [ag.1 j j0 j1 1 (by omega) (by omega), ag.1 j j0 j1 2 (by omega) (by omega)]
    exact fun y => hn ⟨j, j0, j1, y.1, y.2⟩
  · rw [if_neg e]
    rcases h kd k0 k1 with ⟨e', z⟩ | ⟨e', k, kk, z1, z2, z3, z4⟩
    · refine Or.inl ⟨e', fun k i0 i1 => ?_⟩
      by_cases ck : k = c
      · rw [ck, ha]; exact fun y => e y.2.symm
      · rw [ag.1 k i0 (by omega) 1 (by omega) (by omega), ag.1 k i0 (by omega) 2 (by omega) (by omega)]
        exact z k i0 (by omega)
    · refine Or.inr ⟨e', k, by omega, ?_, ?_, ?_, fun j j0 j1 => ?_⟩
      · rw [ag.1 k kk.1 (by omega) 1 (by omega) (by omega)]; exact z1
      · rw [ag.1 k kk.1 (by omega) 2 (by omega) (by omega)]; exact z2
      · rw [ag.1 k kk.1 (by omega) 3 (by omega) (by omega)]; exact z3
      · rw [ag.1 j j0 (by omega) 1 (by omega) (by omega), ag.1 j j0 (by omega) 2 (by omega) (by omega)]
        exact z4 j j0 j1
theorem doR.step {k : Int} {q : Nat} (h : doR g tx base k q) (hk : 0 ≤ k ∧ k < c) (ag : agT tx tx' base c w) : doR g tx' base k q := by
  obtain ⟨s, a, b, d, h1, h2, h3, h4, h5, h6, h7⟩ := h
  refine ⟨s, a, b, d, h1, h2, ?_, ?_, fun z => ?_, fun z => ?_, h7⟩
  · rw [ag.1 k hk.1 hk.2 1 (by omega) (by omega)]; exact h3
  · rw [ag.1 k hk.1 hk.2 2 (by omega) (by omega)]; exact h4
  · rw [ag.1 k hk.1 hk.2 3 (by omega) (by omega)]; exact h5 z
  · rw [ag.1 k hk.1 hk.2 4 (by omega) (by omega)]; exact h6 z
/-- the doings told so far -/
def dsT (g : Nat → Option PE) (tx : Int → Int) (base c nd : Int) (el : Int → Nat) (js : Int → Int) : Prop := (0 ≤ nd ∧ nd ≤ c) ∧ (∀ i, 0 ≤ i → i < nd → (0 ≤ js i ∧ js i < c) ∧ doR g tx base (js i) (el i)) ∧ (∀ i, 0 ≤ i → i + 1 < nd → js i < js (i + 1)) ∧ ∀ i k, 0 ≤ i → i ≤ nd → (0 < i → js (i - 1) < k) → (i < nd → k < js i) → 0 ≤ k → k < c → tx (base + 1 + 4 * k) ≤ 3
theorem dsT.step {nd : Int} {el : Int → Nat} {js : Int → Int} (h : dsT g tx base c nd el js) (ag : agT tx tx' base c w) (hs : tx' (base + 1 + 4 * c) ≤ 3) : dsT g tx' base (c + 1) nd el js := by
  obtain ⟨h1, h2, h3, h4⟩ := h
  refine ⟨by omega, fun i i0 i1 => ?_, h3, fun i k i0 i1 z1 z2 k0 k1 => ?_⟩
  · have := h2 i i0 i1
    exact ⟨by omega, this.2.step this.1 ag⟩
  · by_cases ck : k = c
    · rw [ck]; exact hs
    · rw [ag.1 k k0 (by omega) 1 (by omega) (by omega)]
      exact h4 i k i0 i1 z1 z2 k0 (by omega)
theorem dsT.new {nd : Int} {el : Int → Nat} {js : Int → Int} {q : Nat} (h : dsT g tx base c nd el js) (ag : agT tx tx' base c w) (hq : doR g tx' base c q) : dsT g tx' base (c + 1) (nd + 1) (fun i => if i = nd then q else el i) (fun i => if i = nd then c else js i) := by
  obtain ⟨h1, h2, h3, h4⟩ := h
  refine ⟨by omega, fun i i0 i1 => ?_, fun i i0 i1 => ?_, fun i k i0 i1 z1 z2 k0 k1 => ?_⟩
  · dsimp only
    by_cases e : i = nd
    · rw [if_pos e, if_pos e]
      exact ⟨by omega, hq⟩
    · rw [if_neg e, if_neg e]
      have := h2 i i0 (by omega)
      exact ⟨by omega, this.2.step this.1 ag⟩
  · dsimp only
    by_cases e : i + 1 = nd
    · rw [if_pos e, if_neg (by omega)]
      exact (h2 i i0 (by omega)).1.2
    · rw [if_neg e, if_neg (by omega)]
      exact h3 i i0 (by omega)
  · dsimp only at z1 z2
    by_cases e : i = nd + 1
    · have := z1 (by omega)
      rw [if_pos (by omega)] at this
      omega
    · by_cases e2 : i = nd
      · have y2 := z2 (by omega)
        rw [if_pos e2] at y2
        rw [ag.1 k k0 (by omega) 1 (by omega) (by omega)]
        exact h4 i k i0 (by omega) (fun y => by have := z1 y; rw [if_neg (by omega)] at this; exact this) (fun y => by omega) k0 (by omega)
      · have y2 := z2 (by omega)
        rw [if_neg e2] at y2
        have := (h2 i i0 (by omega)).1
        rw [ag.1 k k0 (by omega) 1 (by omega) (by omega)]
        exact h4 i k i0 (by omega) (fun y => by have := z1 y; rw [if_neg (by omega)] at this; exact this) (fun y => y2) k0 (by omega)
end STEP
