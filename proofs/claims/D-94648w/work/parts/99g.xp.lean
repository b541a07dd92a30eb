/-! PURE: text(): what questions mean to the component -/
def askC (g : Nat → Option PE) (e : Nat) : Prop := ∃ (ci : Nat) (fs : List PV), g e = some (.inr (.inl (ci, fs))) ∧ 10 ≤ ci ∧ ci ≤ 12
def yR (S0 S : St) (D : Nat) (lim : Int) (e : Nat) (ψ : (Int → Int) → Int) : Prop := ∃ g : Nat → Option PE, extP g (gI S) ∧ gNw S0 g ∧ askC g e ∧ ∀ d, D ≤ d → xAsk g d lim e ψ
theorem askC.S {S : St} {g : Nat → Option PE} {e : Nat} (h : askC g e) (hg : extP g (gI S)) : isAsked S e := by
  obtain ⟨ci, fs, h1, h2, h3⟩ := h
  have h4 := hg _ _ h1
  have hc : ci = 10 ∨ ci = 11 ∨ ci = 12 := by omega
  rcases hc with c | c | c <;> subst c
  · exact Or.inr (Or.inl ⟨_, h4⟩)
  · exact Or.inl ⟨_, h4⟩
  · exact Or.inr (Or.inr ⟨_, h4⟩)
theorem askC.El {S : St} {g : Nat → Option PE} {e : Nat} (h : askC g e) (hg : extP g (gI S)) : isEl S e := by
  obtain ⟨ci, fs, h1, h2, h3⟩ := h
  exact ⟨ci, fs, hg _ _ h1, Or.inl ⟨by omega, by omega⟩⟩
theorem askC.ext {g g' : Nat → Option PE} {e : Nat} (h : askC g e) (hg : extP g g') : askC g' e := by
  obtain ⟨ci, fs, h1, h2⟩ := h
  exact ⟨ci, fs, hg _ _ h1, h2⟩
theorem yR.fr {S0 S S' : St} {D e x0 : Nat} {lim : Int} {ψ : (Int → Int) → Int} {fs0 fs : List PV} (h : yR S0 S D lim e ψ) (f : frX S S' x0) (h0 : gI S0 x0 = some (.inr (.inl (3, fs0)))) (hx : gI S x0 = some (.inr (.inl (3, fs)))) : yR S0 S' D lim e ψ := by
  obtain ⟨g, r1, r2, r3, r4⟩ := h
  have gx : g x0 = none := r2.no (ne_some h0) r1 hx (fun gs z => by injection z with z; injection z with z; injection z with z _; cases z)
  exact ⟨g, r1.fr f.W (fun a z => by rw [z]; exact gx), r2, r3, r4⟩
theorem yR.up {S0 Si S : St} {D D' e : Nat} {lim : Int} {ψ : (Int → Int) → Int} (h : yR Si S D lim e ψ) (hl : liv S0 Si) (hD : D ≤ D') : yR S0 S D' lim e ψ := by
  obtain ⟨g, r1, r2, r3, r4⟩ := h
  exact ⟨g, r1, r2.liv hl, r3, fun d hd => r4 d (by omega)⟩
theorem yR.not {S0 Si S1 S : St} {D D' q e : Nat} {lim : Int} {ψ : (Int → Int) → Int} {fs : List PV} (h : yR Si S1 D lim e ψ) (hl : liv S0 Si) (hq0 : gI S0 q = none) (hqi : gI Si q ≠ none) (hq1 : gI S1 q = some (.inr (.inl (10, fs)))) (f : frW S1 S (fun a => a = q)) (hq : gI S q = some (.inr (.inl (10, [.inr (.inr (some e))])))) (ok : okB lim ψ) (hD : D + 1 ≤ D') : yR S0 S D' lim q (fun v => 1 - ψ v) := by
  obtain ⟨g, r1, r2, r3, r4⟩ := h
  have gq : g q = none := r2.no hqi r1 hq1 (fun gs z => by injection z with z; injection z with z; injection z with z _; cases z)
  have r1' : extP g (gI S) := r1.fr f (fun a z => by rw [z]; exact gq)
  refine ⟨fun a => if a = q then gI S q else g a, fun a y w => ?_, fun a y w => ?_, ⟨10, _, by dsimp only; rw [if_pos rfl]; exact hq, by omega, by omega⟩, fun d hd S' K hx hN hK => ?_⟩
  · dsimp only at w
    split at w
    · rename_i c; rw [c]; exact w
    · exact r1' _ _ w
  · dsimp only at w
    split at w
    · rename_i c; rw [c]; exact Or.inl hq0
    · exact (r2.liv hl) _ _ w
  · obtain ⟨d', rfl⟩ : ∃ d', d = d' + 1 := ⟨d - 1, by omega⟩
    have hq' := hx q _ (by dsimp only; rw [if_pos rfl]; exact hq)
    have hg : extP g (gI S') := fun a y w => hx a y (by
      dsimp only
      split
      · rename_i c; rw [← c]; exact r1' _ _ w
      · exact w)
    have hb := ok.2 (aI S' 9)
    refine Or.inr (Or.inl ⟨⟨_, hq'⟩, _, e, hq', rfl, r4 d' (by omega) S' _ hg hN (fun _ => ⟨fun z => ?_, fun z => ?_⟩)⟩)
    · have : 1 - ψ (aI S' 9) = 0 := by omega
      exact this ▸ hK
    · have : 1 - ψ (aI S' 9) = 1 := by omega
      exact this ▸ hK
/-- the sort of a comparison against its step -/
def cmS (s : Int) : Int := if s = 60 then 10 else if s = 303 then 11 else if s = 62 then 12 else if s = 304 then 13 else if s = 61 then 14 else if s = 35 then 15 else -1
theorem cmp_ev {s x : Int} {K : Int → Prop} {a c : Int} (hx : x = a - c) (hs : 0 ≤ cmS s) (hK : K (cmpV (cmS s) a c)) : ((s = 35 → ((x = 0 → K 0) ∧ (¬ (x = 0) → K 1))) ∧ (s = 60 → ((0 ≤ x → K 0) ∧ (¬ (0 ≤ x) → K 1))) ∧ (s = 61 → ((¬ x = 0 → K 0) ∧ (x = 0 → K 1))) ∧ (s = 62 → ((x ≤ 0 → K 0) ∧ (¬ (x ≤ 0) → K 1))) ∧ (s = 303 → ((0 < x → K 0) ∧ (¬ (0 < x) → K 1))) ∧ (¬ s = 35 ∧ ¬ s = 60 ∧ ¬ s = 61 ∧ ¬ s = 62 ∧ ¬ s = 303 → ((x < 0 → K 0) ∧ (¬ (x < 0) → K 1)))) := by
  have n4 : s = 304 → cmS s = 13 := fun e => by rw [e]; rfl
  refine ⟨fun e => ?_, fun e => ?_, fun e => ?_, fun e => ?_, fun e => ?_, fun e => ?_⟩
  · have h : cmpV (cmS s) a c = if a = c then 0 else 1 := by rw [e]; rfl
    rw [h] at hK
    exact ⟨fun z => by rw [if_pos (by omega)] at hK; exact hK, fun z => by rw [if_neg (by omega)] at hK; exact hK⟩
  · have h : cmpV (cmS s) a c = if a < c then 1 else 0 := by rw [e]; rfl
    rw [h] at hK
    exact ⟨fun z => by rw [if_neg (by omega)] at hK; exact hK, fun z => by rw [if_pos (by omega)] at hK; exact hK⟩
  · have h : cmpV (cmS s) a c = if a = c then 1 else 0 := by rw [e]; rfl
    rw [h] at hK
    exact ⟨fun z => by rw [if_neg (by omega)] at hK; exact hK, fun z => by rw [if_pos (by omega)] at hK; exact hK⟩
  · have h : cmpV (cmS s) a c = if c < a then 1 else 0 := by rw [e]; rfl
    rw [h] at hK
    exact ⟨fun z => by rw [if_neg (by omega)] at hK; exact hK, fun z => by rw [if_pos (by omega)] at hK; exact hK⟩
  · have h : cmpV (cmS s) a c = if a ≤ c then 1 else 0 := by rw [e]; rfl
    rw [h] at hK
    exact ⟨fun z => by rw [if_neg (by omega)] at hK; exact hK, fun z => by rw [if_pos (by omega)] at hK; exact hK⟩
  · have h4 : s = 304 := by
      unfold cmS at hs
      rw [if_neg e.2.1, if_neg e.2.2.2.2, if_neg e.2.2.2.1] at hs
      by_cases c4 : s = 304
      · exact c4
      · rw [if_neg c4, if_neg e.2.2.1, if_neg e.1] at hs
        omega
    have h : cmpV (cmS s) a c = if c ≤ a then 1 else 0 := by rw [h4]; rfl
    rw [h] at hK
    exact ⟨fun z => by rw [if_neg (by omega)] at hK; exact hK, fun z => by rw [if_pos (by omega)] at hK; exact hK⟩
theorem yR.cmp {S0 Si Sj S1 S2 S : St} {D D' q e1 e2 : Nat} {lim s : Int} {φ χ : (Int → Int) → Int} (h1 : xR Si S1 D lim e1 φ) (h2 : xR Sj S2 D lim e2 χ) (hl1 : liv S0 Si) (hl2 : liv S0 Sj) (f1 : ∀ a y, gI Si a = none ∨ (∃ fs : List PV, y = .inr (.inl (15, fs))) → gI S1 a = some y → gI S a = some y) (f2 : ∀ a y, gI Sj a = none ∨ (∃ fs : List PV, y = .inr (.inl (15, fs))) → gI S2 a = some y → gI S a = some y)
    (hq0 : gI S0 q = none) (hq : gI S q = some (.inr (.inl (11, [.inl s, .inr (.inr (some e1)), .inr (.inr (some e2))])))) (hs : 0 ≤ cmS s) (ok1 : okF lim φ) (ok2 : okF lim χ) (hD : D ≤ 70) (hD' : 1 ≤ D') : yR S0 S D' lim q (fun v => cmpV (cmS s) (φ v) (χ v)) := by
  obtain ⟨g1, a1, a2, a3, a4⟩ := h1
  obtain ⟨g2, b1, b2, b3, b4⟩ := h2
  have x1 : extP g1 (gI S) := fun a y w => f1 a y (a2 a y w) (a1 a y w)
  have x2 : extP g2 (gI S) := fun a y w => f2 a y (b2 a y w) (b1 a y w)
  refine ⟨fun a => if (g1 a).isSome = true ∨ (g2 a).isSome = true ∨ a = q then gI S a else none, fun a y w => ?_, fun a y w => ?_, ⟨11, _, by dsimp only; rw [if_pos (Or.inr (Or.inr rfl))]; exact hq, by omega, by omega⟩, fun d hd S' K hx hN hK => ?_⟩
  · dsimp only at w
    split at w
    · exact w
    · cases w
  · dsimp only at w
    split at w
    · rename_i hc
      rcases hc with hc | hc | hc
      · cases hz : g1 a with
        | none => rw [hz] at hc; cases hc
        | some y1 =>
          have := x1 _ _ hz
          rw [w] at this
          cases this
          exact (a2.liv hl1) _ _ hz
      · cases hz : g2 a with
        | none => rw [hz] at hc; cases hc
        | some y1 =>
          have := x2 _ _ hz
          rw [w] at this
          cases this
          exact (b2.liv hl2) _ _ hz
      · rw [hc]; exact Or.inl hq0
    · cases w
  · obtain ⟨d', rfl⟩ : ∃ d', d = d' + 1 := ⟨d - 1, by omega⟩
    have hq' := hx q _ (by dsimp only; rw [if_pos (Or.inr (Or.inr rfl))]; exact hq)
    have hg1 : extP g1 (gI S') := fun a y w => hx a y (by
      dsimp only
      rw [if_pos (Or.inl (by rw [w]; rfl))]
      exact x1 _ _ w)
    have hg2 : extP g2 (gI S') := fun a y w => hx a y (by
      dsimp only
      rw [if_pos (Or.inr (Or.inl (by rw [w]; rfl)))]
      exact x2 _ _ w)
    have k1 := ok1.2 _ hN
    have k2 := ok2.2 _ hN
    refine Or.inl ⟨⟨_, hq'⟩, _, e1, hq', rfl, 70, Nat.le_refl _, a4 70 hD S' _ hg1 hN (fun _ => ⟨_, e2, hq', rfl, 70, Nat.le_refl _, b4 70 hD S' _ hg2 hN (fun _ => ⟨by constructor <;> omega, fun x ex _ => ⟨_, s, hq', rfl, fun _ => cmp_ev ex hs hK⟩⟩)⟩)⟩
