/-! PURE: text(): one of the component: leaves -/
theorem sX_tn (b : Int → Int) (n p : Int) : (0 ≤ tn b n p ∧ tn b n p ≤ 7 ∧ sX b n p = 216 + tn b n p) ∨ (tn b n p < 0 ∧ (sX b n p < 216 ∨ 223 < sX b n p)) := by
  by_cases h : tk b n p = 2
  · have e : tn b n p = nmW (tw b n p) := by unfold tn; rw [if_pos h]
    rcases w_cases (tw b n p) with ⟨i, hi, -, e2, e3, -⟩ | ⟨-, e2, e3, -⟩
    · rw [e, e3, sX_2 h, e2]
      split <;> omega
    · rw [e, e3, sX_2 h, e2]
      omega
  · have e : tn b n p = -1 := by unfold tn; rw [if_neg h]
    right
    rw [e]
    rcases sX_all b n p with ⟨a, c⟩ | ⟨a, c⟩ | ⟨a, -⟩ | ⟨a, c⟩ | ⟨a, c⟩ | ⟨a, c⟩ | ⟨-, a, c, d⟩
    · omega
    · omega
    · exact absurd a h
    · omega
    · omega
    · omega
    · omega
def kdL (kd lim : Int) : Prop := (kd = 202 ∧ lim = 8) ∨ (kd ≠ 202 ∧ lim = 5)
theorem xR.fr {S0 S S' : St} {D e x0 : Nat} {lim : Int} {φ : (Int → Int) → Int} {fs0 fs : List PV} (h : xR S0 S D lim e φ) (f : frX S S' x0) (h0 : gI S0 x0 = some (.inr (.inl (3, fs0)))) (hx : gI S x0 = some (.inr (.inl (3, fs)))) : xR S0 S' D lim e φ := by
  obtain ⟨g, r1, r2, r3, r4⟩ := h
  have gx : g x0 = none := r2.no (ne_some h0) r1 hx (fun gs z => by injection z with z; injection z with z; injection z with z _; cases z)
  exact ⟨g, r1.fr f.W (fun a z => by rw [z]; exact gx), r2, r3, r4⟩
theorem xR.up {S0 Si S : St} {D D' e : Nat} {lim : Int} {φ : (Int → Int) → Int} (h : xR Si S D lim e φ) (hl : liv S0 Si) (hD : D ≤ D') : xR S0 S D' lim e φ := by
  obtain ⟨g, r1, r2, r3, r4⟩ := h
  exact ⟨g, r1, r2.liv hl, r3, fun d hd => r4 d (by omega)⟩
theorem xR.num {S0 S : St} {D q : Nat} {lim v : Int} (h0 : gI S0 q = none) (h : gI S q = some (.inr (.inl (7, [.inl v])))) (hD : 1 ≤ D) : xR S0 S D lim q (fun _ => v) := by
  refine ⟨fun a => if a = q then gI S q else none, fun a y e => ?_, fun a y e => ?_, ⟨7, [.inl v], by dsimp only; rw [if_pos rfl]; exact h, by omega, by omega⟩, fun d hd S' K hx hN hK => ?_⟩
  · dsimp only at e
    split at e
    · rename_i c; rw [c]; exact e
    · cases e
  · dsimp only at e
    split at e
    · rename_i c; rw [c]; exact Or.inl h0
    · cases e
  · obtain ⟨d', rfl⟩ : ∃ d', d = d' + 1 := ⟨d - 1, by omega⟩
    have hq := hx q _ (by dsimp only; rw [if_pos rfl]; exact h)
    exact Or.inl ⟨⟨_, hq⟩, _, v, hq, rfl, fun _ => hK⟩
theorem xR.name {S0 S : St} {D q : Nat} {lim v : Int} (h0 : gI S0 q = none) (h : gI S q = some (.inr (.inl (8, [.inl v])))) (hv : 0 ≤ v ∧ v < 8) (hD : 1 ≤ D) : xR S0 S D lim q (fun w => w v) := by
  refine ⟨fun a => if a = q then gI S q else none, fun a y e => ?_, fun a y e => ?_, ⟨8, [.inl v], by dsimp only; rw [if_pos rfl]; exact h, by omega, by omega⟩, fun d hd S' K hx hN hK => ?_⟩
  · dsimp only at e
    split at e
    · rename_i c; rw [c]; exact e
    · cases e
  · dsimp only at e
    split at e
    · rename_i c; rw [c]; exact Or.inl h0
    · cases e
  · obtain ⟨d', rfl⟩ : ∃ d', d = d' + 1 := ⟨d - 1, by omega⟩
    have hq := hx q _ (by dsimp only; rw [if_pos rfl]; exact h)
    exact Or.inr (Or.inl ⟨⟨_, hq⟩, _, v, hq, rfl, fun _ => ⟨hv, fun _ => hK⟩⟩)
theorem xR.minus {S0 Si S1 S : St} {D D' q e : Nat} {lim : Int} {χ : (Int → Int) → Int} {fs : List PV} (h : xR Si S1 D lim e χ) (hl : liv S0 Si) (hq0 : gI S0 q = none) (hqi : gI Si q ≠ none) (hq1 : gI S1 q = some (.inr (.inl (9, fs)))) (f : frW S1 S (fun a => a = q)) (hq : gI S q = some (.inr (.inl (9, [.inr (.inr (some e))])))) (ok : okF lim χ) (hD : D + 1 ≤ D') : xR S0 S D' lim q (fun v => -χ v) := by
  obtain ⟨g, r1, r2, r3, r4⟩ := h
  have gq : g q = none := r2.no hqi r1 hq1 (fun gs z => by injection z with z; injection z with z; injection z with z _; cases z)
  have r1' : extP g (gI S) := r1.fr f (fun a z => by rw [z]; exact gq)
  refine ⟨fun a => if a = q then gI S q else g a, fun a y w => ?_, fun a y w => ?_, ⟨9, _, by dsimp only; rw [if_pos rfl]; exact hq, by omega, by omega⟩, fun d hd S' K hx hN hK => ?_⟩
  · dsimp only at w
    split at w
    · rename_i c; rw [c]; exact w
    · exact r1' _ _ w
  · dsimp only at w
    split at w
    · rename_i c; rw [c]; exact Or.inl hq0
    · exact (r2.liv hl) _ _ w
  · obtain ⟨d', rfl⟩ : ∃ d', d = d' + 1 := ⟨d - 1, by omega⟩
    have hq' := hx q _ (by dsimp only; rw [if_pos rfl]; exact hq)
    have hg : extP g (gI S') := fun a y w => hx a y (by
      dsimp only
      split
      · rename_i c; rw [← c]; exact r1' _ _ w
      · exact w)
    have hb := ok.2 _ hN
    refine Or.inr (Or.inr (Or.inl ⟨⟨_, hq'⟩, _, e, hq', rfl, r4 d' (by omega) S' _ hg hN (fun _ => ⟨?_, hK⟩)⟩))
    constructor <;> omega
theorem xtk_setO {S : St} {x0 : Nat} {b : Int → Int} {n p o kd : Int} (h : xtk S x0 b n p (o + 1) kd) (ho : 0 ≤ o ∧ o ≤ 8) : ∃ (fs : List PV) (v : Int), gI S x0 = some (.inr (.inl (3, fs))) ∧ fs[6]? = some (.inl v) ∧ (InR v → InR (v - 1) ∧ ∃ fs2 : List PV, gI S x0 = some (.inr (.inl (3, fs2))) ∧ fs2.length = 8 ∧ ∀ S', S' = gset S x0 (.inr (.inl (3, fs2.set 6 (.inl (v - 1))))) → xtk S' x0 b n p o kd ∧ frX S S' x0) := by
  obtain ⟨hp, tp, num, h1, h2, h3⟩ := h
  refine ⟨_, _, h2, rfl, fun _ => ⟨by constructor <;> omega, _, h2, rfl, fun S' e => ?_⟩⟩
  subst e
  refine ⟨⟨hp, tp, num, h1, ?_, h3⟩, frW.X (frW.old rfl)⟩
  rw [gI_gset_s]
  rw [show o + 1 - 1 = o by omega]
  rfl
theorem x_init7B {S : St} {q : Nat} {y : Int} {v : PV} {G : St → Prop} (h : gI S q = some (.inr (.inl (7, [v])))) (hB : 0 ≤ fI S 200 ∧ 0 ≤ fI S 201)
    (hG : ∀ S', frW S S' (fun a => a = q) → gI S' q = some (.inr (.inl (7, [.inl y]))) → (fI S' 200 = fI S 200 ∧ fI S' 201 = fI S 201) → G S') : ∃ u w : Int, ((0 ≤ u ∧ u ≤ fI S 200) ∧ 0 ≤ w ∧ w ≤ fI S 201) ∧ w_X7_init q y (bset S u w) (fun S1 => ∀ S2 : St, S2 = bset S1 (fI S 200 - u) (fI S 201 - w) → G S2) := by
  refine ⟨0, 0, ⟨⟨Int.le_refl _, hB.1⟩, Int.le_refl _, hB.2⟩, 0, 0, ⟨⟨Int.le_refl _, by rw [bset_200]; exact Int.le_refl _⟩, Int.le_refl _, by rw [bset_201]; exact Int.le_refl _⟩, fun S1 e1 => ?_⟩
  have g1 : gI S1 q = some (.inr (.inl (7, [v]))) := by rw [e1]; exact h
  refine ⟨_, g1, rfl, fun S2 e2 S3 e3 => hG S3 ?_ (by rw [e3, gI_bset, e2, gI_gset_s]; rfl) (by rw [e3, bset_200, bset_201]; omega)⟩
  rw [e3, e2, e1]
  exact frW.br (frW.tr (frW.br (frW.br (frW.br (frW.refl _ _)))) (frW.old rfl))
theorem x_init8B {S : St} {q : Nat} {y : Int} {v : PV} {G : St → Prop} (h : gI S q = some (.inr (.inl (8, [v])))) (hB : 0 ≤ fI S 200 ∧ 0 ≤ fI S 201)
    (hG : ∀ S', frW S S' (fun a => a = q) → gI S' q = some (.inr (.inl (8, [.inl y]))) → (fI S' 200 = fI S 200 ∧ fI S' 201 = fI S 201) → G S') : ∃ u w : Int, ((0 ≤ u ∧ u ≤ fI S 200) ∧ 0 ≤ w ∧ w ≤ fI S 201) ∧ w_X8_init q y (bset S u w) (fun S1 => ∀ S2 : St, S2 = bset S1 (fI S 200 - u) (fI S 201 - w) → G S2) := by
  refine ⟨0, 0, ⟨⟨Int.le_refl _, hB.1⟩, Int.le_refl _, hB.2⟩, 0, 0, ⟨⟨Int.le_refl _, by rw [bset_200]; exact Int.le_refl _⟩, Int.le_refl _, by rw [bset_201]; exact Int.le_refl _⟩, fun S1 e1 => ?_⟩
  have g1 : gI S1 q = some (.inr (.inl (8, [v]))) := by rw [e1]; exact h
  refine ⟨_, g1, rfl, fun S2 e2 S3 e3 => hG S3 ?_ (by rw [e3, gI_bset, e2, gI_gset_s]; rfl) (by rw [e3, bset_200, bset_201]; omega)⟩
  rw [e3, e2, e1]
  exact frW.br (frW.tr (frW.br (frW.br (frW.br (frW.refl _ _)))) (frW.old rfl))
theorem x_init9B {S : St} {q : Nat} {y : Nat} {v : PV} {G : St → Prop} (h : gI S q = some (.inr (.inl (9, [v])))) (hB : 0 ≤ fI S 200 ∧ 0 ≤ fI S 201)
    (hG : ∀ S', frW S S' (fun a => a = q) → gI S' q = some (.inr (.inl (9, [.inr (.inr (some y))]))) → (fI S' 200 = fI S 200 ∧ fI S' 201 = fI S 201) → G S') : ∃ u w : Int, ((0 ≤ u ∧ u ≤ fI S 200) ∧ 0 ≤ w ∧ w ≤ fI S 201) ∧ w_X9_init q y (bset S u w) (fun S1 => ∀ S2 : St, S2 = bset S1 (fI S 200 - u) (fI S 201 - w) → G S2) := by
  refine ⟨0, 0, ⟨⟨Int.le_refl _, hB.1⟩, Int.le_refl _, hB.2⟩, 0, 0, ⟨⟨Int.le_refl _, by rw [bset_200]; exact Int.le_refl _⟩, Int.le_refl _, by rw [bset_201]; exact Int.le_refl _⟩, fun S1 e1 => ?_⟩
  have g1 : gI S1 q = some (.inr (.inl (9, [v]))) := by rw [e1]; exact h
  refine ⟨_, g1, rfl, fun S2 e2 S3 e3 => hG S3 ?_ (by rw [e3, gI_bset, e2, gI_gset_s]; rfl) (by rw [e3, bset_200, bset_201]; omega)⟩
  rw [e3, e2, e1]
  exact frW.br (frW.tr (frW.br (frW.br (frW.br (frW.refl _ _)))) (frW.old rfl))
theorem x_init10B {S : St} {q : Nat} {y : Nat} {v : PV} {G : St → Prop} (h : gI S q = some (.inr (.inl (10, [v])))) (hB : 0 ≤ fI S 200 ∧ 0 ≤ fI S 201)
    (hG : ∀ S', frW S S' (fun a => a = q) → gI S' q = some (.inr (.inl (10, [.inr (.inr (some y))]))) → (fI S' 200 = fI S 200 ∧ fI S' 201 = fI S 201) → G S') : ∃ u w : Int, ((0 ≤ u ∧ u ≤ fI S 200) ∧ 0 ≤ w ∧ w ≤ fI S 201) ∧ w_X10_init q y (bset S u w) (fun S1 => ∀ S2 : St, S2 = bset S1 (fI S 200 - u) (fI S 201 - w) → G S2) := by
  refine ⟨0, 0, ⟨⟨Int.le_refl _, hB.1⟩, Int.le_refl _, hB.2⟩, 0, 0, ⟨⟨Int.le_refl _, by rw [bset_200]; exact Int.le_refl _⟩, Int.le_refl _, by rw [bset_201]; exact Int.le_refl _⟩, fun S1 e1 => ?_⟩
  have g1 : gI S1 q = some (.inr (.inl (10, [v]))) := by rw [e1]; exact h
  refine ⟨_, g1, rfl, fun S2 e2 S3 e3 => hG S3 ?_ (by rw [e3, gI_bset, e2, gI_gset_s]; rfl) (by rw [e3, bset_200, bset_201]; omega)⟩
  rw [e3, e2, e1]
  exact frW.br (frW.tr (frW.br (frW.br (frW.br (frW.refl _ _)))) (frW.old rfl))
