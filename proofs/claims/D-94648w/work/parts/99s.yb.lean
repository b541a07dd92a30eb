/-! PURE: text(): a clause on both sides: the twin at its start, the easy faults -/
/-- what text() leaves alone -/
def twF (T0 T : St) (N : Int) : Prop := (∀ k, ¬ (7 ≤ k ∧ k ≤ 12) → k ≠ 14 → ¬ (17 ≤ k ∧ k ≤ 21) → fI T k = fI T0 k) ∧ (∀ k, k ≠ 2 → k ≠ 4 → aI T k = aI T0 k) ∧ ∀ i, (i < 700 * N ∨ 700 * N + 700 ≤ i) → aI T 2 i = aI T0 2 i
/-- the twin before a clause: c clauses and w steps stand in slot N -/
def TW (T0 T : St) (b : Int → Int) (n p N c w : Int) : Prop :=
  (∃ lim, exS b n lim T p 0 w) ∧ (fI T 12 = 700 * N ∧ 0 ≤ N ∧ N ≤ 3) ∧ aI T 2 (700 * N) = c ∧ (0 ≤ w ∧ w ≤ p) ∧ ((0 ≤ fI T 21 ∧ fI T 21 < 8) ∧ ∀ i, 0 ≤ i → i < 3 → (bt (fI T 21) i = 0 ∨ bt (fI T 21) i = 1) ∧ (bt (fI T 21) i = 1 ↔ ∃ k, 0 ≤ k ∧ k < c ∧ aI T 2 (700 * N + 1 + 4 * k) = i)) ∧ twF T0 T N
def XclF (b : Int → Int) (n p N c w : Int) (tx : Int → Int) (f pl : Int) : Prop := ∀ (S0 S : St) (x0 q M : Nat) (kd : Int) (K : Option Nat → Option Nat → St → Prop) (fs0 : List PV), gI S0 x0 = some (.inr (.inl (3, fs0))) → xtk S x0 b n p 0 kd → frX S0 S x0 → TI S0 S q tx (700 * N) c c w → (40 * (n - p) + 100 ≤ fI S 200 ∧ 2000 * (n - p) + 600 ≤ fI S 201) → (∀ q' S', frX S0 S' x0 → eW S' q' f pl → K (some q') none S') → l_X3_read_12 x0 q K (M + 1) S
def XclO (b : Int → Int) (n p p' N c w w' : Int) (tx tx' : Int → Int) : Prop := ∀ (S0 S : St) (x0 q M : Nat) (kd : Int) (K : Option Nat → Option Nat → St → Prop) (fs0 : List PV), gI S0 x0 = some (.inr (.inl (3, fs0))) → xtk S x0 b n p 0 kd → frX S0 S x0 → TI S0 S q tx (700 * N) c c w → (40 * (p' - p) ≤ fI S 200 ∧ 2000 * (p' - p) ≤ fI S 201) →
  (∀ S' kd', frX S0 S' x0 → xtk S' x0 b n p' 0 kd' → TI S0 S' q tx' (700 * N) (c + 1) (c + 1) w' → (fI S 200 - 40 * (p' - p) ≤ fI S' 200 ∧ fI S 201 - 2000 * (p' - p) ≤ fI S' 201) → l_X3_read_12 x0 q K M S') → l_X3_read_12 x0 q K (M + 1) S
/-- a clause: both sides -/
def JCl (T0 T : St) (b : Int → Int) (n p N c w : Int) : Prop :=
  (∃ (f pl : Int) (T2 : St), (1 ≤ f ∧ f ≤ 6) ∧ fI T2 8 = pl ∧ twF T0 T2 N ∧ (∀ Kc : Int → St → Prop, Kc f T2 → w_M_clause T Kc) ∧ XclF b n p N c w (aI T 2) f pl) ∨
  ∃ (T2 : St) (p' w' : Int), (p < p' ∧ p' ≤ n) ∧ c < 24 ∧ TW T0 T2 b n p' N (c + 1) w' ∧ (∀ Kc : Int → St → Prop, Kc 0 T2 → w_M_clause T Kc) ∧ XclO b n p p' N c w w' (aI T 2) (aI T2 2)
section JCL
variable {T0 T : St} {b : Int → Int} {n p N c w : Int}
theorem tok8 {lim o w0 : Int} (h : exS b n lim T p o w0) : fI T 8 = tq b n p := h.2.2.1.1
theorem J_bad (h : TW T0 T b n p N c w) (ht : tk b n p ≠ 0) (hs : soF b n p < 0) : JCl T0 T b n p N c w := by
  obtain ⟨⟨lim, h1⟩, h2, h3, h4, h5, h6⟩ := h
  refine Or.inl ⟨1, tq b n p, T, by decide, tok8 h1, h6, fun Kc hK => cl_1 h1 hs hK, fun S0 S x0 q M kd K fs0 h0 hx hf hT hB hK => ?_⟩
  have hn := hx.n300
  exact rdx_bad ht hs hx (by omega) (fun q' S' f1 w1 => hK q' S' (hf.trans f1) w1)
theorem fld_some {g : Nat → Option PE} {tx : Int → Int} {base c2 w2 nd s : Int} {fw fh fu : Option Nat} {pm : Int → Int} {el : Int → Nat} {js : Int → Int} (H : TH g tx base c2 w2 fw fh fu pm nd el js) (hs : 0 ≤ s ∧ s < 3) : (∃ e, fldT s fw fh fu = some e) ↔ ∃ k, 0 ≤ k ∧ k < c2 ∧ tx (base + 1 + 4 * k) = s := by
  have hcc := H.hc
  unfold fldT
  have hc : s = 0 ∨ s = 1 ∨ s = 2 := by omega
  rcases hc with e | e | e
  · subst e
    rw [if_pos rfl]
    constructor
    · rintro ⟨e, z⟩
      have := H.sw
      rw [z] at this
      have := this.ex0
      rw [hcc] at this
      exact this
    · rintro ⟨k, k0, k1, z⟩
      cases hq : fw with
      | none =>
        have := H.sw
        rw [hq] at this
        exact absurd z (this.no0 k k0 (by rw [hcc]; exact k1))
      | some e => exact ⟨e, rfl⟩
  · subst e
    rw [if_neg (by decide), if_pos rfl]
    constructor
    · rintro ⟨e, z⟩
      have := H.sh
      rw [z] at this
      have := this.ex0
      rw [hcc] at this
      exact this
    · rintro ⟨k, k0, k1, z⟩
      cases hq : fh with
      | none =>
        have := H.sh
        rw [hq] at this
        exact absurd z (this.no0 k k0 (by rw [hcc]; exact k1))
      | some e => exact ⟨e, rfl⟩
  · subst e
    rw [if_neg (by decide), if_neg (by decide), if_pos rfl]
    constructor
    · rintro ⟨e, z⟩
      have := H.su
      rw [z] at this
      have := this.ex0
      rw [hcc] at this
      exact this
    · rintro ⟨k, k0, k1, z⟩
      cases hq : fu with
      | none =>
        have := H.su
        rw [hq] at this
        exact absurd z (this.no0 k k0 (by rw [hcc]; exact k1))
      | some e => exact ⟨e, rfl⟩
theorem J_dup (h : TW T0 T b n p N c w) (hs : 0 ≤ soF b n p ∧ soF b n p < 3) (h1 : bt (fI T 21) (soF b n p) = 1) : JCl T0 T b n p N c w := by
  obtain ⟨⟨lim, e1⟩, e2, e3, e4, e5, e6⟩ := h
  refine Or.inl ⟨4, tq b n p, T, by decide, tok8 e1, e6, fun Kc hK => cl_4 e1 hs h1 hK, fun S0 S x0 q M kd K fs0 h0 hx hf hT hB hK => ?_⟩
  have hn := hx.n300
  obtain ⟨fw, fh, fu, m, l, ed, pm, nd, el, js, g, hT, H⟩ := hT
  obtain ⟨e, he⟩ := (fld_some H hs).mpr (((e5.2 _ hs.1 hs.2).2).mp h1)
  exact rdx_dup rfl hs.1 hx hT h0 he (by omega) (fun q' S' f1 w1 => hK q' S' (hf.trans f1) w1)
/-- no clause of this sort yet -/
theorem fld_none {s : Int} (h : TW T0 T b n p N c w) (hs : 0 ≤ s) (h1 : s < 3 → bt (fI T 21) s = 0) {g : Nat → Option PE} {nd : Int} {fw fh fu : Option Nat} {pm : Int → Int} {el : Int → Nat} {js : Int → Int} (H : TH g (aI T 2) (700 * N) c w fw fh fu pm nd el js) : fldT s fw fh fu = none := by
  obtain ⟨-, -, -, -, e5, -⟩ := h
  by_cases c3 : s < 3
  · cases hq : fldT s fw fh fu with
    | none => rfl
    | some e =>
      have := (e5.2 s hs c3).2.mpr ((fld_some H ⟨hs, c3⟩).mp ⟨e, hq⟩)
      have := h1 c3
      omega
  · unfold fldT
    rw [if_neg (by omega), if_neg (by omega), if_neg (by omega)]
theorem J_six (h : TW T0 T b n p N c w) (hs : 0 ≤ soF b n p) (h1 : soF b n p < 3 → bt (fI T 21) (soF b n p) = 0) (hc : c = 24) : JCl T0 T b n p N c w := by
  have h' := h
  obtain ⟨⟨lim, e1⟩, e2, e3, e4, e5, e6⟩ := h
  subst hc
  refine Or.inl ⟨6, tq b n p, T, by decide, tok8 e1, e6, fun Kc hK => cl_6 e1 hs h1 (by rw [e2.1]; exact e3) hK, fun S0 S x0 q M kd K fs0 h0 hx hf hT hB hK => ?_⟩
  have hn := hx.n300
  obtain ⟨fw, fh, fu, m, l, ed, pm, nd, el, js, g, hT, H⟩ := hT
  exact rdx_go rfl hs hx hT h0 (fld_none h' hs h1 H) (fun S1 t1 f1 b1 T1 => rdx_six t1 T1 (by rw [b1]; omega) (fun q' S' f2 w2 => hK q' S' (hf.trans (f1.trans f2)) w2))
end JCL
