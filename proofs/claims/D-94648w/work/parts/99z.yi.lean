/-! PURE: text(): all clauses, both sides -/
section RDALL
variable {T0 : St} {b : Int → Int} {n N : Int}
def JRd (T0 T : St) (b : Int → Int) (n p N c w : Int) : Prop :=
  (∃ (f pl : Int) (T2 : St), (1 ≤ f ∧ f ≤ 6) ∧ fI T2 8 = pl ∧ twF T0 T2 N ∧ (∀ K : Int → St → Prop, K f T2 → ∃ m, l_M_readText_48 K m T) ∧ ∃ M : Nat, ∀ (S0 S : St) (x0 q : Nat) (kd : Int) (K : Option Nat → Option Nat → St → Prop) (fs0 : List PV), gI S0 x0 = some (.inr (.inl (3, fs0))) → xtk S x0 b n p 0 kd → frX S0 S x0 → TI S0 S q (aI T 2) (700 * N) c c w → (40 * (n - p) + 100 ≤ fI S 200 ∧ 2000 * (n - p) + 600 ≤ fI S 201) → (∀ q' S', frX S0 S' x0 → eW S' q' f pl → K (some q') none S') → l_X3_read_12 x0 q K M S) ∨
  ∃ (T2 : St) (p' c' w' : Int), TW T0 T2 b n p' N c' w' ∧ (∀ K : Int → St → Prop, K 0 T2 → ∃ m, l_M_readText_48 K m T) ∧ ∃ M : Nat, ∀ (S0 S : St) (x0 q : Nat) (kd : Int) (K : Option Nat → Option Nat → St → Prop) (fs0 : List PV), gI S0 x0 = some (.inr (.inl (3, fs0))) → xtk S x0 b n p 0 kd → frX S0 S x0 → TI S0 S q (aI T 2) (700 * N) c c w → (40 * (n - p) + 100 ≤ fI S 200 ∧ 2000 * (n - p) + 600 ≤ fI S 201) → (∀ S', frX S0 S' x0 → TI S0 S' q (aI T2 2) (700 * N) c' c' w' → K none (some q) S') → l_X3_read_12 x0 q K M S
theorem JRd_all : ∀ (m : Nat) (T : St) (p c w : Int), TW T0 T b n p N c w → n - p < m → 0 ≤ c ∧ c ≤ 24 → JRd T0 T b n p N c w := by
  intro m
  induction m with
  | zero =>
    intro T p c w h hm hc
    obtain ⟨lim, e1⟩ := h.1
    have := e1.2.1.2
    omega
  | succ m ih =>
    intro T p c w h hm hc
    have h' := h
    obtain ⟨⟨lim, e1⟩, -⟩ := h'
    by_cases ht : tk b n p = 0
    · exact Or.inr ⟨T, p, c, w, h, fun K hK => rd_stop e1 ht hK, 1, fun S0 S x0 q kd K fs0 h0 hx hf hT hB hK => rdx_stop ht hx (hK S hf hT)⟩
    · rcases JCl_at h ht hc with ⟨f, pl, T2, hf, hpl, tF, hcl, hX⟩ | ⟨T2, p', w', hp, hc24, tW, hcl, hX⟩
      · exact Or.inl ⟨f, pl, T2, hf, hpl, tF, fun K hK => rd_fault e1 ht (by omega) hcl hK, 1, fun S0 S x0 q kd K fs0 h0 hx hfr hT hB hK => hX S0 S x0 q 0 kd K fs0 h0 hx hfr hT hB hK⟩
      · rcases ih T2 p' (c + 1) w' tW (by omega) (by omega) with ⟨f, pl, T3, hf, hpl, tF, h2, M, hX2⟩ | ⟨T3, p3, c3, w3, tW3, h2, M, hX2⟩
        · exact Or.inl ⟨f, pl, T3, hf, hpl, tF, fun K hK => rd_go e1 ht hcl (h2 K hK), M + 1, fun S0 S x0 q kd K fs0 h0 hx hfr hT hB hK => hX S0 S x0 q M kd K fs0 h0 hx hfr hT (by omega) (fun S' kd' f' t' T' b' => hX2 S0 S' x0 q kd' K fs0 h0 t' f' T' (by omega) hK)⟩
        · exact Or.inr ⟨T3, p3, c3, w3, tW3, fun K hK => rd_go e1 ht hcl (h2 K hK), M + 1, fun S0 S x0 q kd K fs0 h0 hx hfr hT hB hK => hX S0 S x0 q M kd K fs0 h0 hx hfr hT (by omega) (fun S' kd' f' t' T' b' => hX2 S0 S' x0 q kd' K fs0 h0 t' f' T' (by omega) hK)⟩
end RDALL
