/-! PURE: text(): the component's next() -/
theorem bset_bset (S : St) (a b c d : Int) : bset (bset S a b) c d = bset S c d := by
  unfold bset fset
  refine Prod.ext ?_ rfl
  funext x
  by_cases h1 : x = 201
  · simp [h1]
  · by_cases h2 : x = 200
    · simp [h2]
    · simp [h1, h2]
theorem bset_self (S : St) : bset S (fI S 200) (fI S 201) = S := by
  unfold bset
  rw [show fI S 201 = fI (fset S 200 (fI S 200)) 201 by rw [fI_fset_n (by decide)], fset_self, fset_self]
theorem bset_back {S : St} {a b : Int} : bset (bset S a b) (fI S 200 - 0) (fI S 201 - 0) = S := by
  rw [bset_bset, show fI S 200 - 0 = fI S 200 by omega, show fI S 201 - 0 = fI S 201 by omega, bset_self]
section XNEXT
variable {S : St} {b : Int → Int} {n tok so num o kd : Int} {tp x0 : Nat}
theorem x_tok0 (hh : hT S b n tp) {K X : St → Prop} : ∀ (m : Nat) (p : Int), 0 ≤ p → p ≤ n → n - p < m → X (tS S x0 tp n (rnE b n isBl p) tok so num o kd) → l_X3_next_0 x0 K X m (tS S x0 tp n p tok so num o kd) := by
  have hn := hh.2.1
  intro m
  induction m with
  | zero => intro p _ _ h; exact absurd h (by show ¬ (_ < (0 : Int)); omega)
  | succ m ih =>
    intro p p0 p1 hm hX
    have go : p < n → isBl (b p) → j_X3_next_39 x0 (tS S x0 tp n p tok so num o kd) K X (l_X3_next_0 x0 K X m) := fun c1 c2 => by
      refine ⟨_, _, tS_g, rfl, fun _ => ⟨by constructor <;> omega, _, tS_g, rfl, fun S1 e1 => ?_⟩⟩
      obtain rfl : S1 = tS S x0 tp n (p + 1) tok so num o kd := e1.trans (gset_gset _ _ _ _)
      rw [rnE_go ⟨c1, c2⟩] at hX
      exact ih (p + 1) (by omega) (by omega) (by push_cast at hm; omega) hX
    have st : ¬ (p < n ∧ isBl (b p)) → X (tS S x0 tp n p tok so num o kd) := fun c => by
      rw [rnE_stop c] at hX
      exact hX
    refine ⟨_, _, tS_g, rfl, fun _ => ⟨_, _, tS_g, rfl, fun _ => ⟨fun c => st (fun z => by omega), fun c => ?_⟩⟩⟩
    obtain ⟨g1, g2, g3⟩ := hh.2.2 p p0 (by omega)
    have e8 : aI (tS S x0 tp n p tok so num o kd) 8 p = aI S 8 p := rfl
    refine ⟨_, _, tS_g, rfl, hh.1, _, _, tS_g, rfl, fun _ => ⟨⟨p0, by omega⟩, fun _ _ => ⟨fun c2 => go (by omega) (Or.inl (by omega)), fun c2 => ⟨_, _, tS_g, rfl, hh.1, _, _, tS_g, rfl, fun _ => ⟨⟨p0, by omega⟩, fun _ _ => ⟨fun c3 => st (fun z => ?_), fun c3 => go (by omega) (Or.inr (by omega))⟩⟩⟩⟩⟩⟩
    rcases z.2 with z | z <;> omega
theorem x_lets (hh : hT S b n tp) {K X : St → Prop} : ∀ (m : Nat) (p : Int), 0 ≤ p → p ≤ n → n - p < m → X (tS S x0 tp n (rnE b n isLt p) tok so num o kd) → l_X3_next_96 x0 K X m (tS S x0 tp n p tok so num o kd) := by
  have hn := hh.2.1
  intro m
  induction m with
  | zero => intro p _ _ h; exact absurd h (by show ¬ (_ < (0 : Int)); omega)
  | succ m ih =>
    intro p p0 p1 hm hX
    have st : ¬ (p < n ∧ isLt (b p)) → X (tS S x0 tp n p tok so num o kd) := fun c => by
      rw [rnE_stop c] at hX
      exact hX
    refine ⟨_, _, tS_g, rfl, fun _ => ⟨_, _, tS_g, rfl, fun _ => ⟨fun c => st (fun z => by omega), fun c => ?_⟩⟩⟩
    obtain ⟨g1, g2, g3⟩ := hh.2.2 p p0 (by omega)
    refine ⟨_, _, tS_g, rfl, hh.1, _, _, tS_g, rfl, fun _ => ⟨⟨p0, by omega⟩, fun _ _ => p_isLetX (fun c2 _ => ⟨fun z => absurd z (by decide), fun _ => ?_⟩) (fun c2 _ => ⟨fun _ => st (fun z => c2 ?_), fun z => absurd rfl z⟩)⟩⟩
    · refine ⟨_, _, tS_g, rfl, fun _ => ⟨by constructor <;> omega, _, tS_g, rfl, fun S1 e1 => ?_⟩⟩
      obtain rfl : S1 = tS S x0 tp n (p + 1) tok so num o kd := e1.trans (gset_gset _ _ _ _)
      have c3 : isLt (aI S 8 p) := c2
      rw [rnE_go ⟨by omega, by unfold isLt at c3 ⊢; omega⟩] at hX
      exact ih (p + 1) (by omega) (by omega) (by push_cast at hm; omega) hX
    · show isLt (aI S 8 p)
      have z2 := z.2
      unfold isLt at z2 ⊢
      omega
theorem x_digs (hh : hT S b n tp) {K : St → Prop} {q : Int} (hq : 0 ≤ q) : ∀ (m : Nat) (p : Int), q ≤ p → p ≤ n → n - p < m → (∀ k, q ≤ k → k < p → isDg (b k)) → K (tS S x0 tp n (rnE b n isDg p) tok so (min 99999 (dgs b (rnE b n isDg p - q).toNat q 0)) o kd) → l_X3_next_209 x0 K m (tS S x0 tp n p tok so (min 99999 (dgs b (p - q).toNat q 0)) o kd) := by
  have hn := hh.2.1
  intro m
  induction m with
  | zero => intro p _ _ h; exact absurd h (by show ¬ (_ < (0 : Int)); omega)
  | succ m ih =>
    intro p p0 p1 hm hd hX
    have st : ¬ (p < n ∧ isDg (b p)) → K (tS S x0 tp n p tok so (min 99999 (dgs b (p - q).toNat q 0)) o kd) := fun c => by
      rw [rnE_stop c] at hX
      exact hX
    have hv : 0 ≤ dgs b (p - q).toNat q 0 := dgs_nn _ (fun k hk => hd _ (by omega) (by omega))
    refine ⟨_, _, tS_g, rfl, fun _ => ⟨_, _, tS_g, rfl, fun _ => ⟨fun c => st (fun z => by omega), fun c => ?_⟩⟩⟩
    obtain ⟨g1, g2, g3⟩ := hh.2.2 p (by omega) (by omega)
    refine ⟨_, _, tS_g, rfl, hh.1, _, _, tS_g, rfl, fun _ => ⟨⟨by omega, by omega⟩, fun _ _ => p_isDigX (fun c2 _ => ⟨fun z => absurd z (by decide), fun _ => ?_⟩) (fun c2 _ => ⟨fun _ => st (fun z => c2 ?_), fun z => absurd rfl z⟩)⟩⟩
    · have c3 : isDg (aI S 8 p) := c2
      unfold isDg at c3
      have e8 : aI (tS S x0 tp n p tok so (min 99999 (dgs b (p - q).toNat q 0)) o kd) 8 p = aI S 8 p := rfl
      refine ⟨_, _, tS_g, rfl, fun _ => ⟨by constructor <;> omega, _, _, tS_g, rfl, hh.1, _, _, tS_g, rfl, fun _ => ⟨⟨by omega, by omega⟩, fun _ _ => ?_⟩⟩⟩
      rw [e8]
      refine ⟨by constructor <;> omega, by constructor <;> omega, _, tS_g, rfl, fun S1 e1 => ?_⟩
      have e9 : min 99999 (10 * min 99999 (dgs b (p - q).toNat q 0) + aI S 8 p - 48) = min 99999 (dgs b (p + 1 - q).toNat q 0) := by
        rw [show (p + 1 - q).toNat = (p - q).toNat + 1 by omega, dgs_snoc, show q + ((p - q).toNat : Int) = p by omega]
        split <;> omega
      obtain rfl : S1 = tS S x0 tp n p tok so (min 99999 (dgs b (p + 1 - q).toNat q 0)) o kd := by
        rw [← e9]
        exact e1.trans (gset_gset _ _ _ _)
      refine ⟨_, _, tS_g, rfl, fun _ => ⟨by constructor <;> omega, _, tS_g, rfl, fun S2 e2 => ?_⟩⟩
      obtain rfl : S2 = tS S x0 tp n (p + 1) tok so (min 99999 (dgs b (p + 1 - q).toNat q 0)) o kd := e2.trans (gset_gset _ _ _ _)
      have c4 : isDg (b p) := by unfold isDg; omega
      rw [rnE_go ⟨by omega, c4⟩] at hX
      refine ih (p + 1) (by omega) (by omega) (by push_cast at hm; omega) (fun k k0 k1 => ?_) hX
      by_cases c5 : k = p
      · subst c5; exact c4
      · exact hd k k0 (by omega)
    · show isDg (aI S 8 p)
      have z2 := z.2
      unfold isDg at z2 ⊢
      omega
theorem x_words {at' w : Int} (hh : hT S b n tp) (hB : 0 ≤ fI S 200 ∧ 0 ≤ fI S 201) (h0 : 0 ≤ tok ∧ tok ≤ at') (h1 : at' ≤ n) (hw : ∀ i : Nat, i < 24 → ((at' - tok = wlen i ∧ mtc b tok i) ↔ w = pw i)) {K : St → Prop} (hK : K (tS S x0 tp n at' tok (wsF w 24) num o kd)) : ∀ (m i : Nat), i ≤ 24 → 24 - i < m → l_X3_next_144 x0 K m i (tS S x0 tp n at' tok (wsF w i) num o kd) := by
  have hn := hh.2.1
  intro m
  induction m with
  | zero => intro i _ h; exact absurd h (Nat.not_lt_zero _)
  | succ m ih =>
    intro i hi hm
    refine ⟨fun c => ?_, fun c => ⟨⟨by omega, by omega⟩, ⟨_, tS_g⟩, 0, 0, ⟨⟨Int.le_refl _, hB.1⟩, Int.le_refl _, hB.2⟩, ?_⟩⟩
    · have e : i = 24 := by omega
      subst e
      exact hK
    · have back : ∀ S1 : St, S1 = bset (tS (bset S 0 0) x0 tp n at' tok (wsF w i) num o kd) (fI (tS S x0 tp n at' tok (wsF w i) num o kd) 200 - 0) (fI (tS S x0 tp n at' tok (wsF w i) num o kd) 201 - 0) → S1 = tS S x0 tp n at' tok (wsF w i) num o kd := fun S1 e1 => by
        rw [e1]
        have e2 : bset (tS (bset S 0 0) x0 tp n at' tok (wsF w i) num o kd) (fI (tS S x0 tp n at' tok (wsF w i) num o kd) 200 - 0) (fI (tS S x0 tp n at' tok (wsF w i) num o kd) 201 - 0) = tS (bset (bset S 0 0) (fI S 200 - 0) (fI S 201 - 0)) x0 tp n at' tok (wsF w i) num o kd := rfl
        rw [e2, bset_back]
      refine x_isWord (S := bset S 0 0) hh ⟨by omega, by omega⟩ h0 h1 (fun c1 c2 _ S1 e1 => ?_) (fun c1 _ S1 e1 => ?_)
      · obtain rfl := back S1 e1
        refine ⟨fun z => absurd z (by decide), fun _ => ⟨by constructor <;> omega, _, tS_g, rfl, fun S2 e2 => ?_⟩⟩
        have e3 := (hw i (by omega)).mp ⟨c1, c2⟩
        have e4 : wsF w (i + 1) = 200 + (i : Int) := by
          show (if w = pw i then 200 + (i : Int) else wsF w i) = _
          rw [if_pos e3]
        obtain rfl : S2 = tS S x0 tp n at' tok (wsF w (i + 1)) num o kd := by
          rw [e4]
          exact e2.trans (gset_gset _ _ _ _)
        exact ⟨by constructor <;> omega, ih (i + 1) (by omega) (by omega)⟩
      · obtain rfl := back S1 e1
        refine ⟨fun _ => ⟨by constructor <;> omega, ?_⟩, fun z => absurd rfl z⟩
        have e4 : wsF w (i + 1) = wsF w i := by
          show (if w = pw i then 200 + (i : Int) else wsF w i) = _
          rw [if_neg (fun z => c1 ((hw i (by omega)).mpr z))]
        have h := ih (i + 1) (by omega) (by omega)
        rw [e4] at h
        exact h
theorem sg_dec : ∀ k, k < 11 → wch 24 (k : Nat) = 60 ∨ wch 24 (k : Nat) = 62 ∨ wch 24 (k : Nat) = 61 ∨ wch 24 (k : Nat) = 35 ∨ wch 24 (k : Nat) = 43 ∨ wch 24 (k : Nat) = 45 ∨ wch 24 (k : Nat) = 42 ∨ wch 24 (k : Nat) = 47 ∨ wch 24 (k : Nat) = 40 ∨ wch 24 (k : Nat) = 41 ∨ wch 24 (k : Nat) = 59 := by decide +kernel
theorem sg_val : wch 24 0 = 60 ∧ wch 24 1 = 62 ∧ wch 24 2 = 61 ∧ wch 24 3 = 35 ∧ wch 24 4 = 43 ∧ wch 24 5 = 45 ∧ wch 24 6 = 42 ∧ wch 24 7 = 47 ∧ wch 24 8 = 40 ∧ wch 24 9 = 41 ∧ wch 24 10 = 59 := by decide +kernel
theorem x_signs {at' c : Int} {K X : St → Prop} (rc : InR c) (hX : X (tS S x0 tp n at' tok (if sgn c then c else 302) num o kd)) : ∀ (m : Nat) (x2 : Int) (s : Int), 0 ≤ x2 → x2 ≤ 11 → 11 - x2 < m → ((s = 302 ∧ ∀ k, 0 ≤ k → k < x2 → wch 24 k ≠ c) ∨ (s = c ∧ ∃ k, 0 ≤ k ∧ k < x2 ∧ wch 24 k = c)) → l_X3_next_306 x0 c K X m x2 (tS S x0 tp n at' tok s num o kd) := by
  intro m
  induction m with
  | zero => intro x2 s _ h _; exact absurd h (by intro _; omega)
  | succ m ih =>
    intro x2 s a0 a1 am hs
    refine ⟨fun c1 => ?_, fun c1 => ?_⟩
    · rw [wlen_24] at c1
      have e : s = if sgn c then c else 302 := by
        rcases hs with ⟨e, h⟩ | ⟨e, k, k0, k1, k2⟩
        · obtain ⟨v0, v1, v2, v3, v4, v5, v6, v7, v8, v9, v10⟩ := sg_val
          have g0 := h 0 (by omega) (by omega)
          have g1 := h 1 (by omega) (by omega)
          have g2 := h 2 (by omega) (by omega)
          have g3 := h 3 (by omega) (by omega)
          have g4 := h 4 (by omega) (by omega)
          have g5 := h 5 (by omega) (by omega)
          have g6 := h 6 (by omega) (by omega)
          have g7 := h 7 (by omega) (by omega)
          have g8 := h 8 (by omega) (by omega)
          have g9 := h 9 (by omega) (by omega)
          have g10 := h 10 (by omega) (by omega)
          rw [if_neg (by unfold sgn; omega), e]
        · have h := sg_dec k.toNat (by omega)
          rw [show ((k.toNat : Nat) : Int) = k by omega, k2] at h
          rw [if_pos (by unfold sgn; omega), e]
      rw [e]
      exact hX
    · rw [wlen_24] at c1
      refine ⟨⟨a0, by rw [wlen_24]; omega⟩, fun c2 => ⟨by constructor <;> omega, ?_⟩, fun c2 => ⟨_, tS_g, rfl, fun S1 e1 => ?_⟩⟩
      · refine ih (x2 + 1) s (by omega) (by omega) (by push_cast at am; omega) ?_
        rcases hs with ⟨e, h⟩ | ⟨e, k, k0, k1, k2⟩
        · refine Or.inl ⟨e, fun k k0 k1 => ?_⟩
          by_cases c3 : k = x2
          · subst c3; exact c2
          · exact h k k0 (by omega)
        · exact Or.inr ⟨e, k, k0, by omega, k2⟩
      · obtain rfl : S1 = tS S x0 tp n at' tok c num o kd := e1.trans (gset_gset _ _ _ _)
        exact ⟨by constructor <;> omega, ih (x2 + 1) c (by omega) (by omega) (by push_cast at am; omega) (Or.inr ⟨rfl, x2, a0, by omega, c2⟩)⟩
end XNEXT
