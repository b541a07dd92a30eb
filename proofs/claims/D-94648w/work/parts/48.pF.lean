/-! PURE: the tape; the image -/
variable {tB : Int}
def putX (S0 S : St) (x t j : Int) : Prop := fI S 3 = t + j ∧ (∀ i, i < t → aI S 8 i = aI S0 8 i) ∧ (∀ i, 0 ≤ i → i < j → aI S 8 (t + i) = Int.bmod (x / 2 ^ (Int.toNat (24 - 8 * i))) 256) ∧ (∀ k, k ≠ 8 → aI S k = aI S0 k) ∧ (∀ k, k ≠ 3 → fI S k = fI S0 k) ∧ rI S = rI S0 ∧ gI S = gI S0
def putM (S0 S : St) (x t j : Int) : Prop := fI S 4 = t + j ∧ (∀ i, i < t → aI S 3 i = aI S0 3 i) ∧ (∀ i, 0 ≤ i → i < j → aI S 3 (t + i) = (x / 2 ^ (Int.toNat (24 - 8 * i))) % 256) ∧ (∀ k, k ≠ 3 → aI S k = aI S0 k) ∧ (∀ k, k ≠ 4 → fI S k = fI S0 k)
theorem pX_put_in {x t : Int} {K : St → Prop} {S0 : St} (ht : 0 ≤ t ∧ t ≤ 296) (hK : ∀ S', putX S0 S' x t 4 → K S') : ∀ (n : Nat) (j : Int) (S : St), 0 ≤ j → j ≤ 4 → 4 - j < n → putX S0 S x t j → l_X_put_3 x K n (24 - 8 * j) S := by
  intro n
  induction n with
  | zero => intro j S h1 h2 h3; omega
  | succ n ih =>
    intro j S h1 h2 h3 hp
    have hp0 := hp
    obtain ⟨p1, p2, p3, p4, p5, p6, p7⟩ := hp
    unfold l_X_put_3
    refine ⟨fun c => ?_, fun c => fun _ => ⟨by omega, by omega, ?_⟩⟩
    · have : j = 4 := by omega
      subst this
      exact hK S hp0
    · rintro _ rfl
      rw [fI_aset]
      refine fun _ => ⟨by omega, ?_⟩
      rintro _ rfl
      rw [show 24 - 8 * j + (-8) = 24 - 8 * (j + 1) by omega]
      refine ⟨by omega, ih (j + 1) _ (by omega) (by omega) (by omega) ⟨?_, ?_, ?_, ?_, ?_, p6, p7⟩⟩
      · rw [fI_fset_s, p1]
        omega
      · intro i hi
        rw [aI_fset, aI_aset_i (by omega)]
        exact p2 i hi
      · intro i i0 i1
        rw [aI_fset, aI_aset]
        by_cases c2 : i = j
        · rw [if_pos ⟨rfl, by omega⟩, c2]
        · rw [if_neg (by omega)]
          exact p3 i i0 (by omega)
      · intro k hk
        rw [aI_fset, ← p4 k hk]
        funext y
        rw [aI_aset_j hk]
      · intro k hk
        rw [fI_fset_n hk]
        exact p5 k hk
theorem pX_put {x t : Int} {K : St → Prop} {S : St} (ht : 0 ≤ t ∧ t ≤ 296) (h3 : fI S 3 = t) (hK : ∀ S', putX S S' x t 4 → K S') : w_X_put x S K :=
  ⟨5, pX_put_in ht hK 5 0 S (by omega) (by omega) (by omega) ⟨by omega, fun _ _ => rfl, fun i i0 i1 => by omega, fun _ _ => rfl, fun _ _ => rfl, rfl, rfl⟩⟩
theorem pM_four_in {x t : Int} {K : St → Prop} {S0 : St} (ht : 0 ≤ t ∧ t ≤ 296) (hK : ∀ S', putM S0 S' x t 4 → K S') : ∀ (n : Nat) (j : Int) (S : St), 0 ≤ j → j ≤ 4 → 4 - j < n → putM S0 S x t j → l_M_four_3 x K n (24 - 8 * j) S := by
  intro n
  induction n with
  | zero => intro j S h1 h2 h3; omega
  | succ n ih =>
    intro j S h1 h2 h3 hp
    have hp0 := hp
    obtain ⟨p1, p2, p3, p4, p5⟩ := hp
    unfold l_M_four_3
    refine ⟨fun c => ?_, fun c => fun _ => ⟨by omega, by omega, ?_⟩⟩
    · have : j = 4 := by omega
      subst this
      exact hK S hp0
    · rintro _ rfl
      rw [fI_aset]
      refine fun _ => ⟨by omega, ?_⟩
      rintro _ rfl
      rw [show 24 - 8 * j + (-8) = 24 - 8 * (j + 1) by omega]
      refine ⟨by omega, ih (j + 1) _ (by omega) (by omega) (by omega) ⟨?_, ?_, ?_, ?_, ?_⟩⟩
      · rw [fI_fset_s, p1]
        omega
      · intro i hi
        rw [aI_fset, aI_aset_i (by omega)]
        exact p2 i hi
      · intro i i0 i1
        rw [aI_fset, aI_aset]
        by_cases c2 : i = j
        · rw [if_pos ⟨rfl, by omega⟩, c2]
        · rw [if_neg (by omega)]
          exact p3 i i0 (by omega)
      · intro k hk
        rw [aI_fset, ← p4 k hk]
        funext y
        rw [aI_aset_j hk]
      · intro k hk
        rw [fI_fset_n hk]
        exact p5 k hk
theorem pM_four {x t : Int} {K : St → Prop} {S : St} (ht : 0 ≤ t ∧ t ≤ 296) (h3 : fI S 4 = t) (hK : ∀ S', putM S S' x t 4 → K S') : w_M_four x S K :=
  ⟨5, pM_four_in ht hK 5 0 S (by omega) (by omega) (by omega) ⟨by omega, fun _ _ => rfl, fun i i0 i1 => by omega, fun _ _ => rfl, fun _ _ => rfl⟩⟩
theorem REL.put {S S' T T' : St} {x t : Int} (h : REL tB S T) (ht : 0 ≤ t ∧ t ≤ 296) (h3 : fI S 3 = t) (hp : putX S S' x t 4) (hq : putM T T' x t 4) : REL (tB + 4) S' T' := by
  obtain ⟨h1, h2, ⟨h3, h4, h5, h6⟩, h7, h8, h9, h10⟩ := h
  obtain ⟨p1, p2, p3, p4, p5, p6, p7⟩ := hp
  obtain ⟨q1, q2, q3, q4, q5⟩ := hq
  refine ⟨?_, ?_, ⟨by omega, ?_, ?_, ?_⟩, ?_, ?_, ?_, ?_⟩
  · unfold nowA at h1 ⊢
    rw [q4 0 (by omega), p4 0 (by omega), p4 1 (by omega), p4 2 (by omega), p4 3 (by omega)]
    obtain ⟨⟨a0, a1, a2⟩, ⟨b0, b1, b2⟩, cy, ⟨d0, d1, d2⟩, ⟨e0, e1, e2⟩, ⟨g0, g1, g2⟩, ⟨i0, i1, i2⟩, -⟩ := h1.1
    refine RA.eqr h1 a2 b2 g2 i2 (fun _ _ _ => rfl) (fun _ _ _ => rfl) (fun _ _ _ => rfl) (fun k j _ _ _ _ => ?_) (fun k j _ _ _ _ => ?_)
    · rw [p4 _ (by omega)]
    · rw [p4 _ (by omega)]
  · unfold imgA at h2 ⊢
    rw [q4 1 (by omega), p4 4 (by omega), p4 5 (by omega), p4 6 (by omega), p4 7 (by omega)]
    obtain ⟨⟨a0, a1, a2⟩, ⟨b0, b1, b2⟩, cy, ⟨d0, d1, d2⟩, ⟨e0, e1, e2⟩, ⟨g0, g1, g2⟩, ⟨i0, i1, i2⟩, -⟩ := h2.1
    refine RA.eqr h2 a2 b2 g2 i2 (fun _ _ _ => rfl) (fun _ _ _ => rfl) (fun _ _ _ => rfl) (fun k j _ _ _ _ => ?_) (fun k j _ _ _ _ => ?_)
    · rw [p4 _ (by omega)]
    · rw [p4 _ (by omega)]
  · intro i i0 i1
    by_cases c : i < t
    · rw [q2 i c, p2 i c]
      exact h4 i i0 (by omega)
    · have a := p3 (i - t) (by omega) (by omega)
      have b := q3 (i - t) (by omega) (by omega)
      rw [show t + (i - t) = i by omega] at a b
      rw [a, b, Int.bmod_def]
      split <;> omega
  · rw [p5 4 (by omega), q5 5 (by omega)]
    exact h5
  · rw [p5 5 (by omega), q5 6 (by omega)]
    exact h6
  · rw [p4 0 (by omega), p6, p7, q4 2 (by omega)]
    exact h7
  · rw [p4 4 (by omega), p4 0 (by omega)]
    exact h8
  · rw [p4 4 (by omega), p6]
    exact h9
  · rw [p6, p7]
    exact h10
theorem REL.up {S T : St} {tC : Int} (h : REL tB S T) (hc : tB ≤ tC) : REL tC S T := by
  obtain ⟨h1, h2, ⟨h3, h4⟩, h5⟩ := h
  exact ⟨h1, h2, ⟨by omega, h4⟩, h5⟩
theorem law_feed {S T : St} {a b c d e : Int} {K : Int → St → Prop} (h : REL tB S T) (hK : ∀ r S', PostF (tB + 20) (w_M_feed a b c d e T) r S' → K r S') : w_X_feed a b c d e S K := by
  obtain ⟨h3, h3b, h3c⟩ := h.2.2.1.1
  unfold w_X_feed
  refine fun _ => ⟨by omega, fun c1 => ?_, fun c1 => ?_⟩
  · refine pX_put (t := fI S 3) (by omega) rfl (fun S1 p1 => pX_put (t := fI S 3 + 4) (by omega) p1.1 (fun S2 p2 => pX_put (t := fI S 3 + 8) (by omega) (by have := p2.1; omega) (fun S3 p3 => pX_put (t := fI S 3 + 12) (by omega) (by have := p3.1; omega) (fun S4 p4 => pX_put (t := fI S 3 + 16) (by omega) (by have := p4.1; omega) (fun S5 p5 _ => ?_)))))
    refine hK _ _ (fun K' hk => ?_)
    unfold w_M_feed
    refine fun _ => ⟨by omega, fun _ => ?_, fun c2 => absurd c2 (by omega)⟩
    refine pM_four (t := fI S 3) (by omega) (by omega) (fun T1 q1 => pM_four (t := fI S 3 + 4) (by omega) q1.1 (fun T2 q2 => pM_four (t := fI S 3 + 8) (by omega) (by have := q2.1; omega) (fun T3 q3 => pM_four (t := fI S 3 + 12) (by omega) (by have := q3.1; omega) (fun T4 q4 => pM_four (t := fI S 3 + 16) (by omega) (by have := q4.1; omega) (fun T5 q5 _ => ?_)))))
    have e : fI T5 4 = fI S5 3 := by have := p5.1; have := q5.1; omega
    rw [e]
    refine hk _ ?_
    have r1 := h.put (by omega) rfl p1 q1
    have r2 := r1.put (by omega) p1.1 p2 q2
    have r3 := r2.put (by omega) (by have := p2.1; omega) p3 q3
    have r4 := r3.put (by omega) (by have := p3.1; omega) p4 q4
    exact (r4.put (by omega) (by have := p4.1; omega) p5 q5).up (by omega)
  · refine hK _ _ (fun K' hk => ?_)
    unfold w_M_feed
    exact fun _ => ⟨by omega, fun c2 => absurd c2 (by omega), fun _ => hk _ (h.up (by omega))⟩
theorem law_end {S T : St} {x : Int} {K : Int → St → Prop} (h : REL tB S T) (hK : ∀ r S', PostF tB (w_M_end x T) r S' → K r S') : w_X_end x S K := by
  have h0 := h
  obtain ⟨h1, h2, ⟨h3, h4, h5, h6⟩, h7, h8, h9, h10⟩ := h
  unfold w_X_end
  refine fun _ => p_in (fun x0 x1 => br1r ?_) (fun c => br0r (hK _ _ (fun K' hk => ?_)))
  · rintro _ rfl
    refine hK _ _ (fun K' hk => ?_)
    unfold w_M_end
    refine fun _ => p_isIn (fun _ _ => br1r ?_) (fun c => absurd (by omega) c)
    rintro _ rfl
    refine hk _ ⟨h1, h2, ⟨⟨rfl, x0, ?_⟩, ?_, h5, h6⟩, h7, h8, h9, h10⟩
    · show (fI (fset S 3 x)) 3 ≤ 300 ∧ (fI (fset S 3 x)) 3 ≤ tB
      rw [fI_fset_s]
      omega
    · intro i i0 i1
      rw [fI_fset_s] at i1
      exact h4 i i0 (by omega)
  · unfold w_M_end
    exact fun _ => p_isIn (fun _ _ => absurd (by omega) c) (fun _ => br0r (hk _ h0))
theorem law_fault {S T : St} {x : Int} {K : Int → Prop} (h : REL tB S T) (hK : ∀ r, (∀ K' : Int → Prop, K' r → w_M_fault x T K') → K r) : w_X_fault x S K := by
  obtain ⟨-, -, ⟨-, -, h5, h6⟩, -⟩ := h
  unfold w_X_fault
  refine ⟨fun c => ⟨fun c1 => hK _ (fun K' hk => ⟨fun _ => ⟨fun _ => hk, fun d => absurd d c1⟩, fun d => absurd d c⟩), fun c1 _ => hK _ (fun K' hk => ⟨fun _ => ⟨fun d => absurd c1 d, fun _ _ => ?_⟩, fun d => absurd d c⟩)⟩, fun c _ => hK _ (fun K' hk => ⟨fun d => absurd c d, fun _ _ => ?_⟩)⟩
  · rw [← h6]
    exact hk
  · rw [← h5]
    exact hk
/-! image, back -/
theorem RA.all {f f' n n' x x' y y' r r' : Int → Int} {st se st' se' : Int → Int → Int} (h : RA f n x y r st se) (hf : ∀ j, 0 ≤ j → j < 1814 → f' j = f j) (hn : ∀ j, 0 ≤ j → j < 8 → n' j = n j) (hx : ∀ j, 0 ≤ j → j < 10 → x' j = x j) (hy : ∀ j, 0 ≤ j → j < 10 → y' j = y j) (hr : ∀ j, 0 ≤ j → j < 91 → r' j = r j) (hs : ∀ k j, 0 ≤ k → k < 20 → 0 ≤ j → j < 91 → st' k j = st k j) (he : ∀ k j, 0 ≤ k → k < 12 → 0 ≤ j → j < 4 → se' k j = se k j) : RA f' n' x' y' r' st' se' := by
  have hN := h.1
  obtain ⟨⟨a0, a1, a2⟩, ⟨b0, b1, b2⟩, cy, ⟨d0, d1, d2⟩, ⟨e0, e1, e2⟩, ⟨g0, g1, g2⟩, ⟨i0, i1, i2⟩, ⟨j0, j1, j2⟩, ⟨k0, k1, k2⟩⟩ := hN
  have n0 := hn 0 (by omega) (by omega)
  have n1 := hn 1 (by omega) (by omega)
  have n4 := hn 4 (by omega) (by omega)
  have n5 := hn 5 (by omega) (by omega)
  have h2 : RA f' n' x y r st se := by
    obtain ⟨hN, hT, hB, hS, hE⟩ := h
    refine ⟨?_, hT.congr a2 n0 (fun j _ _ => hf j (by omega) (by omega)) (fun _ _ _ => rfl) (fun _ _ _ => rfl), hB.congr a2 b2 n0 n1 (fun j _ _ => hf j (by omega) (by omega)) (fun _ _ _ => rfl), fun k p0 p1 => ?_, hE.congr i2 n0 n5 (fun j _ _ => hf j (by omega) (by omega)) (fun _ _ _ _ _ _ => rfl)⟩
    · unfold RN
      rw [n0, n1, n4, n5, hn 2 (by omega) (by omega), hn 3 (by omega) (by omega), hn 6 (by omega) (by omega), hn 7 (by omega) (by omega), hf 0 (by omega) (by omega), hf 1 (by omega) (by omega), hf 2 (by omega) (by omega), hf 3 (by omega) (by omega), hf 4 (by omega) (by omega), hf 5 (by omega) (by omega), hf 6 (by omega) (by omega), hf 7 (by omega) (by omega), hf 8 (by omega) (by omega)]
      exact ⟨⟨a0, a1, a2⟩, ⟨b0, b1, b2⟩, cy, ⟨d0, d1, d2⟩, ⟨e0, e1, e2⟩, ⟨g0, g1, g2⟩, ⟨i0, i1, i2⟩, ⟨j0, j1, j2⟩, ⟨k0, k1, k2⟩⟩
    · rw [n4] at p1 ⊢
      exact (hS k p0 p1).congr a2 b2 n0 n1 (fun j _ _ => hf _ (by omega) (by omega)) (fun _ _ _ => rfl) (fun _ _ _ => rfl) (fun _ _ _ => rfl)
  exact RA.eqr h2 (by omega) (by omega) (by omega) (by omega) hx hy hr hs he
theorem p_copyM01_in {S : St} {K : St → Prop} : ∀ (n : Nat) (k : Int) (f : Int → Int), 0 ≤ k → k ≤ 1814 → 1814 - k < n → K (aput S 1 (fun y => if k ≤ y ∧ y < 1814 then aI S 0 y else f y)) → l_M_copy_0_1_2 K n k (aput S 1 f) := by
  intro n
  induction n with
  | zero => intro k f h1 h2 h3; omega
  | succ n ih =>
    intro k f h1 h2 h3 hX
    unfold l_M_copy_0_1_2
    refine ⟨fun c => ?_, fun c => ⟨by omega, fun _ => ⟨by omega, ?_⟩⟩⟩
    · refine cast (congrArg (fun g => K (aput S 1 g)) ?_) hX
      funext y
      rw [if_neg (by omega)]
    · rintro _ rfl
      rw [aset_aput, aI_aput_n (by omega)]
      refine ⟨by omega, ih (k + 1) _ (by omega) (by omega) (by omega) ?_⟩
      refine cast (congrArg (fun g => K (aput S 1 g)) ?_) hX
      funext y
      by_cases c1 : y = k
      · rw [if_pos (by omega), if_neg (by omega), if_pos c1, c1]
      · by_cases c2 : k + 1 ≤ y ∧ y < 1814
        · rw [if_pos (by omega), if_pos c2]
        · rw [if_neg (by omega), if_neg c2, if_neg c1]
theorem p_copyM10_in {S : St} {K : St → Prop} : ∀ (n : Nat) (k : Int) (f : Int → Int), 0 ≤ k → k ≤ 1814 → 1814 - k < n → K (aput S 0 (fun y => if k ≤ y ∧ y < 1814 then aI S 1 y else f y)) → l_M_copy_1_0_2 K n k (aput S 0 f) := by
  intro n
  induction n with
  | zero => intro k f h1 h2 h3; omega
  | succ n ih =>
    intro k f h1 h2 h3 hX
    unfold l_M_copy_1_0_2
    refine ⟨fun c => ?_, fun c => ⟨by omega, fun _ => ⟨by omega, ?_⟩⟩⟩
    · refine cast (congrArg (fun g => K (aput S 0 g)) ?_) hX
      funext y
      rw [if_neg (by omega)]
    · rintro _ rfl
      rw [aset_aput, aI_aput_n (by omega)]
      refine ⟨by omega, ih (k + 1) _ (by omega) (by omega) (by omega) ?_⟩
      refine cast (congrArg (fun g => K (aput S 0 g)) ?_) hX
      funext y
      by_cases c1 : y = k
      · rw [if_pos (by omega), if_neg (by omega), if_pos c1, c1]
      · by_cases c2 : k + 1 ≤ y ∧ y < 1814
        · rw [if_pos (by omega), if_pos c2]
        · rw [if_neg (by omega), if_neg c2, if_neg c1]
theorem pX_rows_132_133 {S : St} {K : St → Prop} : ∀ (n : Nat) (k : Int) (A : Nat → Int → Int), 0 ≤ k → k ≤ 20 → 20 - k < n →
    K (aall S (fun x y => if 35 + k ≤ (x : Int) ∧ (x : Int) < 55 ∧ 0 ≤ y ∧ y < 91 then A ((x : Int) + (15 - 35)).toNat y else A x y)) → l_X1_copy_2_132_133_2 K n k (aall S A) := by
  intro n
  induction n with
  | zero => intro k A h1 h2 h3; omega
  | succ n ih =>
    intro k A h1 h2 h3 hX
    unfold l_X1_copy_2_132_133_2
    refine ⟨fun c => ?_, fun c => ⟨by omega, by omega, p_copy (by omega) ⟨by omega, ?_⟩⟩⟩
    · refine cast (congrArg (fun g => K (aall S g)) ?_) hX
      funext x y
      rw [if_neg (by omega)]
    · refine ih (k + 1) _ (by omega) (by omega) (by omega) ?_
      refine cast (congrArg (fun g => K (aall S g)) ?_) hX
      funext x y
      by_cases c1 : x = 35 + Int.toNat k ∧ 0 ≤ y ∧ y < ((91 : Nat) : Int)
      · rw [if_pos (by omega), if_neg (by omega), if_pos c1]
        congr 1
        omega
      · by_cases c2 : 35 + (k + 1) ≤ (x : Int) ∧ (x : Int) < 55 ∧ 0 ≤ y ∧ y < 91
        · rw [if_pos (by omega), if_pos c2, if_neg (by omega)]
        · rw [if_neg (by omega), if_neg c2, if_neg c1]
theorem pX_rows_133_132 {S : St} {K : St → Prop} : ∀ (n : Nat) (k : Int) (A : Nat → Int → Int), 0 ≤ k → k ≤ 20 → 20 - k < n →
    K (aall S (fun x y => if 15 + k ≤ (x : Int) ∧ (x : Int) < 35 ∧ 0 ≤ y ∧ y < 91 then A ((x : Int) + (35 - 15)).toNat y else A x y)) → l_X1_copy_2_133_132_2 K n k (aall S A) := by
  intro n
  induction n with
  | zero => intro k A h1 h2 h3; omega
  | succ n ih =>
    intro k A h1 h2 h3 hX
    unfold l_X1_copy_2_133_132_2
    refine ⟨fun c => ?_, fun c => ⟨by omega, by omega, p_copy (by omega) ⟨by omega, ?_⟩⟩⟩
    · refine cast (congrArg (fun g => K (aall S g)) ?_) hX
      funext x y
      rw [if_neg (by omega)]
    · refine ih (k + 1) _ (by omega) (by omega) (by omega) ?_
      refine cast (congrArg (fun g => K (aall S g)) ?_) hX
      funext x y
      by_cases c1 : x = 15 + Int.toNat k ∧ 0 ≤ y ∧ y < ((91 : Nat) : Int)
      · rw [if_pos (by omega), if_neg (by omega), if_pos c1]
        congr 1
        omega
      · by_cases c2 : 15 + (k + 1) ≤ (x : Int) ∧ (x : Int) < 35 ∧ 0 ≤ y ∧ y < 91
        · rw [if_pos (by omega), if_pos c2, if_neg (by omega)]
        · rw [if_neg (by omega), if_neg c2, if_neg c1]
theorem pX_rows_134_135 {S : St} {K : St → Prop} : ∀ (n : Nat) (k : Int) (A : Nat → Int → Int), 0 ≤ k → k ≤ 12 → 12 - k < n →
    K (aall S (fun x y => if 67 + k ≤ (x : Int) ∧ (x : Int) < 79 ∧ 0 ≤ y ∧ y < 4 then A ((x : Int) + (55 - 67)).toNat y else A x y)) → l_X1_copy_2_134_135_2 K n k (aall S A) := by
  intro n
  induction n with
  | zero => intro k A h1 h2 h3; omega
  | succ n ih =>
    intro k A h1 h2 h3 hX
    unfold l_X1_copy_2_134_135_2
    refine ⟨fun c => ?_, fun c => ⟨by omega, by omega, p_copy (by omega) ⟨by omega, ?_⟩⟩⟩
    · refine cast (congrArg (fun g => K (aall S g)) ?_) hX
      funext x y
      rw [if_neg (by omega)]
    · refine ih (k + 1) _ (by omega) (by omega) (by omega) ?_
      refine cast (congrArg (fun g => K (aall S g)) ?_) hX
      funext x y
      by_cases c1 : x = 67 + Int.toNat k ∧ 0 ≤ y ∧ y < ((4 : Nat) : Int)
      · rw [if_pos (by omega), if_neg (by omega), if_pos c1]
        congr 1
        omega
      · by_cases c2 : 67 + (k + 1) ≤ (x : Int) ∧ (x : Int) < 79 ∧ 0 ≤ y ∧ y < 4
        · rw [if_pos (by omega), if_pos c2, if_neg (by omega)]
        · rw [if_neg (by omega), if_neg c2, if_neg c1]
theorem pX_rows_135_134 {S : St} {K : St → Prop} : ∀ (n : Nat) (k : Int) (A : Nat → Int → Int), 0 ≤ k → k ≤ 12 → 12 - k < n →
    K (aall S (fun x y => if 55 + k ≤ (x : Int) ∧ (x : Int) < 67 ∧ 0 ≤ y ∧ y < 4 then A ((x : Int) + (67 - 55)).toNat y else A x y)) → l_X1_copy_2_135_134_2 K n k (aall S A) := by
  intro n
  induction n with
  | zero => intro k A h1 h2 h3; omega
  | succ n ih =>
    intro k A h1 h2 h3 hX
    unfold l_X1_copy_2_135_134_2
    refine ⟨fun c => ?_, fun c => ⟨by omega, by omega, p_copy (by omega) ⟨by omega, ?_⟩⟩⟩
    · refine cast (congrArg (fun g => K (aall S g)) ?_) hX
      funext x y
      rw [if_neg (by omega)]
    · refine ih (k + 1) _ (by omega) (by omega) (by omega) ?_
      refine cast (congrArg (fun g => K (aall S g)) ?_) hX
      funext x y
      by_cases c1 : x = 55 + Int.toNat k ∧ 0 ≤ y ∧ y < ((4 : Nat) : Int)
      · rw [if_pos (by omega), if_neg (by omega), if_pos c1]
        congr 1
        omega
      · by_cases c2 : 55 + (k + 1) ≤ (x : Int) ∧ (x : Int) < 67 ∧ 0 ≤ y ∧ y < 4
        · rw [if_pos (by omega), if_pos c2, if_neg (by omega)]
        · rw [if_neg (by omega), if_neg c2, if_neg c1]
theorem p_copyS {k0 n0 k1 n1 : Nat} {S : St} {g : Nat → Int → Int} {K : St → Prop} (hn : n0 ≤ n1) (hK : ∀ g' : Nat → Int → Int, (∀ x y, g' x y = if x = k1 ∧ 0 ≤ y ∧ y < (n0 : Int) then g k0 y else g x y) → K (aall S g')) : w_X1_copy k0 n0 k1 n1 (aall S g) K := p_copy hn (hK _ (fun _ _ => rfl))
theorem pX_be_image {S : St} {K : St → Prop} (hr : ∀ i : Int, 0 ≤ i → i < 4 → ∀ y, rI S 140 i = some y → ∃ fs : List PV, gI S y = some (.inr (.inl (4, fs))))
    (hK : ∀ G : Nat → Int → Int, (∀ (x : Nat) (y : Int), (x ≠ 4 → x ≠ 5 → x ≠ 6 → x ≠ 7 → ¬ (35 ≤ x ∧ x < 55) → ¬ (67 ≤ x ∧ x < 79) → G x y = aI S x y)) → (∀ y, 0 ≤ y → y < 8 → G 4 y = aI S 0 y) → (∀ y, 0 ≤ y → y < 10 → G 5 y = aI S 1 y) → (∀ y, 0 ≤ y → y < 10 → G 6 y = aI S 2 y) → (∀ y, 0 ≤ y → y < 91 → G 7 y = aI S 3 y) →
      (∀ k j : Int, 0 ≤ k → k < 20 → 0 ≤ j → j < 91 → G (35 + k.toNat) j = aI S (15 + k.toNat) j) → (∀ k j : Int, 0 ≤ k → k < 12 → 0 ≤ j → j < 4 → G (67 + k.toNat) j = aI S (55 + k.toNat) j) → K (rcpy (aall S G) 140 141 4)) : w_X1_be_t131_130 S K := by
  unfold w_X1_be_t131_130
  refine p_copyS (g := aI S) (by omega) (fun g1 s1 => p_copyS (by omega) (fun g2 s2 => p_copyS (by omega) (fun g3 s3 => p_copyS (by omega) (fun g4 s4 => ?_))))
  refine ⟨21, pX_rows_132_133 21 0 g4 (by omega) (by omega) (by omega) ?_⟩
  obtain ⟨g5, s5⟩ : ∃ g5 : Nat → Int → Int, g5 = fun (x : Nat) (y : Int) => if 35 + 0 ≤ (x : Int) ∧ (x : Int) < 55 ∧ 0 ≤ y ∧ y < 91 then g4 ((x : Int) + (15 - 35)).toNat y else g4 x y := ⟨_, rfl⟩
  rw [← s5]
  refine ⟨13, pX_rows_134_135 13 0 g5 (by omega) (by omega) (by omega) ?_⟩
  obtain ⟨g6, s6⟩ : ∃ g6 : Nat → Int → Int, g6 = fun (x : Nat) (y : Int) => if 67 + 0 ≤ (x : Int) ∧ (x : Int) < 79 ∧ 0 ≤ y ∧ y < 4 then g5 ((x : Int) + (55 - 67)).toNat y else g5 x y := ⟨_, rfl⟩
  rw [← s6]
  refine ⟨hr, ?_⟩
  rintro _ rfl
  have e6 : ∀ x y, g6 x y = if 67 + 0 ≤ (x : Int) ∧ (x : Int) < 79 ∧ 0 ≤ y ∧ y < 4 then g5 ((x : Int) + (55 - 67)).toNat y else g5 x y := fun x y => by rw [s6]
  have e5 : ∀ x y, g5 x y = if 35 + 0 ≤ (x : Int) ∧ (x : Int) < 55 ∧ 0 ≤ y ∧ y < 91 then g4 ((x : Int) + (15 - 35)).toNat y else g4 x y := fun x y => by rw [s5]
  have lo : ∀ (x : Nat) (y : Int), (x ≠ 4 → x ≠ 5 → x ≠ 6 → x ≠ 7 → ¬ (35 ≤ x ∧ x < 55) → ¬ (67 ≤ x ∧ x < 79) → g6 x y = aI S x y) := by
    intro x y h1 h2 h3 h4 h5 h6
    rw [e6, if_neg (by omega), e5, if_neg (by omega), s4, if_neg (by omega), s3, if_neg (by omega), s2, if_neg (by omega), s1, if_neg (by omega)]
  refine hK g6 lo ?_ ?_ ?_ ?_ ?_ ?_
  · intro y y0 y1
    rw [e6, if_neg (by omega), e5, if_neg (by omega), s4, if_neg (by omega), s3, if_neg (by omega), s2, if_neg (by omega), s1, if_pos (by omega)]
  · intro y y0 y1
    rw [e6, if_neg (by omega), e5, if_neg (by omega), s4, if_neg (by omega), s3, if_neg (by omega), s2, if_pos (by omega), s1, if_neg (by omega)]
  · intro y y0 y1
    rw [e6, if_neg (by omega), e5, if_neg (by omega), s4, if_neg (by omega), s3, if_pos (by omega), s2, if_neg (by omega), s1, if_neg (by omega)]
  · intro y y0 y1
    rw [e6, if_neg (by omega), e5, if_neg (by omega), s4, if_pos (by omega), s3, if_neg (by omega), s2, if_neg (by omega), s1, if_neg (by omega)]
  · intro k j k0 k1 j0 j1
    rw [e6, if_neg (by omega), e5, if_pos (by omega), show (((35 + k.toNat : Nat) : Int) + (15 - 35)).toNat = 15 + k.toNat by omega, s4, if_neg (by omega), s3, if_neg (by omega), s2, if_neg (by omega), s1, if_neg (by omega)]
  · intro k j k0 k1 j0 j1
    rw [e6, if_pos (by omega), show (((67 + k.toNat : Nat) : Int) + (55 - 67)).toNat = 55 + k.toNat by omega, e5, if_neg (by omega), s4, if_neg (by omega), s3, if_neg (by omega), s2, if_neg (by omega), s1, if_neg (by omega)]
theorem pX_be_back {S : St} {K : St → Prop} (hr : ∀ i : Int, 0 ≤ i → i < 4 → ∀ y, rI S 141 i = some y → ∃ fs : List PV, gI S y = some (.inr (.inl (4, fs))))
    (hK : ∀ G : Nat → Int → Int, (∀ (x : Nat) (y : Int), (x ≠ 0 → x ≠ 1 → x ≠ 2 → x ≠ 3 → ¬ (15 ≤ x ∧ x < 35) → ¬ (55 ≤ x ∧ x < 67) → G x y = aI S x y)) → (∀ y, 0 ≤ y → y < 8 → G 0 y = aI S 4 y) → (∀ y, 0 ≤ y → y < 10 → G 1 y = aI S 5 y) → (∀ y, 0 ≤ y → y < 10 → G 2 y = aI S 6 y) → (∀ y, 0 ≤ y → y < 91 → G 3 y = aI S 7 y) →
      (∀ k j : Int, 0 ≤ k → k < 20 → 0 ≤ j → j < 91 → G (15 + k.toNat) j = aI S (35 + k.toNat) j) → (∀ k j : Int, 0 ≤ k → k < 12 → 0 ≤ j → j < 4 → G (55 + k.toNat) j = aI S (67 + k.toNat) j) → K (rcpy (aall S G) 141 140 4)) : w_X1_be_t130_131 S K := by
  unfold w_X1_be_t130_131
  refine p_copyS (g := aI S) (by omega) (fun g1 s1 => p_copyS (by omega) (fun g2 s2 => p_copyS (by omega) (fun g3 s3 => p_copyS (by omega) (fun g4 s4 => ?_))))
  refine ⟨21, pX_rows_133_132 21 0 g4 (by omega) (by omega) (by omega) ?_⟩
  obtain ⟨g5, s5⟩ : ∃ g5 : Nat → Int → Int, g5 = fun (x : Nat) (y : Int) => if 15 + 0 ≤ (x : Int) ∧ (x : Int) < 35 ∧ 0 ≤ y ∧ y < 91 then g4 ((x : Int) + (35 - 15)).toNat y else g4 x y := ⟨_, rfl⟩
  rw [← s5]
  refine ⟨13, pX_rows_135_134 13 0 g5 (by omega) (by omega) (by omega) ?_⟩
  obtain ⟨g6, s6⟩ : ∃ g6 : Nat → Int → Int, g6 = fun (x : Nat) (y : Int) => if 55 + 0 ≤ (x : Int) ∧ (x : Int) < 67 ∧ 0 ≤ y ∧ y < 4 then g5 ((x : Int) + (67 - 55)).toNat y else g5 x y := ⟨_, rfl⟩
  rw [← s6]
  refine ⟨hr, ?_⟩
  rintro _ rfl
  have e6 : ∀ x y, g6 x y = if 55 + 0 ≤ (x : Int) ∧ (x : Int) < 67 ∧ 0 ≤ y ∧ y < 4 then g5 ((x : Int) + (67 - 55)).toNat y else g5 x y := fun x y => by rw [s6]
  have e5 : ∀ x y, g5 x y = if 15 + 0 ≤ (x : Int) ∧ (x : Int) < 35 ∧ 0 ≤ y ∧ y < 91 then g4 ((x : Int) + (35 - 15)).toNat y else g4 x y := fun x y => by rw [s5]
  have lo : ∀ (x : Nat) (y : Int), (x ≠ 0 → x ≠ 1 → x ≠ 2 → x ≠ 3 → ¬ (15 ≤ x ∧ x < 35) → ¬ (55 ≤ x ∧ x < 67) → g6 x y = aI S x y) := by
    intro x y h1 h2 h3 h4 h5 h6
    rw [e6, if_neg (by omega), e5, if_neg (by omega), s4, if_neg (by omega), s3, if_neg (by omega), s2, if_neg (by omega), s1, if_neg (by omega)]
  refine hK g6 lo ?_ ?_ ?_ ?_ ?_ ?_
  · intro y y0 y1
    rw [e6, if_neg (by omega), e5, if_neg (by omega), s4, if_neg (by omega), s3, if_neg (by omega), s2, if_neg (by omega), s1, if_pos (by omega)]
  · intro y y0 y1
    rw [e6, if_neg (by omega), e5, if_neg (by omega), s4, if_neg (by omega), s3, if_neg (by omega), s2, if_pos (by omega), s1, if_neg (by omega)]
  · intro y y0 y1
    rw [e6, if_neg (by omega), e5, if_neg (by omega), s4, if_neg (by omega), s3, if_pos (by omega), s2, if_neg (by omega), s1, if_neg (by omega)]
  · intro y y0 y1
    rw [e6, if_neg (by omega), e5, if_neg (by omega), s4, if_pos (by omega), s3, if_neg (by omega), s2, if_neg (by omega), s1, if_neg (by omega)]
  · intro k j k0 k1 j0 j1
    rw [e6, if_neg (by omega), e5, if_pos (by omega), show (((15 + k.toNat : Nat) : Int) + (35 - 15)).toNat = 35 + k.toNat by omega, s4, if_neg (by omega), s3, if_neg (by omega), s2, if_neg (by omega), s1, if_neg (by omega)]
  · intro k j k0 k1 j0 j1
    rw [e6, if_pos (by omega), show (((55 + k.toNat : Nat) : Int) + (67 - 55)).toNat = 67 + k.toNat by omega, e5, if_neg (by omega), s4, if_neg (by omega), s3, if_neg (by omega), s2, if_neg (by omega), s1, if_neg (by omega)]
theorem law_image {S T : St} {K : Int → St → Prop} (h : REL tB S T) (hK : ∀ r S', PostF tB (w_M_image T) r S' → K r S') : w_X_image S K := by
  obtain ⟨h1, h2, ⟨h3, h4, h5, h6⟩, h7, h8, h9, h10⟩ := h
  have hN := h1.nums
  obtain ⟨-, -, -, ⟨d0, d1, d2⟩, -⟩ := h1.nums
  unfold w_X_image
  refine pX_be_image (fun i i0 i1 y hy => h10 140 (Or.inl rfl) i i0 i1 y hy) (fun G lo g4 g5 g6 g7 gs ge => pX_year (fun _ => ?_))
  rw [aI_rcpy, aI_aall]
  have L : ∀ (x : Nat) (y : Int), x < 4 ∨ (8 ≤ x ∧ x < 35) ∨ (55 ≤ x ∧ x < 67) → G x y = aI S x y := fun x y hx => lo x y (by omega) (by omega) (by omega) (by omega) (by omega) (by omega)
  have LF : ∀ x : Nat, x < 4 ∨ (8 ≤ x ∧ x < 35) ∨ (55 ≤ x ∧ x < 67) → G x = aI S x := fun x hx => funext fun y => L x y hx
  refine hK _ _ (fun K' hk => ?_)
  unfold w_M_image
  refine ⟨1815, ?_⟩
  rw [← aput_self T 1]
  refine p_copyM01_in 1815 0 _ (by omega) (by omega) (by omega) (fun _ => ?_)
  rw [aI_aput_n (by omega)]
  have ey : aI T 0 2 = aI S 3 90 := hN.2.2.1
  rw [ey, ← L 3 90 (by omega)]
  have f0 : ∀ f, aI (aput T 1 f) 0 = aI T 0 := fun f => by funext y; exact aI_aput_n (by omega)
  have f2 : ∀ f, aI (aput T 1 f) 2 = aI T 2 := fun f => by funext y; exact aI_aput_n (by omega)
  have f3 : ∀ f, aI (aput T 1 f) 3 = aI T 3 := fun f => by funext y; exact aI_aput_n (by omega)
  refine hk _ ⟨?_, ?_, ⟨h3, ?_, h5, h6⟩, ?_, ?_, ?_, ?_⟩
  · unfold nowA at h1 ⊢
    rw [f0, aI_rcpy, aI_aall, LF 0 (by omega), LF 1 (by omega), LF 2 (by omega), LF 3 (by omega)]
    refine RA.all h1 (fun _ _ _ => rfl) (fun _ _ _ => rfl) (fun _ _ _ => rfl) (fun _ _ _ => rfl) (fun _ _ _ => rfl) (fun k j _ _ _ _ => ?_) (fun k j _ _ _ _ => ?_)
    · exact L _ _ (by omega)
    · exact L _ _ (by omega)
  · unfold nowA at h1
    unfold imgA
    rw [aI_rcpy, aI_aall]
    refine RA.all h1 ?_ g4 g5 g6 g7 gs ge
    intro j j0 j1
    rw [aI_aput_s, if_pos (by omega)]
  · intro i i0 i1
    rw [f3, aI_rcpy, aI_aall, LF 8 (by omega)]
    exact h4 i i0 i1
  · rw [f2, aI_rcpy, aI_aall, LF 0 (by omega)]
    intro k k0 k1
    obtain ⟨q, q1, q2⟩ := h7 k k0 k1
    exact ⟨q, by rw [rI_rcpy, if_neg (by omega)]; exact q1, q2⟩
  · rw [aI_rcpy, aI_aall, LF 0 (by omega), g4 2 (by omega) (by omega)]
    omega
  · intro k k0 k1
    rw [aI_rcpy, aI_aall, g4 2 (by omega) (by omega)] at k1
    rw [rI_rcpy, if_pos ⟨rfl, k0, by omega⟩, rI_rcpy, if_neg (by omega)]
  · intro j hj k k0 k1 y hy
    rw [rI_rcpy] at hy
    by_cases c : j = 141 ∧ 0 ≤ k ∧ k < 4
    · rw [if_pos c] at hy
      exact h10 140 (Or.inl rfl) k k0 k1 y hy
    · rw [if_neg c] at hy
      exact h10 j hj k k0 k1 y hy
theorem law_back {S T : St} {K : Int → St → Prop} (h : REL tB S T) (hK : ∀ r S', PostF tB (w_M_back T) r S' → K r S') : w_X_back S K := by
  obtain ⟨h1, h2, ⟨h3, h4, h5, h6⟩, h7, h8, h9, h10⟩ := h
  have hM : RN (aI T 1) (aI S 4) (aI S 7) := h2.1
  obtain ⟨-, -, -, ⟨d0, d1, d2⟩, -⟩ := hM
  have ey : aI T 1 2 = aI S 7 90 := h2.1.2.2.1
  unfold w_X_back
  refine pX_be_back (fun i i0 i1 y hy => h10 141 (Or.inr rfl) i i0 i1 y hy) (fun G lo g4 g5 g6 g7 gs ge => pX_year (fun _ => ?_))
  rw [aI_rcpy, aI_aall]
  have L : ∀ (x : Nat) (y : Int), (4 ≤ x ∧ x < 15) ∨ (35 ≤ x ∧ x < 55) ∨ (67 ≤ x ∧ x < 79) → G x y = aI S x y := fun x y hx => lo x y (by omega) (by omega) (by omega) (by omega) (by omega) (by omega)
  have LF : ∀ x : Nat, (4 ≤ x ∧ x < 15) ∨ (35 ≤ x ∧ x < 55) ∨ (67 ≤ x ∧ x < 79) → G x = aI S x := fun x hx => funext fun y => L x y hx
  refine hK _ _ (fun K' hk => ?_)
  unfold w_M_back
  refine ⟨1815, ?_⟩
  rw [← aput_self T 0]
  refine p_copyM10_in 1815 0 _ (by omega) (by omega) (by omega) (fun _ => ?_)
  rw [aI_aput_s, if_pos (by omega), ey, ← g7 90 (by omega) (by omega)]
  have f1 : ∀ f, aI (aput T 0 f) 1 = aI T 1 := fun f => by funext y; exact aI_aput_n (by omega)
  have f2 : ∀ f, aI (aput T 0 f) 2 = aI T 2 := fun f => by funext y; exact aI_aput_n (by omega)
  have f3 : ∀ f, aI (aput T 0 f) 3 = aI T 3 := fun f => by funext y; exact aI_aput_n (by omega)
  refine hk _ ⟨?_, ?_, ⟨h3, ?_, h5, h6⟩, ?_, ?_, ?_, ?_⟩
  · unfold imgA at h2
    unfold nowA
    rw [aI_rcpy, aI_aall]
    refine RA.all h2 ?_ g4 g5 g6 g7 gs ge
    intro j j0 j1
    rw [aI_aput_s, if_pos (by omega)]
  · unfold imgA at h2 ⊢
    rw [f1, aI_rcpy, aI_aall, LF 4 (by omega), LF 5 (by omega), LF 6 (by omega), LF 7 (by omega)]
    refine RA.all h2 (fun _ _ _ => rfl) (fun _ _ _ => rfl) (fun _ _ _ => rfl) (fun _ _ _ => rfl) (fun _ _ _ => rfl) (fun k j _ _ _ _ => ?_) (fun k j _ _ _ _ => ?_)
    · exact L _ _ (by omega)
    · exact L _ _ (by omega)
  · intro i i0 i1
    rw [f3, aI_rcpy, aI_aall, LF 8 (by omega)]
    exact h4 i i0 i1
  · rw [f2, aI_rcpy, aI_aall, g4 2 (by omega) (by omega)]
    intro k k0 k1
    obtain ⟨q, q1, q2⟩ := h7 k k0 (by omega)
    exact ⟨q, by rw [rI_rcpy, if_pos ⟨rfl, k0, by omega⟩, rI_aall, h9 k k0 k1]; exact q1, q2⟩
  · rw [aI_rcpy, aI_aall, LF 4 (by omega), g4 2 (by omega) (by omega)]
    omega
  · intro k k0 k1
    rw [aI_rcpy, aI_aall, LF 4 (by omega)] at k1
    rw [rI_rcpy, if_neg (by omega), rI_rcpy, if_pos ⟨rfl, k0, by omega⟩]
  · intro j hj k k0 k1 y hy
    rw [rI_rcpy] at hy
    by_cases c : j = 140 ∧ 0 ≤ k ∧ k < 4
    · rw [if_pos c] at hy
      exact h10 141 (Or.inr rfl) k k0 k1 y hy
    · rw [if_neg c] at hy
      exact h10 j hj k k0 k1 y hy
