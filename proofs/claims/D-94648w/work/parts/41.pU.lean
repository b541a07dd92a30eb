/-! PURE: undo -/
theorem p_undo_in {S : St} {K : Int → St → Prop} {X : St → Prop} {x b : Int} (hx : 174 ≤ x ∧ x ≤ 1732) (hb : 0 ≤ b ∧ b < 16) : ∀ (n : Nat) (e : Int) (f : Int → Int), 0 ≤ e → e ≤ 5 → 5 - e < n →
    X (aput S 0 (fun y => if 31 + 6 * b + e ≤ y ∧ y < 31 + 6 * b + 5 then f (x + 2 + 5 * b + (y - (31 + 6 * b))) else f y)) → l_M_undo_63 x b K X n e (aput S 0 f) := by
  intro n
  induction n with
  | zero => intro e f h1 h2 h3; omega
  | succ n ih =>
    intro e f h1 h2 h3 hX
    unfold l_M_undo_63
    refine ⟨fun c => ?_, fun c => ?_⟩
    · have e5 : e = 5 := by omega
      subst e5
      refine cast (congrArg (fun g => X (aput S 0 g)) ?_) hX
      funext y
      rw [if_neg (by omega)]
    · refine p_boneAt (by omega) (fun _ => ⟨by omega, by omega, by omega, by omega, by omega, by omega, by omega, fun _ => ⟨by omega, ?_⟩⟩)
      rintro _ rfl
      refine ⟨by omega, ?_⟩
      rw [aset_aput, aI_aput_s]
      refine ih (e + 1) _ (by omega) (by omega) (by omega) ?_
      refine cast (congrArg (fun g => X (aput S 0 g)) ?_) hX
      funext y
      by_cases c1 : y = 30 + 6 * b + 1 + e
      · rw [if_pos (by omega), if_neg (by omega), if_pos c1]
        congr 1
        omega
      · by_cases c2 : 31 + 6 * b + (e + 1) ≤ y ∧ y < 31 + 6 * b + 5
        · rw [if_pos (by omega), if_pos c2, if_neg (by omega)]
        · rw [if_neg (by omega), if_neg c2, if_neg c1]
/-- the bones of a record, put back -/
def uRec (f : Int → Int) (x b nb : Int) : Int → Int := fun y => if 30 + 6 * b ≤ y ∧ y < 30 + 6 * nb ∧ (y - 30) % 6 ≠ 0 then f (x + 2 + 5 * ((y - 30) / 6) + ((y - 30) % 6 - 1)) else f y
theorem p_undo_out {S : St} {K : Int → St → Prop} {x nb : Int} (hx : 174 ≤ x ∧ x ≤ 1732) (hnb : 0 ≤ nb ∧ nb ≤ 16) : ∀ (n : Nat) (b : Int) (f : Int → Int), 0 ≤ b → b ≤ nb → nb - b < n → f (x + 1) = nb →
    (InR (f 5) → K (f 5) (aput S 0 (uRec f x b nb))) → l_M_undo_49 x K n b (aput S 0 f) := by
  intro n
  induction n with
  | zero => intro b f h1 h2 h3; omega
  | succ n ih =>
    intro b f h1 h2 h3 hf hX
    unfold l_M_undo_49
    rw [aI_aput_s, aI_aput_s, hf]
    refine ⟨by omega, by omega, fun _ => ⟨fun c => fun r => ?_, fun c => ?_⟩⟩
    · refine cast (congrArg (fun g => K (f 5) (aput S 0 g)) ?_) (hX r)
      funext y
      unfold uRec
      rw [if_neg (by omega)]
    · refine ⟨6, p_undo_in hx (by omega) 6 0 f (by omega) (by omega) (by omega) ?_⟩
      unfold j_M_undo_101
      refine ⟨by omega, ih (b + 1) _ (by omega) (by omega) (by omega) ?_ ?_⟩
      · rw [if_neg (by omega)]
        exact hf
      · rw [if_neg (by omega)]
        intro r
        refine cast (congrArg (fun g => K (f 5) (aput S 0 g)) ?_) (hX r)
        funext y
        unfold uRec
        by_cases c1 : 31 + 6 * b + 0 ≤ y ∧ y < 31 + 6 * b + 5
        · rw [if_pos (by omega), if_neg (by omega)]
          dsimp only
          rw [if_pos c1]
          congr 1
          omega
        · by_cases c2 : 30 + 6 * (b + 1) ≤ y ∧ y < 30 + 6 * nb ∧ (y - 30) % 6 ≠ 0
          · rw [if_pos (by omega), if_pos c2]
            dsimp only
            rw [if_neg (by omega)]
          · rw [if_neg (by omega), if_neg c2]
            dsimp only
            rw [if_neg c1]
theorem RA.undo {f f' n n' x y r : Int → Int} {st se : Int → Int → Int} (h : RA f n x y r st se) (h4 : 0 < n 4) (hn : ∀ j, n' j = if j = 4 then n 4 - 1 else n j)
    (h5 : f' 5 = n 4 - 1) (h2 : f' 2 = f (174 + 82 * (n 4 - 1))) (hf : ∀ j, j ≠ 5 → j ≠ 2 → (j < 30 ∨ 126 ≤ j) → f' j = f j) (hk : ∀ b, 0 ≤ b → b < 16 → f' (30 + 6 * b) = f (30 + 6 * b))
    (hb : ∀ b e, 0 ≤ b → b < 16 → 0 ≤ e → e < 5 → f' (31 + 6 * b + e) = if b < f (175 + 82 * (n 4 - 1)) then f (176 + 82 * (n 4 - 1) + 5 * b + e) else f (31 + 6 * b + e)) : RA f' n' x y (st (n 4 - 1)) st se := by
  obtain ⟨hN, hT, hB, hS, hE⟩ := h
  obtain ⟨⟨a0, a1, a2⟩, ⟨b0, b1, b2⟩, cy, ⟨d0, d1, d2⟩, ⟨e0, e1, e2⟩, ⟨g0, g1, g2⟩, ⟨i0, i1, i2⟩, ⟨j0, j1, j2⟩, ⟨k0, k1, k2⟩⟩ := hN
  have n0 : n' 0 = n 0 := by rw [hn, if_neg (by omega)]
  have n1 : n' 1 = n 1 := by rw [hn, if_neg (by omega)]
  have n4 : n' 4 = n 4 - 1 := by rw [hn, if_pos rfl]
  have n5 : n' 5 = n 5 := by rw [hn, if_neg (by omega)]
  obtain ⟨s1, s2, s3, s4, s5, s6, s7⟩ := hS (n 4 - 1) (by omega) (by omega)
  rw [if_neg (by omega)] at s7
  refine ⟨?_, hT.congr a2 n0 (fun j _ _ => hf j (by omega) (by omega) (by omega)) (fun _ _ _ => rfl) (fun _ _ _ => rfl), ⟨fun b q0 q1 => ?_, fun b q0 q1 => ?_, ?_⟩, fun k p0 p1 => ?_, hE.congr i2 n0 n5 (fun j _ _ => hf j (by omega) (by omega) (by omega)) (fun _ _ _ _ _ _ => rfl)⟩
  · unfold RN
    rw [n0, n1, n4, n5, h5, h2, hf 0 (by omega) (by omega) (by omega), hf 1 (by omega) (by omega) (by omega), hf 3 (by omega) (by omega) (by omega), hf 4 (by omega) (by omega) (by omega), hf 6 (by omega) (by omega) (by omega), hf 7 (by omega) (by omega) (by omega), hf 8 (by omega) (by omega) (by omega),
      show n' 2 = n 2 by rw [hn, if_neg (by omega)], show n' 3 = n 3 by rw [hn, if_neg (by omega)], show n' 6 = n 6 by rw [hn, if_neg (by omega)], show n' 7 = n 7 by rw [hn, if_neg (by omega)]]
    exact ⟨⟨a0, a1, a2⟩, ⟨b0, b1, b2⟩, s1, ⟨d0, d1, d2⟩, ⟨e0, e1, e2⟩, ⟨rfl, by omega, by omega⟩, ⟨i0, i1, i2⟩, ⟨j0, j1, j2⟩, ⟨k0, k1, k2⟩⟩
  · rw [n1] at q1
    rw [hk b q0 (by omega), hB.1 b q0 q1, s6 b q0 q1]
  · rw [n1] at q1
    rw [n0]
    obtain ⟨v1, v2, v3, v4⟩ := hB.2.1 b q0 q1
    have e4 := hb b 4 q0 (by omega) (by omega) (by omega)
    by_cases c : b < f (175 + 82 * (n 4 - 1))
    · obtain ⟨u1, u2, u3, u4⟩ := s3 b q0 c
      rw [if_pos c] at e4
      refine ⟨fun e e0 e1 => ?_, ?_, ?_, fun t t0 t1 => ?_⟩
      · show f' (31 + 6 * b + e) = _
        rw [hb b e q0 (by omega) e0 (by omega), if_pos c]
        exact u1 e e0 e1
      · show 0 ≤ f' (31 + 6 * b + 4)
        rw [e4]
        exact u2
      · show f' (31 + 6 * b + 4) < _
        rw [e4]
        exact u3
      · show bt (f' (31 + 6 * b + 4)) t = _
        rw [e4]
        exact u4 t t0 t1
    · obtain ⟨w1, w2⟩ := s7 b (by omega) q1
      rw [if_neg c] at e4
      refine ⟨fun e e0 e1 => ?_, ?_, ?_, fun t t0 t1 => ?_⟩
      · show f' (31 + 6 * b + e) = _
        rw [hb b e q0 (by omega) e0 (by omega), if_neg c]
        have z := w1 (1 + e) (by omega) (by omega)
        rw [show 5 * b + 1 + e = 5 * b + (1 + e) by omega, z, show 5 * b + (1 + e) = 5 * b + 1 + e by omega]
        exact v1 e e0 e1
      · show 0 ≤ f' (31 + 6 * b + 4)
        rw [e4]
        exact v2
      · show f' (31 + 6 * b + 4) < _
        rw [e4]
        exact v3
      · show bt (f' (31 + 6 * b + 4)) t = _
        rw [e4]
        have z := v4 t t0 t1
        have z2 := (s4.2.2 t t0 (by omega)).1
        rw [bt_small z2 (s5 t t0 (by omega)) (by omega)]
        rw [w2 t t0 (by omega)] at z
        exact z
  · rw [n0, n1]
    exact s4
  · rw [n4] at p1 ⊢
    have z := hS k p0 (by omega)
    rw [if_pos (by omega)] at z
    have q : (if k + 1 < n 4 - 1 then st (k + 1) else st (n 4 - 1)) = st (k + 1) := by
      by_cases c : k + 1 < n 4 - 1
      · rw [if_pos c]
      · rw [if_neg c, show n 4 - 1 = k + 1 by omega]
    rw [q]
    obtain ⟨z1, z2, z3, z4, z5, z6, z7⟩ := z
    have fh : ∀ j, 126 ≤ j → f' j = f j := fun j hj => hf j (by omega) (by omega) (by omega)
    unfold RS1
    rw [n0, n1, fh _ (by omega), fh (175 + 82 * k) (by omega)]
    refine ⟨z1, z2, z3.congr a2 (by omega) (fun b e _ _ _ _ => fh _ (by omega)) (fun _ _ _ => rfl), z4, z5, fun b t0 t1 => ?_, z7⟩
    rw [z6 b t0 t1, s6 b t0 t1]
theorem p_copy2 {k0 n0 k1 n1 : Nat} {S : St} {K : St → Prop} (hn : n0 ≤ n1) (hK : K (aall S (fun x y => if x = k1 ∧ 0 ≤ y ∧ y < (n0 : Int) then aI S k0 y else aI S x y))) : w_X1_copy k0 n0 k1 n1 S K := p_copy (g := aI S) hn hK
theorem RA.eqr {f n x y r r' x' y' : Int → Int} {st se st' se' : Int → Int → Int} (h : RA f n x y r st se) (h0 : n 0 ≤ 10) (h1 : n 1 ≤ 16) (h4 : n 4 ≤ 20) (h5 : n 5 ≤ 12) (hx : ∀ j, 0 ≤ j → j < 10 → x' j = x j) (hy : ∀ j, 0 ≤ j → j < 10 → y' j = y j) (hr : ∀ j, 0 ≤ j → j < 91 → r' j = r j) (hs : ∀ k j, 0 ≤ k → k < 20 → 0 ≤ j → j < 91 → st' k j = st k j) (he : ∀ k j, 0 ≤ k → k < 12 → 0 ≤ j → j < 4 → se' k j = se k j) : RA f n x' y' r' st' se' := by
  obtain ⟨hN, hT, hB, hS, hE⟩ := h
  refine ⟨?_, hT.congr h0 rfl (fun _ _ _ => rfl) hx hy, hB.congr h0 h1 rfl rfl (fun _ _ _ => rfl) hr, fun k p0 p1 => ?_, hE.congr h5 rfl rfl (fun _ _ _ => rfl) he⟩
  · unfold RN at hN ⊢
    rw [hr 90 (by omega) (by omega)]
    exact hN
  · refine (hS k p0 p1).congr h0 h1 rfl rfl (fun _ _ _ => rfl) hr ?_ (fun y _ _ => hs k y (by omega) (by omega) (by omega) (by omega))
    intro y y0 y1
    by_cases c : k + 1 < n 4
    · rw [if_pos c, if_pos c]
      exact hs (k + 1) y (by omega) (by omega) y0 y1
    · rw [if_neg c, if_neg c]
      exact hr y y0 y1
theorem rel_undo {S T : St} {K : Int → St → Prop} (h : nowA S T) (hK : ∀ r S', Post S T Eq (w_M_undo T) r S' → K r S') : w_X_undo S K := by
  have hN := h.nums
  obtain ⟨⟨a0, a1, a2⟩, ⟨b0, b1, b2⟩, cy, ⟨d0, d1, d2⟩, ⟨e0, e1, e2⟩, ⟨g0, g1, g2⟩, ⟨i0, i1, i2⟩, -⟩ := h.nums
  unfold w_X_undo
  refine fun _ => ⟨fun c => ⟨by omega, ?_⟩, fun c => ?_⟩
  · rintro _ rfl
    rw [aI_aset_s]
    refine fun _ => ⟨by omega, p_copy2 (by omega) ?_⟩
    have e9 : aI (aall (aset S 0 4 (aI S 0 4 - 1)) (fun x y => if x = 3 ∧ 0 ≤ y ∧ y < ((91 : Nat) : Int) then aI (aset S 0 4 (aI S 0 4 - 1)) (15 + Int.toNat (aI S 0 4 - 1)) y else aI (aset S 0 4 (aI S 0 4 - 1)) x y)) 0 4 = aI S 0 4 - 1 := by
      rw [aI_aall, if_neg (by omega), aI_aset_s]
    rw [e9]
    intro _
    have hnb := (h.2.2.2.1 (aI S 0 4 - 1) (by omega) (by omega)).2.1
    rw [← g0] at hnb
    refine hK _ _ ⟨aI T 0 5 - 1, aput T 0 (uRec (fun y => if y = 2 then aI T 0 (174 + 82 * (aI T 0 5 - 1)) else if y = 5 then aI T 0 5 - 1 else aI T 0 y) (174 + 82 * (aI T 0 5 - 1)) 0 (aI T 0 (175 + 82 * (aI T 0 5 - 1)))), by omega, ?_, ?_, ?_, fun K' hk => ?_⟩
    · unfold nowA
      refine RA.eqr (RA.undo h (f' := aI (aput T 0 (uRec (fun y => if y = 2 then aI T 0 (174 + 82 * (aI T 0 5 - 1)) else if y = 5 then aI T 0 5 - 1 else aI T 0 y) (174 + 82 * (aI T 0 5 - 1)) 0 (aI T 0 (175 + 82 * (aI T 0 5 - 1))))) 0) (n' := aI (aset S 0 4 (aI S 0 4 - 1)) 0) (by omega) ?_ ?_ ?_ ?_ ?_ ?_) ?_ ?_ ?_ ?_ ?_ ?_ ?_ ?_ ?_
      · intro j
        rw [aI_aset]
        by_cases c : j = 4
        · rw [if_pos ⟨rfl, c⟩, if_pos c]
        · rw [if_neg (by omega), if_neg c]
      · rw [aI_aput_s]
        unfold uRec
        dsimp only
        rw [if_neg (by omega), if_neg (by omega), if_pos rfl]
        omega
      · rw [aI_aput_s]
        unfold uRec
        dsimp only
        rw [if_neg (by omega), if_pos rfl, g0]
      · intro j j0 j1 j2
        rw [aI_aput_s]
        unfold uRec
        dsimp only
        rw [if_neg (by omega), if_neg (by omega), if_neg (by omega)]
      · intro b p0 p1
        rw [aI_aput_s]
        unfold uRec
        dsimp only
        rw [if_neg (by omega), if_neg (by omega), if_neg (by omega)]
      · intro b e p0 p1 p2 p3
        rw [aI_aput_s]
        unfold uRec
        dsimp only
        rw [← g0]
        by_cases c : b < aI T 0 (175 + 82 * (aI T 0 5 - 1))
        · rw [if_pos (by omega), if_pos c, if_neg (by omega), if_neg (by omega)]
          congr 1
          omega
        · rw [if_neg (by omega), if_neg c, if_neg (by omega), if_neg (by omega)]
      all_goals first | (rw [aI_aset]; grind) | skip
      all_goals (intros; simp only [aI_aall, aI_aset])
      all_goals grind
    · refine ⟨fun _ _ _ => rfl, rfl, fun _ _ q => q, fun k hk => ?_, ?_⟩
      · funext j
        simp only [aI_aall, aI_aset]
        grind
      · simp only [aI_aall, aI_aset]
        grind
    · refine ⟨fun _ _ _ => rfl, fun k k1 _ => ?_, ?_⟩
      · funext j
        rw [aI_aput_n (by omega)]
      · rw [aI_aput_s]
        unfold uRec
        dsimp only
        rw [if_neg (by omega), if_neg (by omega), if_neg (by omega)]
    · unfold w_M_undo
      refine fun _ => ⟨fun _ => ⟨by omega, ?_⟩, fun c2 => absurd c2 (by omega)⟩
      rintro _ rfl
      rw [aI_aset_s]
      refine fun _ => ⟨by omega, by omega, ?_⟩
      rintro _ rfl
      refine fun _ => ⟨by omega, fun _ => ?_⟩
      rintro _ rfl
      rw [aset_eq T, aset_aput, aI_aput_s, if_neg (by omega)]
      refine ⟨17, p_undo_out (nb := aI T 0 (175 + 82 * (aI T 0 5 - 1))) (by omega) (by omega) 17 0 _ (by omega) (by omega) (by omega) ?_ ?_⟩
      · rw [if_neg (by omega), if_neg (by omega)]
        congr 1
        omega
      · rw [if_neg (by omega), if_pos rfl]
        exact fun _ => hk
  · refine hK _ _ (Post.stay (r' := -1) h rfl fun K' hk => ?_)
    unfold w_M_undo
    exact fun _ => ⟨fun c2 => absurd c2 (by omega), fun _ => hk⟩
