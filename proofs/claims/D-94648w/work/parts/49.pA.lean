/-! PURE: about -/
variable {tB : Int}
theorem law_town {S T : St} {x y : Int} {K : Int → St → Prop} (h : REL tB S T) (hK : ∀ r S', PostF tB (w_M_town x y T) r S' → K r S') : w_X_town x y S K := by
  obtain ⟨⟨a0, a1, a2⟩, -⟩ := h.1.nums
  refine pX_town (by omega) (fun x0 x1 y0 y1 c => ?_) (fun c => ?_)
  · refine hK _ _ (fun K' hk => p_town (by omega) (fun _ _ _ _ _ => ?_) (fun c2 => absurd (by omega) c2))
    rw [a0]
    refine hk _ (h.same ?_ ?_ ?_)
    · have h := h.1
      unfold nowA at h ⊢
      refine (h.town (px := x) (py := y) c ⟨x0, x1⟩ ⟨y0, y1⟩ ?_ ?_ ?_ ?_).eqs (fun j => by simp only [aI_aset]; grind) (fun k j => by simp only [aI_aset]; grind) (fun k j => by simp only [aI_aset]; grind)
      all_goals (intro j; simp only [aI_aset]; grind)
    · refine ⟨fun _ _ _ => rfl, rfl, fun _ _ q => q, fun k hk => ?_, ?_⟩
      · funext j
        simp only [aI_aset]
        grind
      · simp only [aI_aset]
        grind
    · refine ⟨fun _ _ _ => rfl, fun k _ _ => ?_, ?_⟩
      · funext j
        simp only [aI_aset]
        grind
      · simp only [aI_aset]
        grind
  · exact hK _ _ (fun K' hk => p_town (by omega) (fun _ _ _ _ _ => absurd (by omega) c) (fun _ => hk _ h))
theorem pX_atTown_in {t : Int} {S : St} {K : Int → Prop} (hb : 0 ≤ aI S 0 1 ∧ aI S 0 1 ≤ 16) : ∀ (n : Nat) (k : Nat), (k : Int) ≤ aI S 0 1 → aI S 0 1 - k < n → K (ssum (fun b => if aI S 3 (5 * b + 3) = t then 1 else 0) (aI S 0 1).toNat) → l_X_atTown_4 t S K n (ssum (fun b => if aI S 3 (5 * b + 3) = t then 1 else 0) k) k := by
  intro n
  induction n with
  | zero => intro k h1 h2; omega
  | succ n ih =>
    intro k h1 h2 hK
    have hs := ssum_bd (g := fun b => if aI S 3 (5 * b + 3) = t then 1 else 0) k (fun i _ _ => by split <;> omega)
    have ih' := fun c : ¬ (aI S 0 1 ≤ (k : Int)) => ih (k + 1) (by omega) (by omega) hK
    have es : ssum (fun b => if aI S 3 (5 * b + 3) = t then 1 else 0) (k + 1) = ssum (fun b => if aI S 3 (5 * b + 3) = t then 1 else 0) k + (if aI S 3 (5 * (k : Int) + 3) = t then 1 else 0) := rfl
    unfold l_X_atTown_4 j_X_atTown_33
    refine fun _ => ⟨fun c => ?_, fun c => pX_bone_2 (by omega) (by omega) (fun _ => ⟨fun ne => ⟨by omega, ?_⟩, fun e => ⟨by omega, ?_⟩⟩)⟩
    · rw [show k = (aI S 0 1).toNat by omega]
      exact hK
    · rintro _ rfl
      rw [if_neg ne] at es
      rw [← es]
      exact fun _ => ⟨by omega, ih' c⟩
    · rintro _ rfl
      rw [if_pos e] at es
      rw [← es]
      exact fun _ => ⟨by omega, ih' c⟩
theorem pM_bonesAt_in {t : Int} {S : St} {K : Int → Prop} (hb : 0 ≤ aI S 0 1 ∧ aI S 0 1 ≤ 16) : ∀ (n : Nat) (k : Nat), (k : Int) ≤ aI S 0 1 → aI S 0 1 - k < n → K (ssum (fun b => if aI S 0 (33 + 6 * b) = t then 1 else 0) (aI S 0 1).toNat) → l_M_bonesAt_4 t S K n (ssum (fun b => if aI S 0 (33 + 6 * b) = t then 1 else 0) k) k := by
  intro n
  induction n with
  | zero => intro k h1 h2; omega
  | succ n ih =>
    intro k h1 h2 hK
    have hs := ssum_bd (g := fun b => if aI S 0 (33 + 6 * b) = t then 1 else 0) k (fun i _ _ => by split <;> omega)
    have ih' := fun c : ¬ (aI S 0 1 ≤ (k : Int)) => ih (k + 1) (by omega) (by omega) hK
    have es : ssum (fun b => if aI S 0 (33 + 6 * b) = t then 1 else 0) (k + 1) = ssum (fun b => if aI S 0 (33 + 6 * b) = t then 1 else 0) k + (if aI S 0 (33 + 6 * (k : Int)) = t then 1 else 0) := rfl
    unfold l_M_bonesAt_4 j_M_bonesAt_35
    refine fun _ => ⟨fun c => ?_, fun c => p_boneAt (by omega) (fun _ => ?_)⟩
    · rw [show k = (aI S 0 1).toNat by omega]
      exact hK
    · rw [show 30 + 6 * (k : Int) + 3 = 33 + 6 * (k : Int) by omega]
      refine ⟨by omega, by omega, fun _ => ⟨fun ne => ⟨by omega, ?_⟩, fun e => ⟨by omega, ?_⟩⟩⟩
      · rintro _ rfl
        rw [if_neg ne] at es
        rw [← es]
        exact fun _ => ⟨by omega, ih' c⟩
      · rintro _ rfl
        rw [if_pos e] at es
        rw [← es]
        exact fun _ => ⟨by omega, ih' c⟩
theorem law_about {S T : St} {x : Int} {K : Int → Prop} (hx : InR x) (h : REL tB S T) (hK : ∀ r, (∀ K' : Int → Prop, K' r → w_M_about x T K') → K r) : w_X_about x S K := by
  have hn := h.1
  obtain ⟨⟨a0, a1, a2⟩, ⟨b0, b1, b2⟩, cy, ⟨d0, d1, d2⟩, ⟨e0, e1, e2⟩, ⟨g0, g1, g2⟩, ⟨i0, i1, i2⟩, ⟨j0, j1, j2⟩, ⟨k0, k1, k2⟩⟩ := h.1.nums
  obtain ⟨t1, t2, t3⟩ := h.2.2.1.1
  have hx1 : -2147483648 ≤ x := hx.1
  have hx2 : x ≤ 2147483647 := hx.2
  have lowM : ∀ (K' : Int → Prop) (r : Int), ((0 ≤ x ∧ x ≤ 8 → r = aI T 0 x) ∧ (x = 9 → r = fI T 4) ∧ (¬ (0 ≤ x ∧ x ≤ 9) → r = -2)) → ¬ (10 ≤ x ∧ x < 10 + aI S 0 0) → ¬ (20 ≤ x ∧ x < 20 + aI S 0 0) → K' r → w_M_about x T K' := by
    intro K' r hr h1 h2 hk
    unfold w_M_about
    refine fun _ => ⟨by omega, p_isIn (fun _ _ => absurd (by omega) h1) (fun _ => br0 ⟨by omega, p_isIn (fun _ _ => absurd (by omega) h2) (fun _ => br0 ?_)⟩)⟩
    refine ⟨fun e => ⟨by omega, fun _ => ?_⟩, fun e => ⟨by omega, fun _ => ?_⟩, fun e => ⟨by omega, fun _ => ?_⟩, fun e => ⟨by omega, fun _ => ?_⟩, fun e => ⟨by omega, fun _ => ?_⟩, fun e => ⟨by omega, fun _ => ?_⟩, fun e => ⟨by omega, fun _ => ?_⟩, fun e => ⟨by omega, fun _ => ?_⟩, fun e => ⟨by omega, fun _ => ?_⟩, fun e _ => ?_, fun e => ?_⟩
    · rw [← hr.1 (by omega)]; exact hk
    · rw [← hr.1 (by omega)]; exact hk
    · rw [← hr.1 (by omega)]; exact hk
    · rw [← hr.1 (by omega)]; exact hk
    · rw [← hr.1 (by omega)]; exact hk
    · rw [← hr.1 (by omega)]; exact hk
    · rw [← hr.1 (by omega)]; exact hk
    · rw [← hr.1 (by omega)]; exact hk
    · rw [← hr.1 (by omega)]; exact hk
    · rw [← hr.2.1 e]; exact hk
    · rw [← hr.2.2 e]; exact hk
  have w10 : Int.bmod (x - 10) 4294967296 = x - 10 ∨ (Int.bmod (x - 10) 4294967296 ≥ 2000000000 ∧ x < -2147483000) := by
    rw [Int.bmod_def]
    split <;> omega
  have w20 : Int.bmod (x - 20) 4294967296 = x - 20 ∨ (Int.bmod (x - 20) 4294967296 ≥ 2000000000 ∧ x < -2147483000) := by
    rw [Int.bmod_def]
    split <;> omega
  unfold w_X_about
  refine ⟨fun e _ => ?_, fun e _ => ?_, fun e => pX_year (fun _ => ?_), fun e _ => ?_, fun e _ => ?_, fun e _ => ?_, fun e _ => ?_, fun e _ => ?_, fun e _ => ?_, fun e _ => ?_, fun e => ?_⟩
  · exact hK _ (fun K' hk => lowM K' _ ⟨fun _ => by rw [e, a0], fun _ => by omega, fun _ => by omega⟩ (by omega) (by omega) hk)
  · exact hK _ (fun K' hk => lowM K' _ ⟨fun _ => by rw [e, b0], fun _ => by omega, fun _ => by omega⟩ (by omega) (by omega) hk)
  · exact hK _ (fun K' hk => lowM K' _ ⟨fun _ => by rw [e, cy], fun _ => by omega, fun _ => by omega⟩ (by omega) (by omega) hk)
  · exact hK _ (fun K' hk => lowM K' _ ⟨fun _ => by rw [e, d0], fun _ => by omega, fun _ => by omega⟩ (by omega) (by omega) hk)
  · exact hK _ (fun K' hk => lowM K' _ ⟨fun _ => by rw [e, e0], fun _ => by omega, fun _ => by omega⟩ (by omega) (by omega) hk)
  · exact hK _ (fun K' hk => lowM K' _ ⟨fun _ => by rw [e, g0], fun _ => by omega, fun _ => by omega⟩ (by omega) (by omega) hk)
  · exact hK _ (fun K' hk => lowM K' _ ⟨fun _ => by rw [e, i0], fun _ => by omega, fun _ => by omega⟩ (by omega) (by omega) hk)
  · exact hK _ (fun K' hk => lowM K' _ ⟨fun _ => by rw [e, j0], fun _ => by omega, fun _ => by omega⟩ (by omega) (by omega) hk)
  · exact hK _ (fun K' hk => lowM K' _ ⟨fun _ => by rw [e, k0], fun _ => by omega, fun _ => by omega⟩ (by omega) (by omega) hk)
  · exact hK _ (fun K' hk => lowM K' _ ⟨fun _ => by omega, fun _ => t1, fun _ => by omega⟩ (by omega) (by omega) hk)
  · rintro _ rfl
    refine fun _ => pX_isTown (by omega) (fun q0 q1 => br1 ?_) (fun q => br0 ?_)
    · refine ⟨by omega, ?_⟩
      rintro v rfl
      have e8 : Int.bmod (80 + x - 10) 4294967296 = 80 + (x - 10) := by
        rw [Int.bmod_def]
        split <;> omega
      have rt := hn.2.2.1.2.2.2.2 (x - 10) (by omega) (by omega)
      have p1 : (2 : Int) ^ (aI S 0 1).toNat ≤ 65536 := p2_mono (n := 16) (by omega)
      rw [e8]
      refine fun _ => ⟨by omega, fun _ => p_bitCount (by omega) (fun _ => hK _ (fun K' hk => ?_))⟩
      unfold w_M_about
      refine fun _ => ⟨by omega, p_isIn (fun _ _ => br1 ?_) (fun c => absurd (by omega) c)⟩
      refine ⟨by omega, p_proofsOf (by omega) (by omega) (fun _ => ?_)⟩
      rw [hn.countT (t := x - 10) (by omega) (by omega)] at hk
      exact hk
    · rintro _ rfl
      refine fun _ => pX_isTown (by omega) (fun q2 q3 => br1 ?_) (fun q2 => br0 ?_)
      · rintro _ rfl
        rw [show Int.bmod (x - 20) 4294967296 = x - 20 by omega]
        refine fun _ => ⟨12 + 6, pX_atTown_in ⟨b1, b2⟩ 18 0 (by omega) (by omega) (fun _ => hK _ (fun K' hk => ?_))⟩
        unfold w_M_about
        refine fun _ => ⟨by omega, p_isIn (fun _ _ => absurd (by omega) q) (fun _ => br0 ⟨by omega, p_isIn (fun _ _ => br1 ⟨by omega, 18, pM_bonesAt_in (by omega) 18 0 (by omega) (by omega) (fun _ => ?_)⟩) (fun c => absurd (by omega) c)⟩)⟩
        have ec : ssum (fun b => if aI T 0 (33 + 6 * b) = x - 20 then 1 else 0) (aI T 0 1).toNat = ssum (fun b => if aI S 3 (5 * b + 3) = x - 20 then 1 else 0) (aI S 0 1).toNat := by
          rw [b0]
          refine ssum_congr _ (fun b z0 z1 => ?_)
          have z := hn.bone (e := 3) z0 (by omega) (by omega) (by omega)
          rw [show 30 + 6 * b + 3 = 33 + 6 * b by omega] at z
          rw [z]
        rw [ec]
        exact hk
      · exact hK _ (fun K' hk => lowM K' _ ⟨fun _ => by omega, fun _ => by omega, fun _ => rfl⟩ (by omega) (by omega) hk)
