/-! PURE: prove, lend, swap, steal -/
theorem xK_o (A : Nat → Int → Int) {k : Nat} (h : k ≠ 0) (h2 : k < 15 ∨ 35 ≤ k) (g : 0 ≤ A 0 4 ∧ A 0 4 ≤ 20) : xK A k = A k := by
  funext j
  unfold xK xSh
  have e1 : ¬ (k = 0 ∧ j = 4) := by omega
  have e2 : ¬ (15 ≤ k ∧ k < 34 ∧ 0 ≤ j ∧ j < 91) := by omega
  have e3 : ¬ (k = 34 ∧ 0 ≤ j ∧ j < 91) := by omega
  rw [if_neg e1, if_neg e2, if_neg e3]
  by_cases c : A 0 4 = 20
  · rw [if_pos c]
  · have e4 : ¬ (k = 15 + (A 0 4).toNat ∧ 0 ≤ j ∧ j < 91) := by omega
    rw [if_neg c, if_neg e4]
theorem nowA.step {S T S' T' : St} (h : nowA S T) (hX : ∀ k j, k ≠ 3 → aI S' k j = xK (aI S) k j) (hf : ∀ j, j ≠ 2 → (j < 30 ∨ 126 ≤ j) → aI T' 0 j = kA (aI T 0) j) (h2 : aI T' 0 2 = aI S' 3 90)
    (hk : ∀ b, 0 ≤ b → b < aI S 0 1 → aI S' 3 (5 * b) = aI S 3 (5 * b)) (hB : RB (aI T' 0) (aI S 0) (aI S' 3)) : nowA S' T' := by
  have g := h.nums.2.2.2.2.2.1
  refine RA.step h ?_ ?_ ?_ ?_ ?_ hf h2 hk hB
  · intro j
    rw [hX 0 j (by omega)]
    unfold xK xSh
    grind
  · funext j
    rw [hX 1 j (by omega)]
    unfold xK xSh
    grind
  · funext j
    rw [hX 2 j (by omega)]
    unfold xK xSh
    grind
  · funext k j
    rw [hX _ j (by omega)]
    rw [xK_o _ (by omega) (by omega) g.2]
  · intro k j k0 k1 j0 j1
    rw [hX _ j (by omega)]
    unfold xK xSh
    rw [if_neg (by omega)]
    by_cases c : aI S 0 4 = 20
    · rw [if_pos c, if_pos c]
      by_cases c2 : k = 19
      · rw [if_pos c2, if_pos (by omega)]
      · rw [if_neg c2, if_neg (by omega), if_pos (by omega)]
        have : 15 + k.toNat + 1 = 15 + (k + 1).toNat := by omega
        rw [this]
    · rw [if_neg c, if_neg c]
      by_cases c2 : k = aI S 0 4
      · rw [if_pos c2, if_pos (by omega)]
      · rw [if_neg c2, if_neg (by omega)]
theorem xK_3 (A : Nat → Int → Int) (j : Int) : xK A 3 j = A 3 j := by
  unfold xK xSh
  grind
theorem xK_0 (A : Nat → Int → Int) {j : Int} (h : j ≠ 4) : xK A 0 j = A 0 j := by
  unfold xK xSh
  grind
theorem sameX.step {S S' : St} (g : 0 ≤ aI S 0 4 ∧ aI S 0 4 ≤ 20) (hf : fI S' = fI S) (hr : rI S' = rI S) (hg : gI S' = gI S) (hX : ∀ k j, k ≠ 3 → aI S' k j = xK (aI S) k j) : sameX S S' := by
  refine ⟨fun _ _ _ => by rw [hf], hr, fun a e q => by rw [hg]; exact q, fun k hk => ?_, ?_⟩
  · funext j
    rw [hX k j (by omega), xK_o _ (by omega) (by omega) g]
  · rw [hX 0 2 (by omega), xK_0 _ (by omega)]
theorem sameM.step {T T' : St} (g : 0 ≤ aI T 0 5 ∧ aI T 0 5 ≤ 20) (hf : fI T' = fI T) (hX : ∀ k, 1 ≤ k → aI T' k = aI T k) (h3 : aI T' 0 3 = kA (aI T 0) 3) : sameM T T' := by
  refine ⟨fun _ _ _ => by rw [hf], fun k k1 _ => hX k k1, ?_⟩
  rw [h3, kA_lo _ (by omega) (by omega) g]
theorem same_refl (S T : St) (h : nowA S T) : nowA S T ∧ sameX S S ∧ sameM T T := ⟨h, ⟨fun _ _ _ => rfl, rfl, fun _ _ q => q, fun _ _ => rfl, rfl⟩, ⟨fun _ _ _ => rfl, fun _ _ _ => rfl, rfl⟩⟩
/-- the component's outcome r, S' : the twin has its like -/
def Post (S T : St) (e : Int → Int → Prop) (w : (Int → St → Prop) → Prop) (r : Int) (S' : St) : Prop := ∃ r' T', e r r' ∧ nowA S' T' ∧ sameX S S' ∧ sameM T T' ∧ ∀ K' : Int → St → Prop, K' r' T' → w K'
theorem Post.stay {S T : St} {e : Int → Int → Prop} {w : (Int → St → Prop) → Prop} {r r' : Int} (h : nowA S T) (he : e r r') (hw : ∀ K' : Int → St → Prop, K' r' T → w K') : Post S T e w r S := ⟨r', T, he, h, (same_refl S T h).2.1, (same_refl S T h).2.2, hw⟩
theorem RB.kA {S T : St} (h : nowA S T) : RB (kA (aI T 0)) (aI S 0) (aI S 3) := by
  obtain ⟨⟨a0, a1, a2⟩, ⟨b0, b1, b2⟩, cy, ⟨d0, d1, d2⟩, ⟨e0, e1, e2⟩, ⟨g0, g1, g2⟩, -⟩ := h.nums
  exact h.2.2.1.congr a2 b2 rfl rfl (fun y _ _ => kA_lo _ (by omega) (by omega) (by omega)) (fun _ _ _ => rfl)
theorem nowA.bone {S T : St} (h : nowA S T) {b e : Int} (b0 : 0 ≤ b) (b1 : b < aI S 0 1) (e0 : 0 ≤ e) (e1 : e < 5) : aI T 0 (30 + 6 * b + e) = aI S 3 (5 * b + e) := by
  by_cases c : e = 0
  · subst c
    rw [Int.add_zero, Int.add_zero]
    exact h.2.2.1.1 b b0 b1
  · have := (h.2.2.1.2.1 b b0 b1).1 (e - 1) (by omega) (by omega)
    rw [show 30 + 6 * b + e = 31 + 6 * b + (e - 1) by omega, show 5 * b + e = 5 * b + 1 + (e - 1) by omega]
    exact this
theorem rel_steal {S T : St} {b t : Int} {K : Int → St → Prop} (h : nowA S T) (hK : ∀ r S', Post S T Eq (w_M_steal b t T) r S' → K r S') : w_X_steal b t S K := by
  obtain ⟨⟨a0, a1, a2⟩, ⟨b0, b1, b2⟩, cy, ⟨d0, d1, d2⟩, ⟨e0, e1, e2⟩, ⟨g0, g1, g2⟩, -⟩ := h.nums
  unfold w_X_steal
  refine pX_isBone (by omega) (fun x0 x1 => br1 ?_) (fun c => br0 (hK _ _ (Post.stay h rfl fun K' hk => by
    unfold w_M_steal
    exact p_isBone (by omega) (fun _ _ => absurd (by omega) c) (fun _ => br0 hk))))
  refine pX_isTown (by omega) (fun t0 t1 => br1 ?_) (fun c => br0 (hK _ _ (Post.stay h rfl fun K' hk => by
    unfold w_M_steal
    exact p_isBone (by omega) (fun _ _ => br1 (p_isTown (by omega) (fun _ _ => absurd (by omega) c) (fun _ => br0 hk))) (fun _ => br0 hk))))
  refine pX_bone_2 (by omega) (by omega) (fun _ => ?_)
  have q3 := h.bone (e := 3) x0 x1 (by omega) (by omega)
  refine ⟨fun c => ?_, fun c => ?_⟩
  · refine p_keeps (by omega) (pX_puts (by omega) (by omega) (pX_puts (by omega) (by omega) (pX_puts (by omega) (by omega) ?_)))
    have hX : ∀ k j, k ≠ 3 → aI (aset (aset (aset (aall S (xK (aI S))) 3 (5 * b + 3) t) 3 (5 * b + 2) t) 3 (5 * b + 4) (-1)) k j = xK (aI S) k j := by
      intro k j hk
      simp only [aI_aset, aI_aall]
      rw [if_neg (by omega), if_neg (by omega), if_neg (by omega)]
    refine hK _ _ ⟨1, aset (aset (aset (aput T 0 (kA (aI T 0))) 0 (30 + 6 * b + 2) t) 0 (30 + 6 * b + 3) t) 0 (30 + 6 * b + 4) (-1), rfl, h.step hX ?_ ?_ ?_ ?_, sameX.step (by omega) rfl rfl rfl hX, sameM.step (by omega) rfl ?_ ?_, fun K' hk => ?_⟩
    · intro j _ hj
      simp only [aset_aput, aI_aput_s]
      rw [if_neg (by omega), if_neg (by omega), if_neg (by omega)]
    · simp only [aset_aput, aI_aput_s, aI_aset, aI_aall, xK_3]
      rw [if_neg (by omega), if_neg (by omega), if_neg (by omega), if_neg (by omega), if_neg (by omega), if_neg (by omega), kA_lo _ (by omega) (by omega) (by omega)]
      exact cy
    · intro i i0 i1
      simp only [aI_aset, aI_aall, xK_3]
      rw [if_neg (by omega), if_neg (by omega), if_neg (by omega)]
    · have h1 := RB.put (b := b) (e := 2) (v := t) (RB.kA h) b2 ⟨x0, x1⟩ (by omega) (by omega) a2 (fun _ => rfl) (fun _ => rfl)
      have h2 := RB.put (b := b) (e := 1) (v := t) h1 b2 ⟨x0, x1⟩ (by omega) (by omega) a2 (fun _ => rfl) (fun _ => rfl)
      refine RB.put (b := b) (e := 3) (v := -1) h2 b2 ⟨x0, x1⟩ (by omega) (by omega) a2 (fun j => ?_) (fun j => ?_)
      · simp only [aset_aput, aI_aput_s]
        grind
      · simp only [aI_aset, aI_aall, xK_3]
        grind
    · intro k hk
      simp only [aset_aput]
      funext j
      rw [aI_aput_n (by omega)]
    · simp only [aset_aput, aI_aput_s]
      rw [if_neg (by omega), if_neg (by omega), if_neg (by omega)]
    · unfold w_M_steal
      refine p_isBone (by omega) (fun _ _ => br1 ?_) (fun c => absurd (by omega) c)
      refine p_isTown (by omega) (fun _ _ => br1 ?_) (fun c => absurd (by omega) c)
      refine p_boneAt (by omega) (fun _ => ⟨by omega, by omega, fun _ => ⟨fun _ => ?_, fun c2 => absurd (by omega) c⟩⟩)
      refine p_keep (by omega) (p_boneAt (by omega) (fun _ => ⟨by omega, by omega, ?_⟩))
      rintro _ rfl
      refine ⟨by omega, by omega, ?_⟩
      rintro _ rfl
      refine ⟨by omega, by omega, ?_⟩
      rintro _ rfl
      exact hk
  · refine hK _ _ (Post.stay h rfl fun K' hk => ?_)
    unfold w_M_steal
    refine p_isBone (by omega) (fun _ _ => br1 ?_) (fun c => absurd (by omega) c)
    refine p_isTown (by omega) (fun _ _ => br1 ?_) (fun c => absurd (by omega) c)
    exact p_boneAt (by omega) (fun _ => ⟨by omega, by omega, fun _ => ⟨fun c2 => absurd (by omega) c2, fun _ => hk⟩⟩)
theorem rel_swap {S T : St} {b c : Int} {K : Int → St → Prop} (h : nowA S T) (hK : ∀ r S', Post S T Eq (w_M_swap b c T) r S' → K r S') : w_X_swap b c S K := by
  obtain ⟨⟨a0, a1, a2⟩, ⟨b0, b1, b2⟩, cy, ⟨d0, d1, d2⟩, ⟨e0, e1, e2⟩, ⟨g0, g1, g2⟩, -⟩ := h.nums
  unfold w_X_swap
  refine pX_isBone (by omega) (fun x0 x1 => br1 ?_) (fun c => br0 (hK _ _ (Post.stay h rfl fun K' hk => by
    unfold w_M_swap
    exact p_isBone (by omega) (fun _ _ => absurd (by omega) c) (fun _ => br0 hk))))
  refine pX_isBone (by omega) (fun t0 t1 => br1 ?_) (fun c => br0 (hK _ _ (Post.stay h rfl fun K' hk => by
    unfold w_M_swap
    exact p_isBone (by omega) (fun _ _ => br1 (p_isBone (by omega) (fun _ _ => absurd (by omega) c) (fun _ => br0 hk))) (fun _ => br0 hk))))
  refine pX_bone_2 (by omega) (by omega) (fun _ => pX_bone_2 (by omega) (by omega) (fun _ => ?_))
  have q3 := h.bone (e := 3) x0 x1 (by omega) (by omega)
  have q4 := h.bone (e := 3) t0 t1 (by omega) (by omega)
  have k3 : kA (aI T 0) (30 + 6 * b + 3) = aI S 3 (5 * b + 3) := by rw [kA_lo _ (by omega) (by omega) (by omega)]; exact q3
  have k4 : kA (aI T 0) (30 + 6 * c + 3) = aI S 3 (5 * c + 3) := by rw [kA_lo _ (by omega) (by omega) (by omega)]; exact q4
  have rb := (h.2.2.1.2.2.2.1 b x0 x1).2.2.2.1
  have rc := (h.2.2.1.2.2.2.1 c t0 t1).2.2.2.1
  refine ⟨fun ne => ?_, fun ne => ?_⟩
  · refine p_keeps (by omega) (pX_bone_2 (by omega) (by omega) (fun _ => pX_bone_2 (by omega) (by omega) (fun _ => pX_puts (by omega) (by omega) (pX_puts (by omega) (by omega) ?_))))
    rw [aI_aall, xK_3, xK_3]
    have hX : ∀ k j, k ≠ 3 → aI (aset (aset (aall S (xK (aI S))) 3 (5 * b + 3) (aI S 3 (5 * c + 3))) 3 (5 * c + 3) (aI S 3 (5 * b + 3))) k j = xK (aI S) k j := by
      intro k j hk
      simp only [aI_aset, aI_aall]
      rw [if_neg (by omega), if_neg (by omega)]
    refine hK _ _ ⟨1, aset (aset (aput T 0 (kA (aI T 0))) 0 (30 + 6 * b + 3) (aI S 3 (5 * c + 3))) 0 (30 + 6 * c + 3) (aI S 3 (5 * b + 3)), rfl, h.step hX ?_ ?_ ?_ ?_, sameX.step (by omega) rfl rfl rfl hX, sameM.step (by omega) rfl ?_ ?_, fun K' hk => ?_⟩
    · intro j _ hj
      simp only [aset_aput, aI_aput_s]
      rw [if_neg (by omega), if_neg (by omega)]
    · simp only [aset_aput, aI_aput_s, aI_aset, aI_aall, xK_3]
      rw [if_neg (by omega), if_neg (by omega), if_neg (by omega), if_neg (by omega), kA_lo _ (by omega) (by omega) (by omega)]
      exact cy
    · intro i i0 i1
      simp only [aI_aset, aI_aall, xK_3]
      rw [if_neg (by omega), if_neg (by omega)]
    · have h1 := RB.put (b := b) (e := 2) (v := aI S 3 (5 * c + 3)) (RB.kA h) b2 ⟨x0, x1⟩ (by omega) (by omega) a2 (fun _ => rfl) (fun _ => rfl)
      refine RB.put (b := c) (e := 2) (v := aI S 3 (5 * b + 3)) h1 b2 ⟨t0, t1⟩ (by omega) (by omega) a2 (fun j => ?_) (fun j => ?_)
      · simp only [aset_aput, aI_aput_s]
        grind
      · simp only [aI_aset, aI_aall, xK_3]
        grind
    · intro k hk
      simp only [aset_aput]
      funext j
      rw [aI_aput_n (by omega)]
    · simp only [aset_aput, aI_aput_s]
      rw [if_neg (by omega), if_neg (by omega)]
    · unfold w_M_swap
      refine p_isBone (by omega) (fun _ _ => br1 ?_) (fun c => absurd (by omega) c)
      refine p_isBone (by omega) (fun _ _ => br1 ?_) (fun c => absurd (by omega) c)
      refine p_boneAt (by omega) (fun _ => ⟨by omega, by omega, fun _ => p_boneAt (by omega) (fun _ => ⟨by omega, by omega, fun _ => ⟨fun _ => ?_, fun c2 => absurd (by omega) ne⟩⟩)⟩)
      refine p_keep (by omega) (p_boneAt (by omega) (fun _ => ⟨by omega, by omega, fun _ => ?_⟩))
      rintro _ rfl
      intro _
      refine p_boneAt (by omega) (fun _ => ⟨by omega, p_boneAt (by omega) (fun _ => ⟨by omega, by omega, fun _ => ⟨by omega, ?_⟩⟩)⟩)
      rintro _ rfl
      refine p_boneAt (by omega) (fun _ => ⟨by omega, by omega, ?_⟩)
      rintro _ rfl
      rw [aI_aput_s, aI_aput_s, k3, k4]
      exact hk
  · refine hK _ _ (Post.stay h rfl fun K' hk => ?_)
    unfold w_M_swap
    refine p_isBone (by omega) (fun _ _ => br1 ?_) (fun c => absurd (by omega) c)
    refine p_isBone (by omega) (fun _ _ => br1 ?_) (fun c => absurd (by omega) c)
    exact p_boneAt (by omega) (fun _ => ⟨by omega, by omega, fun _ => p_boneAt (by omega) (fun _ => ⟨by omega, by omega, fun _ => ⟨fun c2 => absurd (by omega) c2, fun _ => hk⟩⟩)⟩)
theorem pX_canLend {b t y : Int} {S T : St} {K : Int → Prop} (h : nowA S T) (h1 : 0 ≤ b → b < aI S 0 1 → 0 ≤ t → t < aI S 0 0 → 1 ≤ y → y ≤ 99 → aI S 3 90 + y ≤ 999 → aI S 3 (5 * b + 3) = aI S 3 (5 * b + 2) → aI S 3 (5 * b + 4) = -1 → aI S 3 (5 * b + 3) ≠ t → K 1)
    (h0 : ¬ (0 ≤ b ∧ b < aI S 0 1 ∧ 0 ≤ t ∧ t < aI S 0 0 ∧ 1 ≤ y ∧ y ≤ 99 ∧ aI S 3 90 + y ≤ 999 ∧ aI S 3 (5 * b + 3) = aI S 3 (5 * b + 2) ∧ aI S 3 (5 * b + 4) = -1 ∧ aI S 3 (5 * b + 3) ≠ t) → K 0) : w_X_canLend b t y S K := by
  obtain ⟨⟨a0, a1, a2⟩, ⟨b0, b1, b2⟩, cy, ⟨d0, d1, d2⟩, ⟨e0, e1, e2⟩, ⟨g0, g1, g2⟩, -⟩ := h.nums
  have ry := h.2.2.1.2.2.1
  unfold w_X_canLend
  refine pX_isBone (by omega) (fun x0 x1 => br1 ?_) (fun c => br0 (h0 (by omega)))
  refine pX_isTown (by omega) (fun t0 t1 => br1 ?_) (fun c => br0 (h0 (by omega)))
  refine p_in (fun y0 y1 => br1 ?_) (fun c => br0 (h0 (by omega)))
  refine pX_year (fun _ => ⟨by omega, fun c => h0 (by omega), fun c => ?_⟩)
  refine pX_bone_2 (by omega) (by omega) (fun _ => pX_bone_2 (by omega) (by omega) (fun _ => ⟨fun c2 => h0 (by omega), fun c2 => ?_⟩))
  refine pX_bone_2 (by omega) (by omega) (fun _ => ⟨fun c2 => h0 (by omega), fun c2 => ?_⟩)
  exact pX_bone_2 (by omega) (by omega) (fun _ => ⟨fun c2 => h0 (by omega), fun c2 => h1 (by omega) (by omega) (by omega) (by omega) (by omega) (by omega) (by omega) (by omega) (by omega) (by omega)⟩)
theorem pM_lend0 {b t y : Int} {S T : St} {K : Int → St → Prop} (h : nowA S T) (hc : ¬ (0 ≤ b ∧ b < aI S 0 1 ∧ 0 ≤ t ∧ t < aI S 0 0 ∧ 1 ≤ y ∧ y ≤ 99 ∧ aI S 3 90 + y ≤ 999 ∧ aI S 3 (5 * b + 3) = aI S 3 (5 * b + 2) ∧ aI S 3 (5 * b + 4) = -1 ∧ aI S 3 (5 * b + 3) ≠ t)) (hk : K (-1) T) : w_M_lend b t y T K := by
  obtain ⟨⟨a0, a1, a2⟩, ⟨b0, b1, b2⟩, cy, ⟨d0, d1, d2⟩, ⟨e0, e1, e2⟩, ⟨g0, g1, g2⟩, -⟩ := h.nums
  have ry := h.2.2.1.2.2.1
  unfold w_M_lend
  refine p_isBone (by omega) (fun x0 x1 => br1 ?_) (fun c => br0 hk)
  refine p_isTown (by omega) (fun t0 t1 => br1 ?_) (fun c => br0 hk)
  refine p_isIn (fun y0 y1 => br1 ?_) (fun c => br0 hk)
  have q2 := h.bone (e := 2) (b := b) (by omega) (by omega) (by omega) (by omega)
  have q3 := h.bone (e := 3) (b := b) (by omega) (by omega) (by omega) (by omega)
  have q4 := h.bone (e := 4) (b := b) (by omega) (by omega) (by omega) (by omega)
  have r4 := (h.2.2.1.2.2.2.1 b (by omega) (by omega)).2.2.2.2
  refine fun _ => ⟨by omega, fun c => ?_, fun c => hk⟩
  refine p_boneAt (by omega) (fun _ => ⟨by omega, by omega, fun _ => ⟨by omega, by omega, fun _ => ⟨fun _ => hk, fun c2 => ?_⟩⟩⟩)
  refine ⟨by omega, by omega, fun _ => ⟨fun _ => hk, fun c3 => ?_⟩⟩
  exact ⟨by omega, fun c4 => absurd (by omega) hc, fun _ => hk⟩
theorem rel_lends {S T : St} {b t y : Int} {K : Int → St → Prop} (h : nowA S T) (hK : ∀ r S', Post S T (fun r r' => (r = 1 ∧ 0 ≤ r' ∧ r' = aI S' 3 (5 * b + 4) ∧ 0 ≤ b ∧ b < 16) ∨ (r = 0 ∧ r' = -1)) (w_M_lend b t y T) r S' → K r S') : w_X_lends b t y S K := by
  obtain ⟨⟨a0, a1, a2⟩, ⟨b0, b1, b2⟩, cy, ⟨d0, d1, d2⟩, ⟨e0, e1, e2⟩, ⟨g0, g1, g2⟩, -⟩ := h.nums
  have ry := h.2.2.1.2.2.1
  unfold w_X_lends
  refine pX_canLend h (fun x0 x1 t0 t1 y0 y1 c1 c2 c3 c4 => ?_) (fun c _ => ⟨fun n => absurd rfl n, fun _ => hK _ _ (Post.stay (r' := -1) h (Or.inr ⟨rfl, rfl⟩) fun K' hk => pM_lend0 h c hk)⟩)
  refine fun _ => ⟨fun _ => ?_, fun c => absurd c (by decide)⟩
  have q2 := h.bone (e := 2) (b := b) (by omega) (by omega) (by omega) (by omega)
  have q3 := h.bone (e := 3) (b := b) (by omega) (by omega) (by omega) (by omega)
  have q4 := h.bone (e := 4) (b := b) (by omega) (by omega) (by omega) (by omega)
  refine p_keeps (by omega) (pX_puts (by omega) (by omega) (pX_year (fun _ => ?_)))
  have yr : aI (aset (aall S (xK (aI S))) 3 (5 * b + 3) t) 3 90 = aI S 3 90 := by
    simp only [aI_aset, aI_aall, xK_3]
    rw [if_neg (by omega)]
  rw [yr]
  refine ⟨by omega, pX_puts (by omega) (by omega) ?_⟩
  have hX : ∀ k j, k ≠ 3 → aI (aset (aset (aall S (xK (aI S))) 3 (5 * b + 3) t) 3 (5 * b + 4) (aI S 3 90 + y)) k j = xK (aI S) k j := by
    intro k j hk
    simp only [aI_aset, aI_aall]
    rw [if_neg (by omega), if_neg (by omega)]
  refine hK _ _ ⟨aI S 3 90 + y, aset (aset (aput T 0 (kA (aI T 0))) 0 (30 + 6 * b + 3) t) 0 (30 + 6 * b + 4) (aI S 3 90 + y), Or.inl ⟨rfl, by omega, ?_, by omega, by omega⟩, h.step hX ?_ ?_ ?_ ?_, sameX.step (by omega) rfl rfl rfl hX, sameM.step (by omega) rfl ?_ ?_, fun K' hk => ?_⟩
  · rw [aI_aset_s]
  · intro j _ hj
    simp only [aset_aput, aI_aput_s]
    rw [if_neg (by omega), if_neg (by omega)]
  · simp only [aset_aput, aI_aput_s, aI_aset, aI_aall, xK_3]
    rw [if_neg (by omega), if_neg (by omega), if_neg (by omega), if_neg (by omega), kA_lo _ (by omega) (by omega) (by omega)]
    exact cy
  · intro i i0 i1
    simp only [aI_aset, aI_aall, xK_3]
    rw [if_neg (by omega), if_neg (by omega)]
  · have h1 := RB.put (b := b) (e := 2) (v := t) (RB.kA h) b2 ⟨x0, x1⟩ (by omega) (by omega) a2 (fun _ => rfl) (fun _ => rfl)
    refine RB.put (b := b) (e := 3) (v := aI S 3 90 + y) h1 b2 ⟨x0, x1⟩ (by omega) (by omega) a2 (fun j => ?_) (fun j => ?_)
    · simp only [aset_aput, aI_aput_s]
      grind
    · simp only [aI_aset, aI_aall, xK_3]
      grind
  · intro k hk
    simp only [aset_aput]
    funext j
    rw [aI_aput_n (by omega)]
  · simp only [aset_aput, aI_aput_s]
    rw [if_neg (by omega), if_neg (by omega)]
  · unfold w_M_lend
    refine p_isBone (by omega) (fun _ _ => br1 ?_) (fun c => absurd (by omega) c)
    refine p_isTown (by omega) (fun _ _ => br1 ?_) (fun c => absurd (by omega) c)
    refine p_isIn (fun _ _ => br1 ?_) (fun c => absurd (by omega) c)
    refine fun _ => ⟨by omega, fun _ => ?_, fun c => absurd (by omega) c⟩
    refine p_boneAt (by omega) (fun _ => ⟨by omega, by omega, fun _ => ⟨by omega, by omega, fun _ => ⟨fun c => absurd (by omega) c, fun _ => ?_⟩⟩⟩)
    refine ⟨by omega, by omega, fun _ => ⟨fun c => by omega, fun _ => ?_⟩⟩
    refine ⟨by omega, fun _ => ?_, fun c => absurd (by omega) c4⟩
    refine p_keep (by omega) ⟨by omega, ?_⟩
    rintro _ rfl
    have y2 : aI (aset (aput T 0 (kA (aI T 0))) 0 (30 + 6 * b + 3) t) 0 2 = aI S 3 90 := by
      rw [aI_aset_i (by omega), aI_aput_s, kA_lo _ (by omega) (by omega) (by omega)]
      exact cy
    rw [y2]
    refine fun _ => ⟨by omega, by omega, ?_⟩
    rintro _ rfl
    rw [aI_aset_s]
    exact ⟨by omega, fun _ => hk⟩
