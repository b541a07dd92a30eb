/-! PURE: prove -/
theorem rel_prove {S T : St} {t b : Int} {K : Int → St → Prop} (h : nowA S T) (hK : ∀ r S', Post S T Eq (w_M_prove t b T) r S' → K r S') : w_X_prove t b S K := by
  obtain ⟨⟨a0, a1, a2⟩, ⟨b0, b1, b2⟩, cy, ⟨d0, d1, d2⟩, ⟨e0, e1, e2⟩, ⟨g0, g1, g2⟩, -⟩ := h.nums
  unfold w_X_prove
  refine pX_isTown (by omega) (fun t0 t1 => br1 ?_) (fun c => br0 (hK _ _ (Post.stay h rfl fun K' hk => by
    unfold w_M_prove
    exact p_isTown (by omega) (fun _ _ => absurd (by omega) c) (fun _ => br0 hk))))
  refine pX_isBone (by omega) (fun x0 x1 => br1 ?_) (fun c => br0 (hK _ _ (Post.stay h rfl fun K' hk => by
    unfold w_M_prove
    exact p_isTown (by omega) (fun _ _ => br1 (p_isBone (by omega) (fun _ _ => absurd (by omega) c) (fun _ => br0 hk))) (fun _ => br0 hk))))
  obtain ⟨z1, z2, z3, z4⟩ := h.2.2.1.2.1 b x0 x1
  have z5 := z4 t t0 t1
  have e5 : 31 + 6 * b + 4 = 30 + 6 * b + 5 := by omega
  dsimp only at z2 z3 z5
  rw [e5] at z2 z3 z5
  have p0 : (2 : Int) ^ (aI S 0 0).toNat ≤ 65536 := p2_mono (n := 16) (by omega)
  have p1 : (2 : Int) ^ (aI S 0 1).toNat ≤ 65536 := p2_mono (n := 16) (by omega)
  have pt : (2 : Int) ^ t.toNat ≤ 65536 := p2_mono (n := 16) (by omega)
  have pb : (2 : Int) ^ b.toNat ≤ 65536 := p2_mono (n := 16) (by omega)
  have pt0 : (0 : Int) < 2 ^ t.toNat := Int.pow_pos (by decide)
  have pb0 : (0 : Int) < 2 ^ b.toNat := Int.pow_pos (by decide)
  unfold w_X_hasProof
  refine ⟨by omega, by omega, fun _ => ⟨by omega, fun c _ => ⟨fun _ => ?_, fun n => absurd rfl n⟩, fun c _ => ⟨fun n => absurd n (by decide), fun _ => ?_⟩⟩⟩
  · rw [bt_eq, ← z5] at c
    refine p_keeps (by omega) ⟨by omega, by omega, fun _ => ⟨by omega, by omega, by omega, ?_⟩⟩
    rintro _ rfl
    rw [aI_aall, xK_3]
    have hX : ∀ k j, k ≠ 3 → aI (aset (aall S (xK (aI S))) 3 (80 + t) (iOr (aI S 3 (80 + t)) (1 * 2 ^ b.toNat))) k j = xK (aI S) k j := by
      intro k j hk
      simp only [aI_aset, aI_aall]
      rw [if_neg (by omega)]
    refine hK _ _ ⟨1, aset (aput T 0 (kA (aI T 0))) 0 (30 + 6 * b + 5) (iOr (kA (aI T 0) (30 + 6 * b + 5)) (1 * 2 ^ t.toNat)), rfl, h.step hX ?_ ?_ ?_ ?_, sameX.step (by omega) rfl rfl rfl hX, sameM.step (by omega) rfl ?_ ?_, fun K' hk => ?_⟩
    · intro j _ hj
      simp only [aset_aput, aI_aput_s]
      rw [if_neg (by omega)]
    · simp only [aset_aput, aI_aput_s, aI_aset, aI_aall, xK_3]
      rw [if_neg (by omega), if_neg (by omega), kA_lo _ (by omega) (by omega) (by omega)]
      exact cy
    · intro i i0 i1
      simp only [aI_aset, aI_aall, xK_3]
      rw [if_neg (by omega)]
    · refine RB.prove (b := b) (t := t) (RB.kA h) b2 ⟨x0, x1⟩ ⟨t0, t1⟩ a2 (fun j => ?_) (fun j => ?_)
      · simp only [aset_aput, aI_aput_s]
        rw [show 30 + 6 * b + 5 = 35 + 6 * b by omega]
      · simp only [aI_aset, aI_aall, xK_3]
        grind
    · intro k hk
      simp only [aset_aput]
      funext j
      rw [aI_aput_n (by omega)]
    · simp only [aset_aput, aI_aput_s]
      rw [if_neg (by omega)]
    · unfold w_M_prove
      refine p_isTown (by omega) (fun _ _ => br1 ?_) (fun c => absurd (by omega) c)
      refine p_isBone (by omega) (fun _ _ => br1 ?_) (fun c => absurd (by omega) c)
      refine p_boneAt (by omega) (fun _ => ⟨by omega, by omega, fun _ => ⟨by omega, fun _ => ?_, fun c2 => absurd c2 c⟩⟩)
      refine p_keep (by omega) (p_boneAt (by omega) (fun _ => ⟨by omega, by omega, fun _ => ⟨by omega, by omega, by omega, ?_⟩⟩))
      rintro _ rfl
      rw [aI_aput_s]
      exact hk
  · rw [bt_eq, ← z5] at c
    refine hK _ _ (Post.stay h rfl fun K' hk => ?_)
    unfold w_M_prove
    refine p_isTown (by omega) (fun _ _ => br1 ?_) (fun c => absurd (by omega) c)
    refine p_isBone (by omega) (fun _ _ => br1 ?_) (fun c => absurd (by omega) c)
    exact p_boneAt (by omega) (fun _ => ⟨by omega, by omega, fun _ => ⟨by omega, fun c2 => absurd c c2, fun _ => hk⟩⟩)
