/-! PURE: seen; burn -/
theorem br1r {A B : Prop} (h : B) : ((1 : Int) = 0 ∨ (1 : Int) = 1) → ((¬ (1 : Int) = 0 → B) ∧ ((1 : Int) = 0 → A)) := fun _ => ⟨fun _ => h, fun h => absurd h (by decide)⟩
theorem br0r {A B : Prop} (h : A) : ((0 : Int) = 0 ∨ (0 : Int) = 1) → ((¬ (0 : Int) = 0 → B) ∧ ((0 : Int) = 0 → A)) := fun _ => ⟨fun h => absurd rfl h, fun _ => h⟩
theorem RA.seen {f f' n n' x y r : Int → Int} {st se se' : Int → Int → Int} {v : Int → Int} (h : RA f n x y r st se) (h12 : n 5 < 12) (v0 : 0 ≤ v 0 ∧ v 0 < n 0) (v1 : 0 ≤ v 1 ∧ v 1 ≤ 19) (v2 : 1 ≤ v 2 ∧ v 2 ≤ 999) (v3 : 0 ≤ v 3 ∧ v 3 ≤ 999)
    (hf : ∀ j, f' j = if j = 6 then n 5 + 1 else if 126 + 4 * n 5 ≤ j ∧ j < 130 + 4 * n 5 then v (j - (126 + 4 * n 5)) else f j) (hn : ∀ j, n' j = if j = 5 then n 5 + 1 else n j)
    (hs : ∀ i j, 0 ≤ i → i < 12 → 0 ≤ j → j < 4 → se' i j = if i = n 5 then v j else se i j) : RA f' n' x y r st se' := by
  obtain ⟨hN, hT, hB, hS, hE⟩ := h
  obtain ⟨⟨a0, a1, a2⟩, ⟨b0, b1, b2⟩, cy, ⟨d0, d1, d2⟩, ⟨e0, e1, e2⟩, ⟨g0, g1, g2⟩, ⟨i0, i1, i2⟩, ⟨j0, j1, j2⟩, ⟨k0, k1, k2⟩⟩ := hN
  have nn : ∀ j, j ≠ 5 → n' j = n j := fun j hj => by rw [hn, if_neg hj]
  have n5 : n' 5 = n 5 + 1 := by rw [hn, if_pos rfl]
  have fo : ∀ j, j ≠ 6 → (j < 126 + 4 * n 5 ∨ 130 + 4 * n 5 ≤ j) → f' j = f j := fun j h1 h2 => by rw [hf, if_neg h1, if_neg (by omega)]
  refine ⟨?_, hT.congr a2 (nn 0 (by omega)) (fun j _ _ => fo j (by omega) (by omega)) (fun _ _ _ => rfl) (fun _ _ _ => rfl), hB.congr a2 b2 (nn 0 (by omega)) (nn 1 (by omega)) (fun j _ _ => fo j (by omega) (by omega)) (fun _ _ _ => rfl), fun k p0 p1 => ?_, fun i p0 p1 => ?_⟩
  · unfold RN
    rw [n5, nn 0 (by omega), nn 1 (by omega), nn 2 (by omega), nn 3 (by omega), nn 4 (by omega), nn 6 (by omega), nn 7 (by omega), fo 0 (by omega) (by omega), fo 1 (by omega) (by omega), fo 2 (by omega) (by omega), fo 3 (by omega) (by omega), fo 4 (by omega) (by omega), fo 5 (by omega) (by omega), fo 7 (by omega) (by omega), fo 8 (by omega) (by omega)]
    refine ⟨⟨a0, a1, a2⟩, ⟨b0, b1, b2⟩, cy, ⟨d0, d1, d2⟩, ⟨e0, e1, e2⟩, ⟨g0, g1, g2⟩, ⟨?_, by omega, by omega⟩, ⟨j0, j1, j2⟩, ⟨k0, k1, k2⟩⟩
    rw [hf, if_pos rfl]
  · rw [nn 4 (by omega)] at p1 ⊢
    exact (hS k p0 p1).congr a2 b2 (nn 0 (by omega)) (nn 1 (by omega)) (fun j _ _ => fo _ (by omega) (by omega)) (fun _ _ _ => rfl) (fun _ _ _ => rfl) (fun _ _ _ => rfl)
  · rw [n5] at p1
    rw [nn 0 (by omega), hs i 0 p0 (by omega) (by omega) (by omega), hs i 1 p0 (by omega) (by omega) (by omega), hs i 2 p0 (by omega) (by omega) (by omega), hs i 3 p0 (by omega) (by omega) (by omega)]
    by_cases c : i = n 5
    · rw [if_pos c, if_pos c, if_pos c, if_pos c]
      refine ⟨fun j q0 q1 => ?_, v0, v1, v2, v3⟩
      rw [hf, if_neg (by omega), if_pos (by omega), hs i j p0 (by omega) q0 q1, if_pos c]
      congr 1
      omega
    · rw [if_neg c, if_neg c, if_neg c, if_neg c]
      obtain ⟨z1, z2⟩ := hE i p0 (by omega)
      refine ⟨fun j q0 q1 => ?_, z2⟩
      rw [fo _ (by omega) (by omega), hs i j p0 (by omega) q0 q1, if_neg c]
      exact z1 j q0 q1
theorem pM_seen0 {T : St} {t kd wt ye : Int} {K : Int → St → Prop} (ht : 0 ≤ aI T 0 0 ∧ aI T 0 0 ≤ 10) (hb : 0 ≤ aI T 0 6 ∧ aI T 0 6 ≤ 12) (hc : ¬ ((0 ≤ t ∧ t < aI T 0 0) ∧ (0 ≤ kd ∧ kd ≤ 19) ∧ (1 ≤ wt ∧ wt ≤ 999) ∧ (0 ≤ ye ∧ ye ≤ 999) ∧ aI T 0 6 < 12)) (hk : K (-1) T) : w_M_seen t kd wt ye T K := by
  unfold w_M_seen
  refine p_isTown ht (fun _ _ => br1 ?_) (fun _ => br0 hk)
  refine p_isIn (fun _ _ => br1 ?_) (fun _ => br0 hk)
  refine p_isIn (fun _ _ => br1 ?_) (fun _ => br0 hk)
  refine p_isIn (fun _ _ => br1 ?_) (fun _ => br0 hk)
  exact fun _ => ⟨fun c => absurd (by omega) hc, fun _ => hk⟩
theorem rel_seen {S T : St} {t kd wt ye : Int} {K : Int → St → Prop} (h : nowA S T) (hK : ∀ r S', Post S T Eq (w_M_seen t kd wt ye T) r S' → K r S') : w_X_seen t kd wt ye S K := by
  have hN := h.nums
  obtain ⟨⟨a0, a1, a2⟩, ⟨b0, b1, b2⟩, cy, ⟨d0, d1, d2⟩, ⟨e0, e1, e2⟩, ⟨g0, g1, g2⟩, ⟨i0, i1, i2⟩, -⟩ := h.nums
  have no : ¬ ((0 ≤ t ∧ t < aI T 0 0) ∧ (0 ≤ kd ∧ kd ≤ 19) ∧ (1 ≤ wt ∧ wt ≤ 999) ∧ (0 ≤ ye ∧ ye ≤ 999) ∧ aI T 0 6 < 12) → K (-1) S := fun hc => hK _ _ (Post.stay (r' := -1) h rfl fun K' hk => pM_seen0 (by omega) (by omega) hc hk)
  unfold w_X_seen
  refine pX_isTown (by omega) (fun t0 t1 => br1 ?_) (fun c => br0 (no (by omega)))
  refine p_in (fun x0 x1 => br1 ?_) (fun c => br0 (no (by omega)))
  refine p_in (fun y0 y1 => br1 ?_) (fun c => br0 (no (by omega)))
  refine p_in (fun z0 z1 => br1 ?_) (fun c => br0 (no (by omega)))
  refine fun _ => ⟨fun c16 => ?_, fun c => no (by omega)⟩
  rintro q _ hq rfl
  refine ⟨4, _, gI_gset_s _ _ _, by omega, ?_⟩
  rintro _ rfl
  rw [gset_gset]
  refine ⟨4, _, gI_gset_s _ _ _, by omega, ?_⟩
  rintro _ rfl
  rw [gset_gset]
  refine ⟨4, _, gI_gset_s _ _ _, by omega, ?_⟩
  rintro _ rfl
  rw [gset_gset]
  refine ⟨4, _, gI_gset_s _ _ _, by omega, ?_⟩
  rintro _ rfl
  rw [gset_gset, aI_gset]
  refine fun _ => ⟨by omega, ?_⟩
  obtain ⟨v, hv⟩ : ∃ v : Int → Int, v = fun y => if y = 3 then ye else if y = 2 then wt else if y = 1 then kd else if y = 0 then t else 0 := ⟨_, rfl⟩
  show w_X1_copy_q (55 + Int.toNat (aI S 0 5)) 4 q (gset S q (.inl (0, 4, fun y => if y = 3 then ye else if y = 2 then wt else if y = 1 then kd else if y = 0 then t else 0))) _
  rw [← hv]
  have hg := gI_gset_s S q (.inl (0, 4, v))
  refine ⟨4, v, hg, fun _ => ⟨4, v, hg, by omega, ?_⟩⟩
  rintro _ rfl
  have e5 : aI (pcpy (gset S q (Sum.inl (0, 4, v))) v 0 (55 + Int.toNat (aI S 0 5)) 0 ((4 : Nat) : Int)) 0 5 = aI S 0 5 := by
    rw [aI_pcpy, if_neg (by omega), aI_gset]
  rw [e5]
  refine fun _ => ⟨by omega, ?_⟩
  rintro _ rfl
  rw [aI_aset_s]
  refine fun _ => ⟨by omega, ?_⟩
  have v0 : v 0 = t := by rw [hv]; rfl
  have v1 : v 1 = kd := by rw [hv]; rfl
  have v2 : v 2 = wt := by rw [hv]; rfl
  have v3 : v 3 = ye := by rw [hv]; rfl
  refine hK _ _ ⟨aI T 0 6, aset (aset (aset (aset (aset T 0 (126 + 4 * aI T 0 6) t) 0 (126 + 4 * aI T 0 6 + 1) kd) 0 (126 + 4 * aI T 0 6 + 2) wt) 0 (126 + 4 * aI T 0 6 + 3) ye) 0 6 (aI T 0 6 + 1), by omega, ?_, ?_, ?_, fun K' hk => ?_⟩
  · unfold nowA
    refine RA.eqr (RA.seen h (v := v) (n' := aI (aset (pcpy (gset S q (Sum.inl (0, 4, v))) v 0 (55 + Int.toNat (aI S 0 5)) 0 ((4 : Nat) : Int)) 0 5 (aI S 0 5 + 1)) 0) (se' := fun k => aI (aset (pcpy (gset S q (Sum.inl (0, 4, v))) v 0 (55 + Int.toNat (aI S 0 5)) 0 ((4 : Nat) : Int)) 0 5 (aI S 0 5 + 1)) (55 + k.toNat)) (by omega) (by omega) (by omega) (by omega) (by omega) ?_ ?_ ?_) ?_ ?_ ?_ ?_ ?_ ?_ ?_ ?_ ?_
    · intro j
      simp only [aI_aset, true_and]
      rw [i0]
      by_cases c1 : j = 6
      · rw [if_pos c1, if_pos c1]
      · rw [if_neg c1, if_neg c1]
        by_cases c2 : 126 + 4 * aI S 0 5 ≤ j ∧ j < 130 + 4 * aI S 0 5
        · rw [if_pos c2]
          have : j - (126 + 4 * aI S 0 5) = 0 ∨ j - (126 + 4 * aI S 0 5) = 1 ∨ j - (126 + 4 * aI S 0 5) = 2 ∨ j - (126 + 4 * aI S 0 5) = 3 := by omega
          rcases this with z | z | z | z
          · rw [z, v0, if_neg (by omega), if_neg (by omega), if_neg (by omega), if_pos (by omega)]
          · rw [z, v1, if_neg (by omega), if_neg (by omega), if_pos (by omega)]
          · rw [z, v2, if_neg (by omega), if_pos (by omega)]
          · rw [z, v3, if_pos (by omega)]
        · rw [if_neg c2, if_neg (by omega), if_neg (by omega), if_neg (by omega), if_neg (by omega)]
    · intro j
      rw [aI_aset]
      by_cases c : j = 5
      · rw [if_pos ⟨rfl, c⟩, if_pos c]
      · rw [if_neg (by omega), if_neg c, aI_pcpy, if_neg (by omega), aI_gset]
    · intro i j q0 q1 q2 q3
      rw [aI_aset, if_neg (by omega), aI_pcpy, aI_gset]
      by_cases c : i = aI S 0 5
      · rw [if_pos (by omega), if_pos c, show 0 + (j - 0) = j by omega]
      · rw [if_neg (by omega), if_neg c]
    · rw [aI_aset, if_neg (by omega), aI_pcpy, if_neg (by omega), aI_gset]
      omega
    · rw [aI_aset, if_neg (by omega), aI_pcpy, if_neg (by omega), aI_gset]
      omega
    · rw [aI_aset, if_neg (by omega), aI_pcpy, if_neg (by omega), aI_gset]
      omega
    · rw [aI_aset, if_pos ⟨rfl, rfl⟩]
      omega
    · intro j _ _
      rw [aI_aset, if_neg (by omega), aI_pcpy, if_neg (by omega), aI_gset]
    · intro j _ _
      rw [aI_aset, if_neg (by omega), aI_pcpy, if_neg (by omega), aI_gset]
    · intro j _ _
      rw [aI_aset, if_neg (by omega), aI_pcpy, if_neg (by omega), aI_gset]
    · intro k j _ _ _ _
      rw [aI_aset, if_neg (by omega), aI_pcpy, if_neg (by omega), aI_gset]
    · intro k j _ _ _ _
      rfl
  · refine ⟨fun _ _ _ => rfl, rfl, fun a e z => ?_, fun k hk => ?_, ?_⟩
    · show gI (gset S q _) a = some e
      rw [gI_gset]
      by_cases ca : a = q
      · subst ca
        rw [hq] at z
        exact absurd z (by simp)
      · rw [if_neg ca]
        exact z
    · funext j
      rw [aI_aset, if_neg (by omega), aI_pcpy, if_neg (by omega), aI_gset]
    · rw [aI_aset, if_neg (by omega), aI_pcpy, if_neg (by omega), aI_gset]
  · refine ⟨fun _ _ _ => rfl, fun k _ _ => ?_, ?_⟩
    · funext j
      simp only [aI_aset]
      grind
    · simp only [aI_aset]
      grind
  · unfold w_M_seen
    refine p_isTown (by omega) (fun _ _ => br1 ?_) (fun c => absurd (by omega) c)
    refine p_isIn (fun _ _ => br1 ?_) (fun c => absurd (by omega) c)
    refine p_isIn (fun _ _ => br1 ?_) (fun c => absurd (by omega) c)
    refine p_isIn (fun _ _ => br1 ?_) (fun c => absurd (by omega) c)
    refine fun _ => ⟨fun _ => ⟨by omega, by omega, ?_⟩, fun c => absurd c (by omega)⟩
    rintro _ rfl
    refine fun _ => ⟨by omega, ?_⟩
    rintro _ rfl
    refine ⟨by omega, by omega, ?_⟩
    rintro _ rfl
    refine ⟨by omega, by omega, ?_⟩
    rintro _ rfl
    refine ⟨by omega, by omega, ?_⟩
    rintro _ rfl
    simp (disch := omega) only [aI_aset_i, aI_aset_s]
    refine fun _ => ⟨by omega, ?_⟩
    rintro _ rfl
    rw [aI_aset_s]
    refine fun _ => ⟨by omega, ?_⟩
    rw [show aI T 0 6 + 1 - 1 = aI T 0 6 by omega]
    exact hk
/-! burn -/
theorem RB.burn {f f' n r r' : Int → Int} {t : Int} (h : RB f n r) (h1 : 0 ≤ n 1 ∧ n 1 ≤ 16) (ht : 0 ≤ t ∧ t < n 0) (h0 : n 0 ≤ 10)
    (hf : ∀ j, ¬ (∃ b, 0 ≤ b ∧ b < n 1 ∧ j = 35 + 6 * b) → f' j = f j) (hb : ∀ b, 0 ≤ b → b < n 1 → f' (35 + 6 * b) = iAnd (f (35 + 6 * b)) (iXor (1 * 2 ^ t.toNat) (-1))) (hr : ∀ j, r' j = if j = 80 + t then 0 else r j) : RB f' n r' := by
  obtain ⟨c1, c2, c3, c4, c5⟩ := h
  have p0 : (2 : Int) ^ (n 0).toNat ≤ 65536 := p2_mono (n := 16) (by omega)
  have lo : ∀ j, 0 ≤ j → j < 80 → r' j = r j := fun j _ _ => by rw [hr, if_neg (by omega)]
  have e5 : ∀ k : Int, 31 + 6 * k + 4 = 35 + 6 * k := fun k => by omega
  refine ⟨fun i i0 i1 => ?_, fun i i0 i1 => ?_, ?_, fun i i0 i1 => ?_, fun u u0 u1 => ?_⟩
  · rw [hf _ (fun ⟨b, q⟩ => by omega), hr, if_neg (by omega)]
    exact c1 i i0 i1
  · obtain ⟨d1, d2, d3, d4⟩ := c2 i i0 i1
    dsimp only at d2 d3 d4
    rw [e5] at d2 d3
    have hb' := hb i i0 i1
    have cl := clr_lt (t := t) ⟨d2, d3⟩ (by omega) (by omega)
    refine ⟨fun g g0 g1 => ?_, ?_, ?_, fun u u0 u1 => ?_⟩
    · show f' (31 + 6 * i + g) = _
      rw [hf _ (fun ⟨b, q⟩ => by omega), lo _ (by omega) (by omega)]
      exact d1 g g0 g1
    · show 0 ≤ f' (31 + 6 * i + 4)
      rw [e5, hb']
      exact cl.1
    · show f' (31 + 6 * i + 4) < _
      rw [e5, hb']
      exact cl.2
    · show bt (f' (31 + 6 * i + 4)) u = _
      have d4' := d4 u u0 u1
      rw [e5] at d4'
      rw [e5, hb', bt_clr (by omega) (by omega) u0, hr]
      by_cases c : u = t
      · rw [if_pos c, if_pos (by omega), bt_zero]
      · rw [if_neg c, if_neg (by omega)]
        exact d4'
  · rw [hr, if_neg (by omega)]
    exact c3
  · rw [lo _ (by omega) (by omega), lo _ (by omega) (by omega), lo _ (by omega) (by omega), lo _ (by omega) (by omega), lo _ (by omega) (by omega)]
    exact c4 i i0 i1
  · obtain ⟨k1, k2, k3⟩ := c5 u u0 u1
    rw [hr]
    by_cases c : u = t
    · rw [if_pos (by omega)]
      exact ⟨Int.le_refl 0, Int.pow_pos (by decide), fun _ => rfl⟩
    · rw [if_neg (by omega)]
      exact ⟨k1, k2, k3⟩
/-- the twin burns from bone b on -/
def bRec (f : Int → Int) (t b n1 : Int) : Int → Int := fun y => if 35 + 6 * b ≤ y ∧ y < 35 + 6 * n1 ∧ (y - 35) % 6 = 0 then iAnd (f y) (iXor (1 * 2 ^ t.toNat) (-1)) else f y
theorem p_burn_in {S : St} {K : Int → St → Prop} {t r n1 : Int} (ht : 0 ≤ t ∧ t < 16) (h1 : 0 ≤ n1 ∧ n1 ≤ 16) : ∀ (n : Nat) (b : Int) (f : Int → Int), 0 ≤ b → b ≤ n1 → n1 - b < n → f 1 = n1 →
    K r (aput S 0 (bRec f t b n1)) → l_M_burn_22 t r K n b (aput S 0 f) := by
  intro n
  induction n with
  | zero => intro b f h1 h2 h3; omega
  | succ n ih =>
    intro b f h2 h3 h4 hf hX
    have pt : (2 : Int) ^ t.toNat ≤ 65536 := p2_mono (n := 16) (by omega)
    have pt0 : (0 : Int) < 2 ^ t.toNat := Int.pow_pos (by decide)
    unfold l_M_burn_22
    rw [aI_aput_s, hf]
    refine fun _ => ⟨fun c => ?_, fun c => p_boneAt (by omega) (fun _ => ⟨by omega, by omega, fun _ => ⟨by omega, by omega, by omega, ?_⟩⟩)⟩
    · refine cast (congrArg (fun g => K r (aput S 0 g)) ?_) hX
      funext y
      unfold bRec
      rw [if_neg (by omega)]
    · rintro _ rfl
      rw [aset_aput, aI_aput_s]
      refine ⟨by omega, ih (b + 1) _ (by omega) (by omega) (by omega) ?_ ?_⟩
      · rw [if_neg (by omega)]
        exact hf
      · refine cast (congrArg (fun g => K r (aput S 0 g)) ?_) hX
        funext y
        unfold bRec
        dsimp only
        by_cases c1 : y = 30 + 6 * b + 5
        · rw [if_pos (by omega), if_neg (by omega), if_pos c1, c1]
        · by_cases c2 : 35 + 6 * (b + 1) ≤ y ∧ y < 35 + 6 * n1 ∧ (y - 35) % 6 = 0
          · rw [if_pos (by omega), if_pos c2, if_neg c1]
          · rw [if_neg (by omega), if_neg c2, if_neg c1]
theorem rel_burn {S T : St} {t : Int} {K : Int → St → Prop} (h : nowA S T) (hK : ∀ r S', Post S T (fun r r' => r = r' ∧ (r = -1 ∨ 0 ≤ r ∧ r ≤ 16)) (w_M_burn t T) r S' → K r S') : w_X_burn t S K := by
  have hN := h.nums
  obtain ⟨⟨a0, a1, a2⟩, ⟨b0, b1, b2⟩, cy, ⟨d0, d1, d2⟩, ⟨e0, e1, e2⟩, ⟨g0, g1, g2⟩, ⟨i0, i1, i2⟩, -⟩ := h.nums
  unfold w_X_burn
  refine pX_isTown (by omega) (fun t0 t1 => br1r ?_) (fun c => br0r (hK _ _ (Post.stay (r' := -1) h ⟨rfl, Or.inl rfl⟩ fun K' hk => by
    unfold w_M_burn
    exact p_isTown (by omega) (fun _ _ => absurd (by omega) c) (fun _ => br0r hk))))
  refine p_keeps (by omega) ⟨by omega, by omega, fun _ => ?_⟩
  rw [aI_aall, xK_3]
  have rt := h.2.2.1.2.2.2.2 t t0 (by omega)
  have p1 : (2 : Int) ^ (aI S 0 1).toNat ≤ 65536 := p2_mono (n := 16) (by omega)
  have bd := ssum_bd (g := bt (aI S 3 (80 + t))) 16 (fun i _ _ => bt_bd _ _)
  refine p_bitCount (by omega) (fun _ => ⟨by omega, ?_⟩)
  rintro _ rfl
  have hX : ∀ k j, k ≠ 3 → aI (aset (aall S (xK (aI S))) 3 (80 + t) 0) k j = xK (aI S) k j := by
    intro k j hk
    rw [aI_aset, aI_aall, if_neg (by omega)]
  have e1 : kA (aI T 0) 1 = aI S 0 1 := by rw [kA_lo _ (by omega) (by omega) (by omega)]; exact b0
  refine hK _ _ ⟨_, aput T 0 (bRec (kA (aI T 0)) t 0 (aI S 0 1)), ⟨rfl, Or.inr bd⟩, h.step hX ?_ ?_ ?_ ?_, sameX.step (by omega) rfl rfl rfl hX, sameM.step (by omega) rfl ?_ ?_, fun K' hk => ?_⟩
  · intro j _ hj
    rw [aI_aput_s]
    unfold bRec
    rw [if_neg (by omega)]
  · rw [aI_aput_s, aI_aset, aI_aall, xK_3]
    unfold bRec
    rw [if_neg (by omega), if_neg (by omega), kA_lo _ (by omega) (by omega) (by omega)]
    exact cy
  · intro i i0 i1
    rw [aI_aset, aI_aall, xK_3, if_neg (by omega)]
  · refine RB.burn (t := t) (RB.kA h) ⟨b1, b2⟩ ⟨t0, t1⟩ a2 ?_ ?_ ?_
    · intro j hj
      rw [aI_aput_s]
      unfold bRec
      rw [if_neg (fun q => hj ⟨(j - 35) / 6, by omega⟩)]
    · intro b q0 q1
      rw [aI_aput_s]
      unfold bRec
      rw [if_pos (by omega)]
    · intro j
      rw [aI_aset, aI_aall, xK_3]
      by_cases c : j = 80 + t
      · rw [if_pos ⟨rfl, c⟩, if_pos c]
      · rw [if_neg (by omega), if_neg c]
  · intro k hk
    funext j
    rw [aI_aput_n (by omega)]
  · rw [aI_aput_s]
    unfold bRec
    rw [if_neg (by omega)]
  · unfold w_M_burn
    refine p_isTown (by omega) (fun _ _ => br1r ?_) (fun c => absurd (by omega) c)
    refine p_keep (by omega) ?_
    refine p_proofsOf (by omega) (by rw [aI_aput_s, e1]; omega) (fun _ => ?_)
    rw [aI_aput_s, e1]
    have ec : ssum (fun b => bt (kA (aI T 0) (35 + 6 * b)) t) (aI S 0 1).toNat = ssum (bt (aI S 3 (80 + t))) 16 := by
      rw [h.countT t0 t1, b0]
      refine ssum_congr _ (fun b q0 q1 => ?_)
      rw [kA_lo _ (by omega) (by omega) (by omega)]
    simp only [aI_aput_s]
    rw [ec]
    exact ⟨17, p_burn_in (by omega) ⟨b1, b2⟩ 17 0 _ (by omega) (by omega) (by omega) e1 hk⟩
