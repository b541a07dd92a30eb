/-! PURE: histories: the twin's table -/
def hMT (S0 T0 T' : St) (sm : Int → Int → Int) (N : Nat) (r : Nat) (m : Int) : Prop := (∀ k, k ≠ 12 → k ≠ 13 → k ≠ 14 → aI T' k = aI T0 k) ∧ fI T' = fI T0 ∧ (∀ j i : Int, 0 ≤ j → j < (N : Int) → 0 ≤ i → i < (N : Int) → aI T' 14 (12 * j + i) = sm j i) ∧
  (∀ q, q ≤ r → ∀ mask, 0 ≤ mask → mask < 2 ^ N → aI T' 12 (4096 * ((N - q : Nat) : Int) + mask) = hQ q (hF sm (fun a => aI S0 (55 + a.toNat) 0) N q mask) ∧ aI T' 13 (4096 * ((N - q : Nat) : Int) + mask) = (hF sm (fun a => aI S0 (55 + a.toNat) 0) N q mask).2.2) ∧
  (∀ mask, 0 ≤ mask → mask < m → aI T' 12 (4096 * ((N - (r + 1) : Nat) : Int) + mask) = hQ (r + 1) (hF sm (fun a => aI S0 (55 + a.toNat) 0) N (r + 1) mask) ∧ aI T' 13 (4096 * ((N - (r + 1) : Nat) : Int) + mask) = (hF sm (fun a => aI S0 (55 + a.toNat) 0) N (r + 1) mask).2.2)
theorem hMT.a0 {S0 T0 T' : St} {sm : Int → Int → Int} {N r : Nat} {m : Int} (hx : hMT S0 T0 T' sm N r m) : aI T' 0 = aI T0 0 := hx.1 0 (by omega) (by omega) (by omega)
theorem pM_mayBe {S0 T0 T' : St} {sm : Int → Int → Int} {N r : Nat} {m i mask a : Int} {K : Int → Prop} (hN : N ≤ 12) (hx : hMT S0 T0 T' sm N r m) (hsm : ∀ a b : Int, 0 ≤ a → a < (N : Int) → 0 ≤ b → b < (N : Int) → sm a b = 1 ∨ sm a b = 0)
    (hi : 0 ≤ i ∧ i < N) (ha : 0 ≤ a ∧ a < N) (h1 : bt mask a = 0 → sm a i = 1 → K 1) (h0 : ¬ (bt mask a = 0 ∧ sm a i = 1) → K 0) : w_M_mayBe i a mask T' K := by
  have e := hx.2.2.1 a i ha.1 ha.2 hi.1 hi.2
  have s := hsm a i ha.1 ha.2 hi.1 hi.2
  unfold w_M_mayBe
  refine ⟨fun z => absurd ha.1 (by omega), fun _ => ⟨by omega, fun z => ?_, fun z => ⟨by omega, by omega, by omega, ?_⟩⟩⟩
  · rw [bt_div] at z
    exact h0 (fun q => z q.1)
  · rw [bt_div] at z
    rw [e]
    exact fun _ _ => ⟨fun q => h0 (fun z2 => by omega), fun q => h1 z (by omega)⟩
theorem pM_mayBe0 {T' : St} {i mask : Int} {K : Int → Prop} (h1 : K 1) : w_M_mayBe i (-1) mask T' K := ⟨fun _ => h1, fun z => absurd (by decide) z⟩
theorem pM_costOf {S0 T0 T' : St} {sm : Int → Int → Int} {N r : Nat} {m i a : Int} {K : Int → Prop} (h : nowA S0 T0) (hN : aI S0 0 5 = N) (hx : hMT S0 T0 T' sm N r m) (hi : 0 ≤ i ∧ i < N) (ha : 0 ≤ a ∧ a < N)
    (hK : K (if aI S0 (55 + a.toNat) 0 = aI S0 (55 + i.toNat) 0 then 0 else 1)) : w_M_costOf i a T' K := by
  obtain ⟨-, -, -, -, -, -, ⟨i0, i1, i2⟩, -⟩ := h.nums
  have e1 := (h.2.2.2.2 i hi.1 (by omega)).1 0 (by omega) (by omega)
  have e2 := (h.2.2.2.2 a ha.1 (by omega)).1 0 (by omega) (by omega)
  rw [Int.add_zero] at e1 e2
  dsimp only at e1 e2
  unfold w_M_costOf
  rw [hx.a0, e1, e2]
  refine ⟨fun _ => ⟨by omega, by omega, by omega, fun _ => ⟨by omega, by omega, by omega, fun _ => ⟨fun z => ?_, fun z => ?_⟩⟩⟩, fun z => absurd ha.1 z⟩
  · rw [if_pos z.symm] at hK
    exact hK
  · rw [if_neg (fun q => z q.symm)] at hK
    exact hK
theorem pM_behind {T' : St} {i a mask : Int} {N : Nat} {K : Int → Prop} (hN : N ≤ 12) (hi : 0 ≤ i ∧ i < N) (ha : 0 ≤ a ∧ a < N) (hm : 0 ≤ mask ∧ mask < 2 ^ N) (hK : K (4096 * (i + 1) + iOr mask (1 * 2 ^ a.toNat))) : w_M_behind i a mask T' K := by
  have o := orm hN hm ha
  have p := p2N hN
  have pa : (2 : Int) ^ a.toNat ≤ 4096 := by
    have := p2_mono (m := a) (n := 12) (by omega)
    exact this
  have pa0 : (0 : Int) < 2 ^ a.toNat := Int.pow_pos (by decide)
  unfold w_M_behind
  exact ⟨by omega, by omega, fun _ => ⟨by omega, by omega, by omega, hK⟩, fun z => absurd ha.1 z⟩
theorem pM_behind0 {T' : St} {i mask : Int} {N : Nat} {K : Int → Prop} (hN : N ≤ 12) (hi : 0 ≤ i ∧ i < N) (hm : 0 ≤ mask ∧ mask < 2 ^ N) (hK : K (4096 * (i + 1) + mask)) : w_M_behind i (-1) mask T' K := by
  have p := p2N hN
  unfold w_M_behind
  exact ⟨by omega, by omega, fun z => absurd z (by decide), fun _ => ⟨by omega, hK⟩⟩
theorem pM_reckonOne {S0 T0 T' : St} {sm : Int → Int → Int} {N r : Nat} {mask : Int} {K : St → Prop} (h : nowA S0 T0) (hN : aI S0 0 5 = N) (hr : r + 1 ≤ N) (hx : hMT S0 T0 T' sm N r mask) (hsm : ∀ a b : Int, 0 ≤ a → a < (N : Int) → 0 ≤ b → b < (N : Int) → sm a b = 1 ∨ sm a b = 0) (hm : 0 ≤ mask ∧ mask < 2 ^ N)
    (hK : ∀ T2, hMT S0 T0 T2 sm N r (mask + 1) → K T2) : w_M_reckonOne ((N : Int) - ((r : Int) + 1)) mask T' K := by
  obtain ⟨-, -, -, -, -, -, ⟨i0, i1, i2⟩, -⟩ := h.nums
  have hN12 : N ≤ 12 := by omega
  have p := p2N hN12
  have n6 : aI T' 0 6 = N := by rw [hx.a0, i0, hN]
  have hco := fun (a : Int) (K : Int → Prop) => pM_costOf (K := K) (i := (N : Int) - ((r : Int) + 1)) (a := a) h hN hx (by omega)
  have hmy := fun (a : Int) (K : Int → Prop) => pM_mayBe (i := (N : Int) - ((r : Int) + 1)) (mask := mask) (a := a) (K := K) hN12 hx hsm (by omega)
  have tab := hx.2.2.2.1 r (Nat.le_refl r)
  obtain ⟨tw, htw⟩ : ∃ tw : Int → Int, tw = fun a : Int => aI S0 (55 + a.toNat) 0 := ⟨_, rfl⟩
  have twe : ∀ a : Int, aI S0 (55 + a.toNat) 0 = tw a := fun a => by rw [htw]
  have e4 : 4096 * ((N : Int) - ((r : Int) + 1) + 1) = 4096 * ((N - r : Nat) : Int) := by omega
  have pr := p13 (r := r) (by omega)
  have pr2 : ((13 ^ r : Nat) : Int) ≤ ((23298085122481 : Nat) : Int) := Int.ofNat_le.mpr pr
  rw [← htw] at tab
  have fin : ∀ (X : Int → Int → Prop), X (hQ (r + 1) (hA sm tw ((N : Int) - ((r : Int) + 1)) mask (hF sm tw N r) N)) (hA sm tw ((N : Int) - ((r : Int) + 1)) mask (hF sm tw N r) N).2.2 → ∀ (f : Nat) (a : Nat), a ≤ N → N - a < f → l_M_reckonOne_10 ((N : Int) - ((r : Int) + 1)) mask T' K X f (hQ (r + 1) (hA sm tw ((N : Int) - ((r : Int) + 1)) mask (hF sm tw N r) a)) (hA sm tw ((N : Int) - ((r : Int) + 1)) mask (hF sm tw N r) a).2.2 a := by
    intro X hX f
    induction f with
    | zero => intro a a0 a1; omega
    | succ f ih =>
      intro a a0 a1
      have ok := hA_ok (sm := sm) (tw := tw) (i := (N : Int) - ((r : Int) + 1)) (mask := mask) (fun m => hF_ok (sm := sm) (tw := tw) hN12 r m) a
      have okp := hA_part (sm := sm) (tw := tw) (i := (N : Int) - ((r : Int) + 1)) (mask := mask) (fun m => hF_ok (sm := sm) (tw := tw) hN12 r m) (a := a) (by omega) (p13 (r := r) (by omega))
      have okc := hC_ok (tw := tw) (i := (N : Int) - ((r : Int) + 1)) (mask := mask) (a := (a : Int)) (fun m => hF_ok (sm := sm) (tw := tw) hN12 r m)
      unfold l_M_reckonOne_10
      rw [n6]
      refine fun _ => ⟨fun c => ?_, fun c => hmy a _ (by omega) (fun z1 z2 => ?_) (fun z => ?_)⟩
      · rw [show a = N by omega]
        exact hX
      · have es : hA sm tw ((N : Int) - ((r : Int) + 1)) mask (hF sm tw N r) (a + 1) = hUp (hA sm tw ((N : Int) - ((r : Int) + 1)) mask (hF sm tw N r) a) (hC tw ((N : Int) - ((r : Int) + 1)) mask (hF sm tw N r) a) := by
          show (if bt mask a = 0 ∧ sm a _ = 1 then _ else _) = _
          rw [if_pos ⟨z1, z2⟩]
        have ih' := ih (a + 1) (by omega) (by omega)
        rw [es] at ih'
        have o := orm hN12 hm (a := (a : Int)) (by omega)
        have t := tab _ o.1 o.2
        refine br1r (pM_behind hN12 (by omega) (by omega) hm (fun _ => hco a _ (by omega) ?_))
        rw [e4, t.1, t.2, twe, twe]
        have ek : (if tw a = tw ((N : Int) - ((r : Int) + 1)) then (0 : Int) else 1) + hQ r (hF sm tw N r (iOr mask (1 * 2 ^ (Int.toNat (a : Int))))) = hQ (r + 1) (hC tw ((N : Int) - ((r : Int) + 1)) mask (hF sm tw N r) a) := by
          unfold hQ hC
          dsimp only
          omega
        have ew : (hF sm tw N r (iOr mask (1 * 2 ^ (Int.toNat (a : Int))))).2.2 = (hC tw ((N : Int) - ((r : Int) + 1)) mask (hF sm tw N r) a).2.2 := rfl
        rw [ek, ew]
        generalize hA sm tw ((N : Int) - ((r : Int) + 1)) mask (hF sm tw N r) a = cc at ok okp ih' ⊢
        generalize hC tw ((N : Int) - ((r : Int) + 1)) mask (hF sm tw N r) a = dd at okc ih' ⊢
        obtain ⟨⟨k1, k2, k3⟩, k4, k5⟩ := ok
        obtain ⟨⟨l1, l2, l3⟩, l4, l5⟩ := okc
        have wb1 : 0 ≤ hQ (r + 1) cc ∧ hQ (r + 1) cc ≤ 1400 := by unfold hQ; omega
        have wb2 : 0 ≤ hQ (r + 1) dd ∧ hQ (r + 1) dd ≤ 1400 := by unfold hQ; omega
        have lx : hQ (r + 1) dd < hQ (r + 1) cc ↔ (cc.1 < dd.1 ∨ (cc.1 = dd.1 ∧ dd.2.1 < cc.2.1)) := by unfold hQ; omega
        have le : hQ (r + 1) cc = hQ (r + 1) dd ↔ (cc.1 = dd.1 ∧ cc.2.1 = dd.2.1) := by unfold hQ; omega
        unfold j_M_reckonOne_98 j_M_reckonOne_103
        refine fun _ => ⟨by omega, fun _ => ⟨by omega, ?_⟩⟩
        rintro _ rfl
        refine fun _ => ⟨fun c1 => ⟨fun c2 => ⟨by omega, fun _ => ⟨by omega, ?_⟩⟩, fun c2 => ⟨by omega, fun _ => ⟨by omega, by omega, ?_⟩⟩⟩, fun c1 => ⟨by omega, ?_⟩⟩
        · unfold hUp at ih'
          rw [if_pos (lx.mp (by omega))] at ih'
          exact ih'
        · unfold hUp at ih'
          rw [if_neg (fun q => absurd (lx.mpr q) (by omega)), if_pos (le.mp (by omega))] at ih'
          rw [c2]
          exact ih'
        · unfold hUp at ih'
          rw [if_neg (fun q => absurd (lx.mpr q) (by omega)), if_neg (fun q => absurd (le.mpr q) (by omega))] at ih'
          exact ih'
      · have es : hA sm tw ((N : Int) - ((r : Int) + 1)) mask (hF sm tw N r) (a + 1) = hA sm tw ((N : Int) - ((r : Int) + 1)) mask (hF sm tw N r) a := by
          show (if bt mask a = 0 ∧ sm a _ = 1 then _ else _) = _
          rw [if_neg z]
        have ih' := ih (a + 1) (by omega) (by omega)
        rw [es] at ih'
        refine br0r ?_
        unfold j_M_reckonOne_103
        exact ⟨by omega, ih'⟩
  unfold w_M_reckonOne
  refine ⟨N + 2, ?_⟩
  show l_M_reckonOne_10 ((N : Int) - ((r : Int) + 1)) mask T' K _ (N + 1 + 1) 1000000 0 (-1)
  unfold l_M_reckonOne_10
  rw [n6]
  have t := tab mask hm.1 hm.2
  have ok := hF_ok (sm := sm) (tw := tw) hN12 r mask
  obtain ⟨⟨k1, k2, k3⟩, k4, k5⟩ := ok
  have wb1 : 0 ≤ hQ r (hF sm tw N r mask) ∧ hQ r (hF sm tw N r mask) ≤ 1300 := by unfold hQ; omega
  refine fun _ => ⟨fun c => absurd c (by omega), fun _ => pM_mayBe0 (br1r (pM_behind0 hN12 (by omega) hm (fun _ => ?_)))⟩
  rw [e4, t.1, t.2]
  unfold w_M_costOf
  refine ⟨fun z => absurd z (by decide), fun _ => fun _ => ⟨by omega, fun _ => ⟨by omega, ?_⟩⟩⟩
  rintro _ rfl
  unfold j_M_reckonOne_98 j_M_reckonOne_103
  refine fun _ => ⟨fun c1 => ⟨fun c2 => ⟨by omega, fun _ => ⟨by omega, ?_⟩⟩, fun c2 => absurd c2 (by omega)⟩, fun c1 => absurd c1 (by omega)⟩
  have ek : 100 + hQ r (hF sm tw N r mask) = hQ (r + 1) (hA sm tw ((N : Int) - ((r : Int) + 1)) mask (hF sm tw N r) 0) := by
    show _ = hQ (r + 1) (hF sm tw N r mask)
    unfold hQ
    omega
  rw [ek]
  refine fin _ ?_ (N + 1) 0 (by omega) (by omega)
  have okF := hF_ok (sm := sm) (tw := tw) hN12 (r + 1) mask
  unfold j_M_reckonOne_109
  have ei : 4096 * ((N : Int) - ((r : Int) + 1)) = 4096 * ((N - (r + 1) : Nat) : Int) := by omega
  rw [ei]
  refine ⟨by omega, by omega, by omega, ?_⟩
  rintro _ rfl
  refine ⟨by omega, ?_⟩
  rintro _ rfl
  refine hK _ ?_
  obtain ⟨x1, x2, x3, x4, x5⟩ := hx
  rw [← htw] at x4 x5
  unfold hMT
  rw [← htw]
  refine ⟨fun k q1 q2 q3 => ?_, x2, fun j i j0 j1 i0 i1 => ?_, fun q hq mk m0 m1 => ?_, fun mk m0 m1 => ?_⟩
  · rw [← x1 k q1 q2 q3]
    funext y
    rw [aI_aset_j q2, aI_aset_j q1]
  · rw [aI_aset_j (by omega), aI_aset_j (by omega)]
    exact x3 j i j0 j1 i0 i1
  · rw [aI_aset_j (by omega), aI_aset_i (by omega), aI_aset_i (by omega), aI_aset_j (by omega)]
    exact x4 q hq mk m0 m1
  · by_cases e : mk = mask
    · rw [e, aI_aset_j (by omega), aI_aset_s, aI_aset_s]
      exact ⟨rfl, rfl⟩
    · rw [aI_aset_j (by omega), aI_aset_i (by omega), aI_aset_i (by omega), aI_aset_j (by omega)]
      exact x5 mk m0 (by omega)
