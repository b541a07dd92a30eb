/-! PURE: histories: the component's table -/
variable {tB : Int}
theorem p_fill_in {k0 n0 : Nat} {x1 : Int} {S : St} {K : St → Prop} (hn : n0 ≤ 1000000) : ∀ (m : Nat) (j : Int) (g : Nat → Int → Int), 0 ≤ j → j ≤ n0 → n0 - j < m → K (aall S (fun x y => if x = k0 ∧ j ≤ y ∧ y < (n0 : Int) then x1 else g x y)) → l_J14_fill_5 k0 n0 x1 n0 K m j (aall S g) := by
  intro m
  induction m with
  | zero => intro j g j0 j1 j2; omega
  | succ m ih =>
    intro j g j0 j1 j2 hK
    unfold l_J14_fill_5
    refine ⟨fun c => ?_, fun c => ⟨by omega, ?_⟩⟩
    · refine cast (congrArg (fun g => K (aall S g)) ?_) hK
      funext x y
      rw [if_neg (by omega)]
    · rintro _ rfl
      rw [aset_aall]
      refine ⟨by omega, ih (j + 1) _ (by omega) (by omega) (by omega) ?_⟩
      refine cast (congrArg (fun g => K (aall S g)) ?_) hK
      funext x y
      by_cases c1 : x = k0 ∧ y = j
      · rw [if_pos (by omega), if_neg (by omega), if_pos c1]
      · by_cases c2 : x = k0 ∧ j + 1 ≤ y ∧ y < (n0 : Int)
        · rw [if_pos (by omega), if_pos c2]
        · rw [if_neg (by omega), if_neg c2, if_neg c1]
theorem p_fill {k0 n0 : Nat} {x1 : Int} {S : St} {K : St → Prop} (hn : n0 ≤ 1000000) (hK : K (aall S (fun x y => if x = k0 ∧ 0 ≤ y ∧ y < (n0 : Int) then x1 else aI S x y))) : w_J14_fill k0 n0 x1 S K := by
  unfold w_J14_fill
  rintro _ rfl
  exact fun _ => ⟨n0 + 1, p_fill_in hn (n0 + 1) 0 (aI S) (by omega) (by omega) (by omega) hK⟩
theorem p_fill2_in {k0 n0 : Nat} {x1 : Int} {S : St} {K : St → Prop} (hn : n0 ≤ 1000000) : ∀ (m : Nat) (j : Int) (g : Nat → Int → Int), 0 ≤ j → j ≤ n0 → n0 - j < m → K (aall S (fun x y => if x = k0 ∧ j ≤ y ∧ y < (n0 : Int) then x1 else g x y)) → l_J14_fill_2_6 k0 n0 x1 n0 K m j (aall S g) := by
  intro m
  induction m with
  | zero => intro j g j0 j1 j2; omega
  | succ m ih =>
    intro j g j0 j1 j2 hK
    unfold l_J14_fill_2_6
    refine ⟨fun c => ?_, fun c => ⟨by omega, ?_⟩⟩
    · refine cast (congrArg (fun g => K (aall S g)) ?_) hK
      funext x y
      rw [if_neg (by omega)]
    · rintro _ rfl
      rw [aset_aall]
      refine ⟨by omega, ih (j + 1) _ (by omega) (by omega) (by omega) ?_⟩
      refine cast (congrArg (fun g => K (aall S g)) ?_) hK
      funext x y
      by_cases c1 : x = k0 ∧ y = j
      · rw [if_pos (by omega), if_neg (by omega), if_pos c1]
      · by_cases c2 : x = k0 ∧ j + 1 ≤ y ∧ y < (n0 : Int)
        · rw [if_pos (by omega), if_pos c2]
        · rw [if_neg (by omega), if_neg c2, if_neg c1]
theorem p_fill2 {k0 n0 : Nat} {x1 : Int} {S : St} {K : St → Prop} (hn : n0 ≤ 1000000) (hK : K (aall S (fun x y => if x = k0 ∧ 0 ≤ y ∧ y < (n0 : Int) then x1 else aI S x y))) : w_J14_fill_2 k0 n0 x1 S K := by
  unfold w_J14_fill_2
  rintro _ rfl
  exact fun _ => ⟨n0 + 1, p_fill2_in hn (n0 + 1) 0 (aI S) (by omega) (by omega) (by omega) hK⟩
theorem pX_71 {S0 S' T : St} {sm : Int → Int → Int} {N r : Nat} {m mask : Int} {K : St → Prop} {X : Int → Int → Prop} (h : REL tB S0 T) (hN : aI S0 0 5 = N) (hr : r + 1 ≤ N) (hx : hXT S0 S' sm N r m) (hsm : ∀ a b : Int, 0 ≤ a → a < (N : Int) → 0 ≤ b → b < (N : Int) → (isSm S0 a b ∧ sm a b = 1) ∨ (¬ isSm S0 a b ∧ sm a b = 0)) (hm : 0 ≤ mask ∧ mask < 2 ^ N)
    (hX : X (hW (hF sm (fun a => aI S0 (55 + a.toNat) 0) N (r + 1) mask)) (hF sm (fun a => aI S0 (55 + a.toNat) 0) N (r + 1) mask).2.2) :
    ∀ (f : Nat) (a : Nat), a ≤ N → N - a < f → l_X_laysHistories_71 N ((N : Int) - ((r : Int) + 1)) mask S' K X f (hW (hA sm (fun a => aI S0 (55 + a.toNat) 0) ((N : Int) - ((r : Int) + 1)) mask (hF sm (fun a => aI S0 (55 + a.toNat) 0) N r) a)) (hA sm (fun a => aI S0 (55 + a.toNat) 0) ((N : Int) - ((r : Int) + 1)) mask (hF sm (fun a => aI S0 (55 + a.toNat) 0) N r) a).2.2 a := by
  obtain ⟨-, -, -, -, -, -, ⟨i0, i1, i2⟩, -⟩ := h.1.nums
  have hN12 : N ≤ 12 := by omega
  obtain ⟨tw, htw⟩ : ∃ tw : Int → Int, tw = fun a : Int => aI S0 (55 + a.toNat) 0 := ⟨_, rfl⟩
  have hwo := fun (a : Int) (K : Int → Prop) => pX_worthOf (a := a) (K := K) h hN hr hx hm
  have hmy := fun (a : Int) (K : Int → Prop) => pX_may (i := (N : Int) - ((r : Int) + 1)) (mask := mask) (a := a) (K := K) h hN hx hsm (by omega)
  have tab := hx.2.2.2.2.1 r (Nat.le_refl r)
  rw [← htw] at hX hwo tab ⊢
  intro f
  induction f with
  | zero => intro a a0 a1; omega
  | succ f ih =>
    intro a a0 a1
    have ok := hA_ok (sm := sm) (tw := tw) (i := (N : Int) - ((r : Int) + 1)) (mask := mask) (fun m => hF_ok (sm := sm) (tw := tw) hN12 r m) a
    have okp := hA_part (sm := sm) (tw := tw) (i := (N : Int) - ((r : Int) + 1)) (mask := mask) (fun m => hF_ok (sm := sm) (tw := tw) hN12 r m) (a := a) (by omega) (p13 (r := r) (by omega))
    have okc := hC_ok (tw := tw) (i := (N : Int) - ((r : Int) + 1)) (mask := mask) (a := (a : Int)) (fun m => hF_ok (sm := sm) (tw := tw) hN12 r m)
    have pr := p13 (r := r) (by omega)
    have pr2 : ((13 ^ r : Nat) : Int) ≤ ((23298085122481 : Nat) : Int) := Int.ofNat_le.mpr pr
    unfold l_X_laysHistories_71
    refine ⟨fun c => ?_, fun c => hmy a _ (by omega) (fun z1 z2 => ?_) (fun z => ?_)⟩
    · rw [show a = N by omega]
      exact hX
    · have es : hA sm tw ((N : Int) - ((r : Int) + 1)) mask (hF sm tw N r) (a + 1) = hUp (hA sm tw ((N : Int) - ((r : Int) + 1)) mask (hF sm tw N r) a) (hC tw ((N : Int) - ((r : Int) + 1)) mask (hF sm tw N r) a) := by
        show (if bt mask a = 0 ∧ sm a _ = 1 then _ else _) = _
        rw [if_pos ⟨z1, z2⟩]
      have ih' := ih (a + 1) (by omega) (by omega)
      rw [es] at ih'
      have o := orm hN12 hm (a := (a : Int)) (by omega)
      have p := p2N hN12
      have pa : (2 : Int) ^ (Int.toNat (a : Int)) ≤ 4096 := by
        have := p2_mono (m := (a : Int)) (n := 12) (by omega)
        exact this
      have pa0 : (0 : Int) < 2 ^ (Int.toNat (a : Int)) := Int.pow_pos (by decide)
      have row : 116 + Int.toNat ((N : Int) - ((r : Int) + 1) + 1) = 116 + (N - r) := by omega
      have tw2 := (tab _ o.1 o.2).2
      have ew : aI S' (116 + (N - r)) (iOr mask (1 * 2 ^ (Int.toNat (a : Int)))) = (hC tw ((N : Int) - ((r : Int) + 1)) mask (hF sm tw N r) a).2.2 := tw2
      refine br1r (hwo a _ (by omega) ?_)
      generalize hA sm tw ((N : Int) - ((r : Int) + 1)) mask (hF sm tw N r) a = cc at ok okp ih' ⊢
      generalize hC tw ((N : Int) - ((r : Int) + 1)) mask (hF sm tw N r) a = dd at okc ew ih' ⊢
      obtain ⟨⟨k1, k2, k3⟩, k4, k5⟩ := ok
      obtain ⟨⟨l1, l2, l3⟩, l4, l5⟩ := okc
      have wb1 : -20 ≤ hW cc ∧ hW cc ≤ 13000 := by unfold hW; omega
      have wb2 : -20 ≤ hW dd ∧ hW dd ≤ 13000 := by unfold hW; omega
      unfold j_X_laysHistories_114 j_X_laysHistories_144 j_X_laysHistories_156
      rw [row, ew]
      have lx : hW cc < hW dd ↔ (cc.1 < dd.1 ∨ (cc.1 = dd.1 ∧ dd.2.1 < cc.2.1)) := by unfold hW; omega
      have le : hW cc = hW dd ↔ (cc.1 = dd.1 ∧ cc.2.1 = dd.2.1) := by unfold hW; omega
      refine fun _ => ⟨fun c1 => ⟨fun c2 => ⟨by omega, ?_⟩, fun c2 => ⟨by omega, by omega, by omega, by omega, by omega, fun _ => ⟨by omega, ?_⟩⟩⟩, fun c1 => ⟨fun c2 => absurd c2 (by omega), fun c2 => ⟨by omega, by omega, by omega, by omega, by omega, fun _ => ⟨by omega, ?_⟩⟩⟩⟩
      · -- less
        rintro _ rfl
        intro _
        rintro _ rfl
        refine fun _ => ⟨by omega, ?_⟩
        rw [show max (hW cc) (hW dd) = hW cc by omega, show cc.2.2 + 0 = cc.2.2 by omega]
        unfold hUp at ih'
        rw [if_neg (fun q => absurd (lx.mpr q) (by omega)), if_neg (fun q => absurd (le.mpr q) (by omega))] at ih'
        exact ih'
      · -- alike
        have eq : hW cc = hW dd := by omega
        rintro _ rfl
        intro _
        rintro _ rfl
        refine fun _ => ⟨by omega, ?_⟩
        rw [show max (hW cc) (hW dd) = hW cc by omega]
        unfold hUp at ih'
        rw [if_neg (fun q => absurd (lx.mpr q) (by omega)), if_pos (le.mp eq)] at ih'
        exact ih'
      · -- more
        rintro _ rfl
        intro _
        rintro _ rfl
        refine fun _ => ⟨by omega, ?_⟩
        rw [show max (hW cc) (hW dd) = hW dd by omega, show 0 + dd.2.2 = dd.2.2 by omega]
        unfold hUp at ih'
        rw [if_pos (lx.mp (by omega))] at ih'
        exact ih'
    · have es : hA sm tw ((N : Int) - ((r : Int) + 1)) mask (hF sm tw N r) (a + 1) = hA sm tw ((N : Int) - ((r : Int) + 1)) mask (hF sm tw N r) a := by
        show (if bt mask a = 0 ∧ sm a _ = 1 then _ else _) = _
        rw [if_neg z]
      have ih' := ih (a + 1) (by omega) (by omega)
      rw [es] at ih'
      refine br0r ?_
      unfold j_X_laysHistories_156
      exact ⟨by omega, ih'⟩
theorem pX_40 {S0 T : St} {sm : Int → Int → Int} {N r : Nat} {K : St → Prop} {X : St → Prop} (h : REL tB S0 T) (hN : aI S0 0 5 = N) (hr : r + 1 ≤ N) (hsm : ∀ a b : Int, 0 ≤ a → a < (N : Int) → 0 ≤ b → b < (N : Int) → (isSm S0 a b ∧ sm a b = 1) ∨ (¬ isSm S0 a b ∧ sm a b = 0))
    (hX : ∀ S', hXT S0 S' sm N (r + 1) 0 → X S') : ∀ (f : Nat) (mask : Int) (S' : St), 0 ≤ mask → mask ≤ 2 ^ N → 2 ^ N - mask < f → hXT S0 S' sm N r mask → l_X_laysHistories_40 N ((N : Int) - ((r : Int) + 1)) K X f mask S' := by
  obtain ⟨-, -, -, -, -, -, ⟨i0, i1, i2⟩, -⟩ := h.1.nums
  have hN12 : N ≤ 12 := by omega
  have p := p2N hN12
  intro f
  induction f with
  | zero => intro mask S' m0 m1 m2; omega
  | succ f ih =>
    intro mask S' m0 m1 m2 hx
    have row : 103 + Int.toNat ((N : Int) - ((r : Int) + 1) + 1) = 103 + (N - r) := by omega
    have row2 : 116 + Int.toNat ((N : Int) - ((r : Int) + 1) + 1) = 116 + (N - r) := by omega
    have row3 : 103 + Int.toNat ((N : Int) - ((r : Int) + 1)) = 103 + (N - (r + 1)) := by omega
    have row4 : 116 + Int.toNat ((N : Int) - ((r : Int) + 1)) = 116 + (N - (r + 1)) := by omega
    have pN : (2 : Int) ^ (Int.toNat (N : Int)) = 2 ^ N := by rw [Int.toNat_natCast]
    unfold l_X_laysHistories_40
    rw [pN]
    refine ⟨by omega, by omega, fun c => ?_, fun c => ?_⟩
    · have em : mask = 2 ^ N := by omega
      rw [em] at hx
      obtain ⟨x1, x2, x3, x4, x5, x6⟩ := hx
      refine hX S' ⟨x1, x2, x3, x4, fun q hq mk k0 k1 => ?_, fun mk k0 k1 => by omega⟩
      by_cases e : q = r + 1
      · rw [e]
        exact x6 mk k0 k1
      · exact x5 q (by omega) mk k0 k1
    · have t := hx.2.2.2.2.1 r (Nat.le_refl r) mask m0 (by omega)
      have ok := hF_ok (sm := sm) (tw := fun a => aI S0 (55 + a.toNat) 0) hN12 r mask
      have pr := p13 (r := r) (by omega)
      have pr2 : ((13 ^ r : Nat) : Int) ≤ ((23298085122481 : Nat) : Int) := Int.ofNat_le.mpr pr
      have ok1 := ok.1
      have ok2 := ok.2
      unfold w_X_worthOf
      refine ⟨fun z => absurd rfl z, fun _ => ?_⟩
      rw [row, row2, t.1, t.2]
      refine ⟨by omega, by omega, by omega, fun _ => fun _ => ⟨by omega, by omega, by omega, fun _ => ?_⟩⟩
      rintro _ rfl
      refine fun _ => ⟨N + 1, ?_⟩
      refine pX_71 h hN hr hx hsm ⟨m0, by omega⟩ ?_ (N + 1) 0 (by omega) (by omega)
      unfold j_X_laysHistories_162
      rw [row3, row4]
      refine ⟨by omega, by omega, ?_⟩
      rintro _ rfl
      refine ⟨by omega, by omega, ?_⟩
      rintro _ rfl
      refine ⟨by omega, ih (mask + 1) _ (by omega) (by omega) (by omega) ?_⟩
      obtain ⟨x1, x2, x3, x4, x5, x6⟩ := hx
      refine ⟨fun k hk => ?_, x2, x3, x4, fun q hq mk k0 k1 => ?_, fun mk k0 k1 => ?_⟩
      · rw [← x1 k hk]
        funext y
        rw [aI_aset_j (by omega), aI_aset_j (by omega)]
      · rw [aI_aset_j (by omega), aI_aset_j (by omega), aI_aset_j (by omega), aI_aset_j (by omega)]
        exact x5 q hq mk k0 k1
      · by_cases e : mk = mask
        · rw [e, aI_aset_j (by omega), aI_aset_s, aI_aset_s]
          exact ⟨rfl, rfl⟩
        · rw [aI_aset_i e, aI_aset_i e, aI_aset_i e, aI_aset_i e]
          exact x6 mk k0 (by omega)
theorem pX_lays {S0 T : St} {sm : Int → Int → Int} {N : Nat} {K : St → Prop} (h : REL tB S0 T) (hN : aI S0 0 5 = N) (hsm : ∀ a b : Int, 0 ≤ a → a < (N : Int) → 0 ≤ b → b < (N : Int) → (isSm S0 a b ∧ sm a b = 1) ∨ (¬ isSm S0 a b ∧ sm a b = 0))
    (hK : ∀ S', hXT S0 S' sm N N 0 → K S') : w_X_laysHistories S0 K := by
  obtain ⟨-, -, -, -, -, -, ⟨i0, i1, i2⟩, -⟩ := h.1.nums
  have hN12 : N ≤ 12 := by omega
  have p := p2N hN12
  have lp : ∀ (f : Nat) (r : Nat) (S' : St), r ≤ N → N - r < f → hXT S0 S' sm N r 0 → l_X_laysHistories_34 N K f ((N : Int) - ((r : Int) + 1)) S' := by
    intro f
    induction f with
    | zero => intro r S' r0 r1; omega
    | succ f ih =>
      intro r S' r0 r1 hx
      unfold l_X_laysHistories_34
      refine ⟨fun c => ?_, fun c => ⟨(2 ^ N : Int).toNat + 1, pX_40 h hN (by omega) hsm (fun S2 hx2 => ?_) _ 0 S' (by omega) (by omega) (by omega) hx⟩⟩
      · have e : r = N := by omega
        rw [e] at hx
        exact hK S' hx
      · unfold j_X_laysHistories_188
        rw [show (N : Int) - ((r : Int) + 1) + (-1) = (N : Int) - (((r + 1 : Nat) : Int) + 1) by omega]
        exact ⟨by omega, ih (r + 1) S2 (by omega) (by omega) hx2⟩
  unfold w_X_laysHistories
  rw [hN]
  intro _
  rintro _ rfl
  refine fun _ => ⟨by omega, p_fill (by omega) ⟨by omega, p_fill2 (by omega) ⟨by omega, ?_⟩⟩⟩
  rintro _ rfl
  refine fun _ => ⟨N + 1, ?_⟩
  have z := lp (N + 1) 0 (aall (aall S0 (fun x y => if x = 103 + Int.toNat (N : Int) ∧ 0 ≤ y ∧ y < ((4096 : Nat) : Int) then 0 else aI S0 x y)) (fun x y => if x = 116 + Int.toNat (N : Int) ∧ 0 ≤ y ∧ y < ((4096 : Nat) : Int) then 1 else aI (aall S0 (fun x y => if x = 103 + Int.toNat (N : Int) ∧ 0 ≤ y ∧ y < ((4096 : Nat) : Int) then 0 else aI S0 x y)) x y)) (by omega) (by omega) ?_
  · exact z
  · refine ⟨fun k hk => ?_, rfl, rfl, rfl, fun q hq mk k0 k1 => ?_, fun mk k0 k1 => by omega⟩
    · funext y
      rw [aI_aall, if_neg (by omega), aI_aall, if_neg (by omega)]
    · have e : q = 0 := by omega
      subst e
      constructor
      · rw [aI_aall, if_neg (by omega), aI_aall, if_pos (by omega)]
        rfl
      · rw [aI_aall, if_pos (by omega)]
        rfl
