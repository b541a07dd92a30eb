/-! PURE: histories: the laws -/
variable {tB : Int}
theorem pM_reckon {S0 T0 : St} {sm : Int → Int → Int} {N : Nat} {K : St → Prop} (h : nowA S0 T0) (hN : aI S0 0 5 = N) (hsm : ∀ a b : Int, 0 ≤ a → a < (N : Int) → 0 ≤ b → b < (N : Int) → (isSm S0 a b ∧ sm a b = 1) ∨ (¬ isSm S0 a b ∧ sm a b = 0))
    (hK : ∀ T2, hMT S0 T0 T2 sm N N 0 → K T2) : w_M_reckon T0 K := by
  obtain ⟨-, -, -, -, -, -, ⟨i0, i1, i2⟩, -⟩ := h.nums
  have hN12 : N ≤ 12 := by omega
  have p := p2N hN12
  have pN : (2 : Int) ^ (Int.toNat (N : Int)) = 2 ^ N := by rw [Int.toNat_natCast]
  have hs1 : ∀ a b : Int, 0 ≤ a → a < (N : Int) → 0 ≤ b → b < (N : Int) → sm a b = 1 ∨ sm a b = 0 := fun a b a0 a1 b0 b1 => by
    rcases hsm a b a0 a1 b0 b1 with q | q
    · exact Or.inl q.2
    · exact Or.inr q.2
  -- the rows, from the last one back
  have inn : ∀ (r : Nat) (X : St → Prop), r + 1 ≤ N → (∀ T2, hMT S0 T0 T2 sm N (r + 1) 0 → X T2) → ∀ (f : Nat) (mask : Int) (T' : St), 0 ≤ mask → mask ≤ 2 ^ N → 2 ^ N - mask < f → hMT S0 T0 T' sm N r mask → l_M_reckon_102 N ((N : Int) - ((r : Int) + 1)) K X f mask T' := by
    intro r X hr hX f
    induction f with
    | zero => intro mask T' m0 m1 m2; omega
    | succ f ih =>
      intro mask T' m0 m1 m2 hx
      unfold l_M_reckon_102
      rw [pN]
      refine ⟨by omega, by omega, fun c => ?_, fun c => ?_⟩
      · have em : mask = 2 ^ N := by omega
        rw [em] at hx
        obtain ⟨x1, x2, x3, x4, x5⟩ := hx
        refine hX T' ⟨x1, x2, x3, fun q hq mk k0 k1 => ?_, fun mk k0 k1 => by omega⟩
        by_cases e : q = r + 1
        · rw [e]
          exact x5 mk k0 k1
        · exact x4 q (by omega) mk k0 k1
      · exact pM_reckonOne h hN hr hx hs1 ⟨m0, by omega⟩ (fun T2 hx2 => ⟨by omega, ih (mask + 1) T2 (by omega) (by omega) (by omega) hx2⟩)
  have out : ∀ (f : Nat) (r : Nat) (T' : St), r ≤ N → N - r < f → hMT S0 T0 T' sm N r 0 → l_M_reckon_96 N K f ((N : Int) - ((r : Int) + 1)) T' := by
    intro f
    induction f with
    | zero => intro r T' r0 r1; omega
    | succ f ih =>
      intro r T' r0 r1 hx
      unfold l_M_reckon_96
      refine ⟨fun c => ?_, fun c => ⟨(2 ^ N : Int).toNat + 1, inn r _ (by omega) (fun T2 hx2 => ?_) _ 0 T' (by omega) (by omega) (by omega) hx⟩⟩
      · have e : r = N := by omega
        rw [e] at hx
        exact hK T' hx
      · unfold j_M_reckon_121
        rw [show (N : Int) - ((r : Int) + 1) + (-1) = (N : Int) - (((r + 1 : Nat) : Int) + 1) by omega]
        exact ⟨by omega, ih (r + 1) T2 (by omega) (by omega) hx2⟩
  -- the last row
  have las : ∀ (f : Nat) (m : Int) (T' : St), 0 ≤ m → m ≤ 2 ^ N → 2 ^ N - m < f → ((∀ k, k ≠ 12 → k ≠ 13 → k ≠ 14 → aI T' k = aI T0 k) ∧ fI T' = fI T0 ∧ (∀ j i : Int, 0 ≤ j → j < (N : Int) → 0 ≤ i → i < (N : Int) → aI T' 14 (12 * j + i) = sm j i) ∧ ∀ mk, 0 ≤ mk → mk < m → aI T' 12 (4096 * (N : Int) + mk) = 0 ∧ aI T' 13 (4096 * (N : Int) + mk) = 1) → l_M_reckon_53 N K (fun zS => j_M_reckon_92 N zS K) f m T' := by
    intro f
    induction f with
    | zero => intro m T' m0 m1 m2; omega
    | succ f ih =>
      intro m T' m0 m1 m2 hx
      obtain ⟨x1, x2, x3, x4⟩ := hx
      unfold l_M_reckon_53
      rw [pN]
      refine ⟨by omega, by omega, fun c => ?_, fun c => ⟨by omega, by omega, by omega, ?_⟩⟩
      · unfold j_M_reckon_92
        refine ⟨by omega, ?_⟩
        rintro _ rfl
        refine fun _ => ⟨N + 1, ?_⟩
        have z := out (N + 1) 0 T' (by omega) (by omega) ⟨x1, x2, x3, fun q hq mk k0 k1 => ?_, fun mk k0 k1 => by omega⟩
        · exact z
        · have e : q = 0 := by omega
          subst e
          have := x4 mk k0 (by omega)
          exact ⟨this.1, this.2⟩
      · rintro _ rfl
        refine ⟨by omega, ?_⟩
        rintro _ rfl
        refine ⟨by omega, ih (m + 1) _ (by omega) (by omega) (by omega) ⟨fun k q1 q2 q3 => ?_, x2, fun j i j0 j1 k0 k1 => ?_, fun mk k0 k1 => ?_⟩⟩
        · rw [← x1 k q1 q2 q3]
          funext y
          rw [aI_aset_j q2, aI_aset_j q1]
        · rw [aI_aset_j (by omega), aI_aset_j (by omega)]
          exact x3 j i j0 j1 k0 k1
        · by_cases e : mk = m
          · rw [e, aI_aset_j (by omega), aI_aset_s, aI_aset_s]
            exact ⟨rfl, rfl⟩
          · rw [aI_aset_j (by omega), aI_aset_i (by omega), aI_aset_i (by omega), aI_aset_j (by omega)]
            exact x4 mk k0 (by omega)
  -- who is the same as whom
  have si : ∀ (X : St → Prop) (j : Int), 0 ≤ j → j < (N : Int) → (∀ T2, ((∀ k, k ≠ 14 → aI T2 k = aI T0 k) ∧ fI T2 = fI T0 ∧ ∀ a i : Int, 0 ≤ a → a < j + 1 → 0 ≤ i → i < (N : Int) → aI T2 14 (12 * a + i) = sm a i) → X T2) →
      ∀ (f : Nat) (b : Int) (T' : St), 0 ≤ b → b ≤ N → N - b < f → ((∀ k, k ≠ 14 → aI T' k = aI T0 k) ∧ fI T' = fI T0 ∧ (∀ a i : Int, 0 ≤ a → a < j → 0 ≤ i → i < (N : Int) → aI T' 14 (12 * a + i) = sm a i) ∧ ∀ i : Int, 0 ≤ i → i < b → aI T' 14 (12 * j + i) = sm j i) → l_M_reckon_17 N j K X f b T' := by
    intro X j j0 j1 hX f
    induction f with
    | zero => intro b T' b0 b1 b2; omega
    | succ f ih =>
      intro b T' b0 b1 b2 hx
      obtain ⟨x1, x2, x3, x4⟩ := hx
      unfold l_M_reckon_17
      refine ⟨fun c => hX T' ⟨x1, x2, fun a i a0 a1 i0 i1 => ?_⟩, fun c => ⟨by omega, by omega, ?_⟩⟩
      · by_cases e : a = j
        · rw [e]
          exact x4 i i0 (by omega)
        · exact x3 a i a0 (by omega) i0 i1
      · have hn' : nowA S0 T' := by
          unfold nowA at h ⊢
          rw [x1 0 (by omega)]
          exact h
        have nx : ∀ v : Int, v = sm j b → (v = 0 ∨ v = 1) → (((0 : Int) ≤ (12 * j) + b ∧ (12 * j) + b < 144) ∧ ((∀ S28 : St, S28 = aset T' 14 ((12 * j) + b) v → InR (b + 1) ∧ (l_M_reckon_17 N j K X f (b + 1) S28)))) := by
          intro v hv hv2
          refine ⟨by omega, ?_⟩
          rintro _ rfl
          refine ⟨by omega, ih (b + 1) _ (by omega) (by omega) (by omega) ⟨fun k q => ?_, x2, fun a i a0 a1 i0 i1 => ?_, fun i i0 i1 => ?_⟩⟩
          · rw [← x1 k q]
            funext y
            exact aI_aset_j q
          · rw [aI_aset_i (by omega)]
            exact x3 a i a0 a1 i0 i1
          · by_cases e : i = b
            · rw [e, aI_aset_s]
              exact hv
            · rw [aI_aset_i (by omega)]
              exact x4 i i0 (by omega)
        refine pM_same hn' (fun _ _ y => ?_) (fun y => ?_)
        · intro z
          rcases hsm j b j0 j1 b0 (by omega) with ⟨-, q⟩ | ⟨q, -⟩
          · exact nx 1 q.symm z
          · exact absurd y q
        · intro z
          rcases hsm j b j0 j1 b0 (by omega) with ⟨q, -⟩ | ⟨-, q⟩
          · exact absurd ⟨by omega, by omega, q⟩ y
          · exact nx 0 q.symm z
  have so : ∀ (f : Nat) (j : Int) (T' : St), 0 ≤ j → j ≤ N → N - j < f → ((∀ k, k ≠ 14 → aI T' k = aI T0 k) ∧ fI T' = fI T0 ∧ ∀ a i : Int, 0 ≤ a → a < j → 0 ≤ i → i < (N : Int) → aI T' 14 (12 * a + i) = sm a i) → l_M_reckon_10 N K (fun zS => j_M_reckon_51 N zS K) f j T' := by
    intro f
    induction f with
    | zero => intro j T' j0 j1 j2; omega
    | succ f ih =>
      intro j T' j0 j1 j2 hx
      unfold l_M_reckon_10
      refine ⟨fun c => ?_, fun c => ⟨N + 1, si _ j j0 (by omega) (fun T2 hx2 => ?_) (N + 1) 0 T' (by omega) (by omega) (by omega) ⟨hx.1, hx.2.1, hx.2.2, fun i i0 i1 => by omega⟩⟩⟩
      · unfold j_M_reckon_51
        refine ⟨(2 ^ N : Int).toNat + 1, las _ 0 T' (by omega) (by omega) (by omega) ⟨fun k q1 q2 q3 => hx.1 k q3, hx.2.1, fun a i a0 a1 i0 i1 => hx.2.2 a i a0 (by omega) i0 i1, fun mk k0 k1 => by omega⟩⟩
      · unfold j_M_reckon_45
        exact ⟨by omega, ih (j + 1) T2 (by omega) (by omega) (by omega) hx2⟩
  unfold w_M_reckon
  rw [i0, hN]
  intro _
  rintro _ rfl
  exact fun _ => ⟨N + 1, so (N + 1) 0 T0 (by omega) (by omega) (by omega) ⟨fun _ _ => rfl, rfl, fun a i a0 a1 => by omega⟩⟩
theorem hMT.rel {S0 S' T0 T' : St} {sm : Int → Int → Int} {N r : Nat} {m : Int} (h : REL tB S' T0) (hx : hMT S0 T0 T' sm N r m) : REL tB S' T' :=
  h.alike (fun _ _ => rfl) (fun _ _ _ => rfl) rfl (extP.refl _) (fun k hk => hx.1 k (by omega) (by omega) (by omega)) (fun k _ _ => by rw [hx.2.1])
/-- who is the same, as numbers -/
theorem sm_ex (S : St) : ∃ sm : Int → Int → Int, ∀ a b : Int, (isSm S a b ∧ sm a b = 1) ∨ (¬ isSm S a b ∧ sm a b = 0) := by
  refine ⟨fun a b => @ite Int (isSm S a b) (Classical.propDecidable _) 1 0, fun a b => ?_⟩
  by_cases c : isSm S a b
  · exact Or.inl ⟨c, by simp [c]⟩
  · exact Or.inr ⟨c, by simp [c]⟩
theorem law_best {S T : St} {w : Int} {K : Int → St → Prop} (h : REL tB S T) (hK : ∀ r S', PostF tB (w_M_best w T) r S' → K r S') : w_X_best w S K := by
  obtain ⟨-, -, -, -, -, -, ⟨i0, i1, i2⟩, -⟩ := h.1.nums
  obtain ⟨N, hN⟩ := Int.eq_ofNat_of_zero_le i1
  have hN12 : N ≤ 12 := by omega
  obtain ⟨sm, hsm⟩ := sm_ex S
  unfold w_X_best
  refine p_in (fun w0 w1 => br1r ?_) (fun c => br0r (hK _ _ (fun K' hk => ?_)))
  · refine pX_lays h hN (fun a b _ _ _ _ => hsm a b) (fun S' hx => ?_)
    have R := hx.rel h
    have t := (hx.2.2.2.2.1 N (Nat.le_refl N) 0 (by omega) (by have := (p2N hN12).1; omega)).1
    rw [Nat.sub_self] at t
    have ok := (hF_ok (sm := sm) (tw := fun a => aI S (55 + a.toNat) 0) hN12 N 0).1
    have e5 : aI S' 0 5 = N := by rw [hx.1 0 (by omega)]; exact hN
    have inM : ∀ (r : Int), ((w = 0 → r = (N : Int) - (hF sm (fun a => aI S (55 + a.toNat) 0) N N 0).1) ∧ (w ≠ 0 → r = (hF sm (fun a => aI S (55 + a.toNat) 0) N N 0).2.1)) → K r S' := by
      intro r hr
      refine hK _ _ (fun K' hk => ?_)
      unfold w_M_best
      refine p_isIn (fun _ _ => br1r ?_) (fun c => absurd (by omega) c)
      refine pM_reckon h.1 hN (fun a b _ _ _ _ => hsm a b) (fun T2 hy => ?_)
      have t2 := (hy.2.2.2.1 N (Nat.le_refl N) 0 (by omega) (by have := (p2N hN12).1; omega)).1
      rw [Nat.sub_self] at t2
      have t3 : aI T2 12 0 = hQ N (hF sm (fun a => aI S (55 + a.toNat) 0) N N 0) := t2
      have R2 := hy.rel R
      rw [t3]
      generalize hF sm (fun a => aI S (55 + a.toNat) 0) N N 0 = c at ok hr t3 ⊢
      have qb : 0 ≤ hQ N c ∧ hQ N c ≤ 1300 := by unfold hQ; omega
      have e1 : Int.tdiv (hQ N c) 100 = (N : Int) - c.1 := by
        rw [Int.tdiv_eq_ediv_of_nonneg qb.1]
        unfold hQ
        omega
      have e2 : Int.tmod (hQ N c) 100 = c.2.1 := by
        rw [Int.tmod_eq_emod_of_nonneg qb.1]
        unfold hQ
        omega
      rw [e1, e2]
      refine ⟨fun wz => fun _ => ⟨by omega, ?_⟩, fun wz => fun _ => ⟨by omega, ?_⟩⟩
      · rw [← hr.2 wz]
        exact hk T2 R2
      · rw [← hr.1 wz]
        exact hk T2 R2
    rw [t, e5]
    generalize hF sm (fun a => aI S (55 + a.toNat) 0) N N 0 = c at ok inM ⊢
    have wb : -12 ≤ hW c ∧ hW c ≤ 12000 := by unfold hW; omega
    have e1 : Int.tdiv (hW c + 999) 1000 = c.1 := by
      rw [Int.tdiv_eq_ediv_of_nonneg (by omega)]
      unfold hW
      omega
    rw [e1]
    refine fun _ => ⟨by omega, by omega, ?_⟩
    rintro _ rfl
    refine fun _ => ⟨fun wz => ⟨by omega, by omega, inM _ ⟨fun z => absurd z wz, fun _ => by unfold hW; omega⟩⟩, fun wz => fun _ => ⟨by omega, inM _ ⟨fun _ => rfl, fun z => absurd wz z⟩⟩⟩
  · unfold w_M_best
    exact p_isIn (fun _ _ => absurd (by omega) c) (fun _ => br0r (hk T h))
theorem law_histories {S T : St} {K : Int → St → Prop} (h : REL tB S T) (hK : ∀ r S', PostF tB (w_M_histories T) r S' → K r S') : w_X_histories S K := by
  obtain ⟨-, -, -, -, -, -, ⟨i0, i1, i2⟩, -⟩ := h.1.nums
  obtain ⟨N, hN⟩ := Int.eq_ofNat_of_zero_le i1
  have hN12 : N ≤ 12 := by omega
  obtain ⟨sm, hsm⟩ := sm_ex S
  unfold w_X_histories
  refine pX_lays h hN (fun a b _ _ _ _ => hsm a b) (fun S' hx => ?_)
  have R := hx.rel h
  have t := (hx.2.2.2.2.1 N (Nat.le_refl N) 0 (by omega) (by have := (p2N hN12).1; omega)).2
  rw [Nat.sub_self] at t
  rw [t]
  refine fun _ => hK _ _ (fun K' hk => ?_)
  unfold w_M_histories
  refine pM_reckon h.1 hN (fun a b _ _ _ _ => hsm a b) (fun T2 hy => ?_)
  have t2 := (hy.2.2.2.1 N (Nat.le_refl N) 0 (by omega) (by have := (p2N hN12).1; omega)).2
  rw [Nat.sub_self] at t2
  have t3 : aI T2 13 0 = (hF sm (fun a => aI S (55 + a.toNat) 0) N N 0).2.2 := t2
  rw [t3]
  exact fun _ => hk T2 (hy.rel R)
