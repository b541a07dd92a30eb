/-! PURE: led -/
variable {tB : Int}
def hOn (sm : Int → Int → Int) (tw : Int → Int) (i mask : Int) (f : Int → H3) (g : H3) (j : Int) : Bool := if j < 0 then decide ((f mask).1 = g.1 ∧ (f mask).2.1 = g.2.1) else decide ((bt mask j = 0 ∧ sm j i = 1) ∧ (hC tw i mask f j).1 = g.1 ∧ (hC tw i mask f j).2.1 = g.2.1)
def hPk (on : Int → Bool) : Nat → Int → Int
  | 0, j => j
  | n + 1, j => if on j = true then j else hPk on n (j + 1)
theorem hPk_ok {on : Int → Bool} : ∀ (n : Nat) (j : Int), (∃ k, j ≤ k ∧ k < j + n ∧ on k = true) → on (hPk on n j) = true ∧ j ≤ hPk on n j ∧ hPk on n j < j + n ∧ ∀ k, j ≤ k → k < hPk on n j → on k = false := by
  intro n
  induction n with
  | zero => rintro j ⟨k, k0, k1, -⟩; omega
  | succ n ih =>
    rintro j ⟨k, k0, k1, k2⟩
    have e : hPk on (n + 1) j = if on j = true then j else hPk on n (j + 1) := rfl
    by_cases c : on j = true
    · rw [if_pos c] at e
      rw [e]
      exact ⟨c, Int.le_refl j, by omega, fun k q0 q1 => by omega⟩
    · rw [if_neg c] at e
      rw [e]
      have hk : k ≠ j := fun q => c (by rw [← q]; exact k2)
      obtain ⟨z1, z2, z3, z4⟩ := ih (j + 1) ⟨k, by omega, by omega, k2⟩
      refine ⟨z1, by omega, by omega, fun q q0 q1 => ?_⟩
      by_cases e2 : q = j
      · rw [e2]
        simpa using c
      · exact z4 q (by omega) q1
theorem hOn_ex {sm : Int → Int → Int} {tw : Int → Int} {i mask : Int} {f : Int → H3} (N : Nat) : ∃ k : Int, -1 ≤ k ∧ k < -1 + ((N + 1 : Nat) : Int) ∧ hOn sm tw i mask f (hA sm tw i mask f N) k = true := by
  rcases hA_some (sm := sm) (tw := tw) (i := i) (mask := mask) (f := f) N with ⟨h1, h2⟩ | ⟨b, b0, b1, b2, b3⟩
  · refine ⟨-1, by omega, by omega, ?_⟩
    unfold hOn
    rw [if_pos (by decide)]
    exact decide_eq_true ⟨h1.symm, h2.symm⟩
  · refine ⟨(b : Int), by omega, by omega, ?_⟩
    unfold hOn
    rw [if_neg (by omega)]
    exact decide_eq_true ⟨b1, b2.symm, b3.symm⟩
/-- whom the i-th is linked to; which are taken ahead of it -/
def hMk (sm : Int → Int → Int) (tw : Int → Int) (N : Nat) : Nat → Int
  | 0 => 0
  | i + 1 => if hPk (hOn sm tw i (hMk sm tw N i) (hF sm tw N (N - (i + 1))) (hF sm tw N (N - (i + 1) + 1) (hMk sm tw N i))) (N + 1) (-1) < 0 then hMk sm tw N i
    else iOr (hMk sm tw N i) (1 * 2 ^ (hPk (hOn sm tw i (hMk sm tw N i) (hF sm tw N (N - (i + 1))) (hF sm tw N (N - (i + 1) + 1) (hMk sm tw N i))) (N + 1) (-1)).toNat)
def hJ (sm : Int → Int → Int) (tw : Int → Int) (N : Nat) (i : Nat) : Int := hPk (hOn sm tw i (hMk sm tw N i) (hF sm tw N (N - (i + 1))) (hF sm tw N (N - (i + 1) + 1) (hMk sm tw N i))) (N + 1) (-1)
theorem hMk_up (sm : Int → Int → Int) (tw : Int → Int) (N i : Nat) : hMk sm tw N (i + 1) = if hJ sm tw N i < 0 then hMk sm tw N i else iOr (hMk sm tw N i) (1 * 2 ^ (hJ sm tw N i).toNat) := rfl
theorem hJ_ok {sm : Int → Int → Int} {tw : Int → Int} {N i : Nat} (hi : i < N) : hOn sm tw i (hMk sm tw N i) (hF sm tw N (N - (i + 1))) (hF sm tw N (N - (i + 1) + 1) (hMk sm tw N i)) (hJ sm tw N i) = true ∧ -1 ≤ hJ sm tw N i ∧ hJ sm tw N i < N ∧ ∀ k, -1 ≤ k → k < hJ sm tw N i → hOn sm tw i (hMk sm tw N i) (hF sm tw N (N - (i + 1))) (hF sm tw N (N - (i + 1) + 1) (hMk sm tw N i)) k = false := by
  have e : hF sm tw N (N - (i + 1) + 1) (hMk sm tw N i) = hA sm tw i (hMk sm tw N i) (hF sm tw N (N - (i + 1))) N := by
    show hA sm tw ((N : Int) - (((N - (i + 1) : Nat) : Int) + 1)) _ _ N = _
    rw [show (N : Int) - (((N - (i + 1) : Nat) : Int) + 1) = (i : Int) by omega]
  have z := hPk_ok (N + 1) (-1) (on := hOn sm tw i (hMk sm tw N i) (hF sm tw N (N - (i + 1))) (hF sm tw N (N - (i + 1) + 1) (hMk sm tw N i))) (by rw [e]; exact hOn_ex N)
  exact ⟨z.1, z.2.1, by have := z.2.2.1; show hPk _ _ _ < _; omega, z.2.2.2⟩
theorem hMk_bd {sm : Int → Int → Int} {tw : Int → Int} {N : Nat} (hN : N ≤ 12) : ∀ (i : Nat), i ≤ N → 0 ≤ hMk sm tw N i ∧ hMk sm tw N i < 2 ^ N := by
  intro i
  induction i with
  | zero =>
    intro _
    have := p2N hN
    exact ⟨Int.le_refl 0, by show (0 : Int) < _; omega⟩
  | succ i ih =>
    intro hi
    have z := ih (by omega)
    have j := hJ_ok (sm := sm) (tw := tw) (N := N) (i := i) (by omega)
    rw [hMk_up]
    by_cases c : hJ sm tw N i < 0
    · rw [if_pos c]
      exact z
    · rw [if_neg c]
      exact orm hN z ⟨by omega, j.2.2.1⟩
theorem iOr_0 {m : Int} (h : 0 ≤ m ∧ m < 65536) : iOr m 0 = m := by
  obtain ⟨a, rfl⟩ := Int.eq_ofNat_of_zero_le h.1
  have := iOr_nat (a := a) (b := 0) (by omega) (by omega)
  rw [Nat.or_zero] at this
  exact this
theorem law_led {S T : St} {w : Int} {K : Int → St → Prop} (h : REL tB S T) (hK : ∀ r S', PostF tB (w_M_led w T) r S' → K r S') : w_X_led w S K := by
  obtain ⟨-, -, -, -, -, -, ⟨i0, i1, i2⟩, -⟩ := h.1.nums
  obtain ⟨N, hN⟩ := Int.eq_ofNat_of_zero_le i1
  have hN12 : N ≤ 12 := by omega
  have p := p2N hN12
  obtain ⟨sm, hsm⟩ := sm_ex S
  have hs1 : ∀ a b : Int, 0 ≤ a → a < (N : Int) → 0 ≤ b → b < (N : Int) → sm a b = 1 ∨ sm a b = 0 := fun a b _ _ _ _ => by
    rcases hsm a b with q | q
    · exact Or.inl q.2
    · exact Or.inr q.2
  unfold w_X_led w_X_isSeen
  refine fun _ => ⟨by omega, p_in (fun w0 w1 => fun _ => br1r ?_) (fun c => fun _ => br0r (hK _ _ (fun K' hk => ?_)))⟩
  · obtain ⟨one, rfl⟩ := Int.eq_ofNat_of_zero_le w0
    have ho : one < N := by omega
    refine pX_lays h hN (fun a b _ _ _ _ => hsm a b) (fun S' hx => ?_)
    have R := hx.rel h
    have hwo := fun (r : Nat) (hr : r + 1 ≤ N) (mask a : Int) (K : Int → Prop) => pX_worthOf (r := r) (m := 0) (S' := S') (a := a) (mask := mask) (K := K) h hN hr (by
      obtain ⟨x1, x2, x3, x4, x5, x6⟩ := hx
      exact ⟨x1, x2, x3, x4, fun q hq mk k0 k1 => x5 q (by omega) mk k0 k1, fun mk k0 k1 => by omega⟩)
    have hmy := fun (i mask a : Int) (K : Int → Prop) => pX_may (i := i) (mask := mask) (a := a) (K := K) h hN hx (fun a b _ _ _ _ => hsm a b)
    have tab := hx.2.2.2.2.1
    obtain ⟨tw, htw⟩ : ∃ tw : Int → Int, tw = fun a : Int => aI S (55 + a.toNat) 0 := ⟨_, rfl⟩
    rw [← htw] at hwo tab
    -- the component's search at one
    have srch : ∀ (i : Nat) (X : Int → Prop), i < N → X (hJ sm tw N i) → ∀ (f : Nat) (j : Int), -1 ≤ j → j ≤ hJ sm tw N i → hJ sm tw N i - j < f → l_X_led_30 one (hMk sm tw N i) i S' K X f j := by
      intro i X hi hX f
      induction f with
      | zero => intro j j0 j1 j2; omega
      | succ f ih =>
        intro j j0 j1 j2
        obtain ⟨o1, o2, o3, o4⟩ := hJ_ok (sm := sm) (tw := tw) hi
        have mb := hMk_bd (sm := sm) (tw := tw) hN12 i (by omega)
        have okg := (hF_ok (sm := sm) (tw := tw) hN12 (N - (i + 1) + 1) (hMk sm tw N i)).1
        have ei : (N : Int) - (((N - (i + 1) : Nat) : Int) + 1) = (i : Int) := by omega
        have trow := (tab (N - (i + 1) + 1) (by omega) (hMk sm tw N i) mb.1 mb.2).1
        rw [show 103 + (N - (N - (i + 1) + 1)) = 103 + Int.toNat (i : Int) by omega] at trow
        have nx : hOn sm tw i (hMk sm tw N i) (hF sm tw N (N - (i + 1))) (hF sm tw N (N - (i + 1) + 1) (hMk sm tw N i)) j = false → j_X_led_61 one (hMk sm tw N i) j i S' K X (l_X_led_30 one (hMk sm tw N i) i S' K X f) := by
          intro hoff
          unfold j_X_led_61
          have : j ≠ hJ sm tw N i := fun q => by rw [q, o1] at hoff; exact absurd hoff (by decide)
          exact ⟨by omega, ih (j + 1) (by omega) (by omega) (by omega)⟩
        have hit : hOn sm tw i (hMk sm tw N i) (hF sm tw N (N - (i + 1))) (hF sm tw N (N - (i + 1) + 1) (hMk sm tw N i)) j = true → X j := by
          intro hon
          have : j = hJ sm tw N i := by
            by_cases q : j < hJ sm tw N i
            · have := o4 j j0 q
              rw [hon] at this
              exact absurd this (by decide)
            · omega
          rw [this]
          exact hX
        have cmp : ∀ c : H3, (0 ≤ c.2.1 ∧ c.2.1 ≤ c.1 ∧ c.1 ≤ 13) → (hOn sm tw i (hMk sm tw N i) (hF sm tw N (N - (i + 1))) (hF sm tw N (N - (i + 1) + 1) (hMk sm tw N i)) j = decide (c.1 = (hF sm tw N (N - (i + 1) + 1) (hMk sm tw N i)).1 ∧ c.2.1 = (hF sm tw N (N - (i + 1) + 1) (hMk sm tw N i)).2.1)) →
            InR (hW c) → ((0 : Int) ≤ (i : Int) ∧ (i : Int) < 13) ∧ (((0 : Int) ≤ hMk sm tw N i ∧ hMk sm tw N i < 4096) ∧ ((InR (aI S' (103 + Int.toNat (i : Int)) (hMk sm tw N i)) → ((hW c = (aI S' (103 + Int.toNat (i : Int)) (hMk sm tw N i)) → X j) ∧ (¬ (hW c = (aI S' (103 + Int.toNat (i : Int)) (hMk sm tw N i))) → j_X_led_61 one (hMk sm tw N i) j i S' K X (l_X_led_30 one (hMk sm tw N i) i S' K X f)))))) := by
          intro c hc he _
          rw [trow]
          refine ⟨by omega, by omega, fun _ => ⟨fun q => hit ?_, fun q => nx ?_⟩⟩
          · rw [he]
            refine decide_eq_true ?_
            unfold hW at q
            omega
          · rw [he]
            refine decide_eq_false ?_
            rintro ⟨q1, q2⟩
            refine q ?_
            unfold hW
            omega
        unfold l_X_led_30
        by_cases jn : j = -1
        · subst jn
          have okf := (hF_ok (sm := sm) (tw := tw) hN12 (N - (i + 1)) (hMk sm tw N i)).1
          have t2 := (tab (N - (i + 1)) (by omega) (hMk sm tw N i) mb.1 mb.2).1
          rw [show 103 + (N - (N - (i + 1))) = 103 + Int.toNat ((i : Int) + 1) by omega] at t2
          refine ⟨fun _ => br1 ?_, fun z => absurd rfl z⟩
          refine ⟨fun z => absurd rfl z, fun _ => ⟨by omega, by omega, by omega, fun _ => ?_⟩⟩
          rw [t2]
          exact cmp _ (by omega) (by unfold hOn; rw [if_pos (by decide)])
        · refine hmy i _ j _ (by omega) (by omega) (fun z1 z2 => br1 ?_) (fun z => br0 (nx ?_))
          · have okc := (hC_ok (tw := tw) (i := (i : Int)) (mask := hMk sm tw N i) (a := j) (fun m => hF_ok (sm := sm) (tw := tw) hN12 (N - (i + 1)) m)).1
            have q := hwo (N - (i + 1)) (by omega) (hMk sm tw N i) j
            rw [ei] at q
            refine q _ mb (by omega) (cmp _ (by omega) ?_)
            unfold hOn
            rw [if_neg (by omega)]
            refine decide_eq_decide.mpr ⟨fun q => q.2, fun q => ⟨⟨z1, z2⟩, q⟩⟩
          · unfold hOn
            rw [if_neg (by omega)]
            exact decide_eq_false (fun q => z q.1)
    have wlk : (∀ K' : Int → St → Prop, (∀ T', REL tB S' T' → K' (hJ sm tw N one) T') → w_M_led one T K') → ∀ (f : Nat) (i : Nat) (a : Int), i ≤ one + 1 → one + 1 - i < f → (i = one + 1 → a = hJ sm tw N one) → l_X_led_22 one S' K f (hMk sm tw N i) a i := by
      intro hM f
      induction f with
      | zero => intro i a a0 a1; omega
      | succ f ih =>
        intro i a a0 a1 a2
        unfold l_X_led_22
        refine ⟨fun c => ?_, fun c => ?_⟩
        · rw [a2 (by omega)]
          exact hK _ _ (fun K' hk => hM K' hk)
        · have j := hJ_ok (sm := sm) (tw := tw) (N := N) (i := i) (by omega)
          have mb := hMk_bd (sm := sm) (tw := tw) hN12 i (by omega)
          refine ⟨N + 2, srch i _ (by omega) ?_ (N + 2) (-1) (by omega) j.2.1 (by omega)⟩
          have ih' := ih (i + 1) (hJ sm tw N i) (by omega) (by omega) (fun q => by rw [show i = one by omega])
          rw [hMk_up] at ih'
          unfold j_X_led_67 j_X_led_80
          refine ⟨fun z => ?_, fun z => ?_⟩
          · rw [if_neg (by omega)] at ih'
            have pa : (2 : Int) ^ (hJ sm tw N i).toNat ≤ 4096 := by
              have := p2_mono (m := hJ sm tw N i) (n := 12) (by omega)
              exact this
            have pa0 : (0 : Int) < 2 ^ (hJ sm tw N i).toNat := Int.pow_pos (by decide)
            refine ⟨by omega, by omega, ?_⟩
            rintro _ rfl
            exact fun _ => ⟨by omega, ih'⟩
          · rw [if_pos (by omega)] at ih'
            rintro _ rfl
            rw [iOr_0 (by omega)]
            exact fun _ => ⟨by omega, ih'⟩
    refine ⟨one + 2, wlk (fun K' hk => ?_) (one + 2) 0 (-1) (by omega) (by omega) (fun q => by omega)⟩
    -- the twin
    unfold w_M_led
    refine fun _ => ⟨by omega, p_isIn (fun _ _ => br1r ?_) (fun c => absurd (by omega) c)⟩
    refine pM_reckon h.1 hN (fun a b _ _ _ _ => hsm a b) (fun T2 hy => ?_)
    have R2 := hy.rel R
    have n6 : aI T2 0 6 = N := by rw [hy.a0, i0, hN]
    have hco := fun (i a : Int) (K : Int → Prop) => pM_costOf (K := K) (i := i) (a := a) h.1 hN hy
    have hmy2 := fun (i mask a : Int) (K : Int → Prop) => pM_mayBe (i := i) (mask := mask) (a := a) (K := K) hN12 hy hs1
    have tab2 := hy.2.2.2.1
    rw [← htw] at tab2
    have twe : ∀ a : Int, aI S (55 + a.toNat) 0 = tw a := fun a => by rw [htw]
    have srch2 : ∀ (i : Nat) (X : Int → Prop), i < N → X (hJ sm tw N i) → ∀ (f : Nat) (j : Int), -1 ≤ j → j ≤ hJ sm tw N i → hJ sm tw N i - j < f → l_M_led_42 one (hMk sm tw N i) i T2 K' X f j := by
      intro i X hi hX f
      induction f with
      | zero => intro j j0 j1 j2; omega
      | succ f ih =>
        intro j j0 j1 j2
        obtain ⟨o1, o2, o3, o4⟩ := hJ_ok (sm := sm) (tw := tw) hi
        have mb := hMk_bd (sm := sm) (tw := tw) hN12 i (by omega)
        have okg := (hF_ok (sm := sm) (tw := tw) hN12 (N - (i + 1) + 1) (hMk sm tw N i)).1
        have trow := (tab2 (N - (i + 1) + 1) (by omega) (hMk sm tw N i) mb.1 mb.2).1
        rw [show 4096 * ((N - (N - (i + 1) + 1) : Nat) : Int) = 4096 * (i : Int) by omega] at trow
        have nx : hOn sm tw i (hMk sm tw N i) (hF sm tw N (N - (i + 1))) (hF sm tw N (N - (i + 1) + 1) (hMk sm tw N i)) j = false → j_M_led_89 one (hMk sm tw N i) i j T2 K' X (l_M_led_42 one (hMk sm tw N i) i T2 K' X f) := by
          intro hoff
          unfold j_M_led_89
          have : j ≠ hJ sm tw N i := fun q => by rw [q, o1] at hoff; exact absurd hoff (by decide)
          exact ⟨by omega, ih (j + 1) (by omega) (by omega) (by omega)⟩
        have hit : hOn sm tw i (hMk sm tw N i) (hF sm tw N (N - (i + 1))) (hF sm tw N (N - (i + 1) + 1) (hMk sm tw N i)) j = true → X j := by
          intro hon
          have : j = hJ sm tw N i := by
            by_cases q : j < hJ sm tw N i
            · have := o4 j j0 q
              rw [hon] at this
              exact absurd this (by decide)
            · omega
          rw [this]
          exact hX
        have cmp : ∀ (c : H3) (v : Int), (0 ≤ c.2.1 ∧ c.2.1 ≤ c.1 ∧ c.1 ≤ 13) → (hOn sm tw i (hMk sm tw N i) (hF sm tw N (N - (i + 1))) (hF sm tw N (N - (i + 1) + 1) (hMk sm tw N i)) j = decide (c.1 = (hF sm tw N (N - (i + 1) + 1) (hMk sm tw N i)).1 ∧ c.2.1 = (hF sm tw N (N - (i + 1) + 1) (hMk sm tw N i)).2.1)) → v = hQ ((N - (i + 1) + 1 : Nat) : Int) c →
            InR v ∧ (InR (4096 * (i : Int)) ∧ (InR ((4096 * (i : Int)) + hMk sm tw N i) ∧ (((0 : Int) ≤ (4096 * (i : Int)) + hMk sm tw N i ∧ (4096 * (i : Int)) + hMk sm tw N i < 53248) ∧ ((InR (aI T2 12 ((4096 * (i : Int)) + hMk sm tw N i)) → ((v = (aI T2 12 ((4096 * (i : Int)) + hMk sm tw N i)) → X j) ∧ (¬ (v = (aI T2 12 ((4096 * (i : Int)) + hMk sm tw N i))) → j_M_led_89 one (hMk sm tw N i) i j T2 K' X (l_M_led_42 one (hMk sm tw N i) i T2 K' X f)))))))) := by
          intro c v hc he hv
          rw [trow]
          have vb : -1300 ≤ v ∧ v ≤ 1400 := by rw [hv]; unfold hQ; omega
          refine ⟨by omega, by omega, by omega, by omega, fun _ => ⟨fun q => hit ?_, fun q => nx ?_⟩⟩
          · rw [he]
            refine decide_eq_true ?_
            rw [hv] at q
            unfold hQ at q
            omega
          · rw [he]
            refine decide_eq_false ?_
            rintro ⟨q1, q2⟩
            refine q ?_
            rw [hv]
            unfold hQ
            omega
        unfold l_M_led_42
        by_cases jn : j = -1
        · subst jn
          have okf := (hF_ok (sm := sm) (tw := tw) hN12 (N - (i + 1)) (hMk sm tw N i)).1
          have t2 := (tab2 (N - (i + 1)) (by omega) (hMk sm tw N i) mb.1 mb.2).1
          rw [show 4096 * ((N - (N - (i + 1)) : Nat) : Int) = 4096 * ((i : Int) + 1) by omega] at t2
          refine pM_mayBe0 (br1 ?_)
          unfold w_M_costOf
          refine ⟨fun z => absurd z (by decide), fun _ => fun _ => pM_behind0 hN12 (by omega) mb (fun _ => ⟨by omega, fun _ => ?_⟩)⟩
          rw [t2]
          exact cmp (hF sm tw N (N - (i + 1)) (hMk sm tw N i)) _ (by omega) (by unfold hOn; rw [if_pos (by decide)]) (by unfold hQ; omega)
        · refine hmy2 i _ j _ (by omega) (by omega) (fun z1 z2 => br1 ?_) (fun z => br0 (nx ?_))
          · have okc := (hC_ok (tw := tw) (i := (i : Int)) (mask := hMk sm tw N i) (a := j) (fun m => hF_ok (sm := sm) (tw := tw) hN12 (N - (i + 1)) m)).1
            have o := orm hN12 mb (a := j) (by omega)
            have t2 := (tab2 (N - (i + 1)) (by omega) _ o.1 o.2).1
            rw [show 4096 * ((N - (N - (i + 1)) : Nat) : Int) = 4096 * ((i : Int) + 1) by omega] at t2
            refine hco i j _ (by omega) (by omega) (fun _ => pM_behind hN12 (by omega) (by omega) mb (fun _ => ⟨by omega, fun _ => ?_⟩))
            rw [t2, twe, twe]
            refine cmp (hC tw i (hMk sm tw N i) (hF sm tw N (N - (i + 1))) j) _ (by omega) ?_ ?_
            · unfold hOn
              rw [if_neg (by omega)]
              exact decide_eq_decide.mpr ⟨fun q => q.2, fun q => ⟨⟨z1, z2⟩, q⟩⟩
            · unfold hQ hC
              dsimp only
              omega
          · unfold hOn
            rw [if_neg (by omega)]
            exact decide_eq_false (fun q => z q.1)
    have wlk2 : ∀ (f : Nat) (i : Nat), i ≤ one → one - i < f → l_M_led_28 one T2 K' f (hMk sm tw N i) i := by
      intro f
      induction f with
      | zero => intro i a0 a1; omega
      | succ f ih =>
        intro i a0 a1
        have j := hJ_ok (sm := sm) (tw := tw) (N := N) (i := i) (by omega)
        have mb := hMk_bd (sm := sm) (tw := tw) hN12 i (by omega)
        unfold l_M_led_28
        rw [n6]
        refine fun _ => ⟨fun c => absurd c (by omega), fun _ => ⟨N + 2, srch2 i _ (by omega) ?_ (N + 2) (-1) (by omega) j.2.1 (by omega)⟩⟩
        unfold j_M_led_95
        refine ⟨fun z => ?_, fun z => ?_⟩
        · have ih' := ih (i + 1) (by omega) (by omega)
          rw [hMk_up] at ih'
          by_cases jn : hJ sm tw N i = -1
          · rw [if_pos (by omega)] at ih'
            rw [jn]
            refine pM_behind0 hN12 (by omega) mb (fun _ => ⟨by omega, by omega, by omega, ?_⟩)
            rw [show 4096 * ((i : Int) + 1) + hMk sm tw N i - 4096 * ((i : Int) + 1) = hMk sm tw N i by omega]
            rintro _ rfl
            exact fun _ => ih'
          · rw [if_neg (by omega)] at ih'
            have o := orm hN12 mb (a := hJ sm tw N i) (by omega)
            refine pM_behind hN12 (by omega) (by omega) mb (fun _ => ⟨by omega, by omega, by omega, ?_⟩)
            rw [show 4096 * ((i : Int) + 1) + iOr (hMk sm tw N i) (1 * 2 ^ (hJ sm tw N i).toNat) - 4096 * ((i : Int) + 1) = iOr (hMk sm tw N i) (1 * 2 ^ (hJ sm tw N i).toNat) by omega]
            rintro _ rfl
            exact fun _ => ih'
        · rw [show i = one by omega]
          exact hk T2 R2
    exact ⟨one + 1, wlk2 (one + 1) 0 (by omega) (by omega)⟩
  · unfold w_M_led
    exact fun _ => ⟨by omega, p_isIn (fun _ _ => absurd (by omega) c) (fun _ => br0r (hk T h))⟩
