/-! PURE: rounds: the component's tries against the twin's -/
variable {tB : Int}
theorem pM_copy124 {x2 x3 x4 : Int} {K : Int → St → Prop} {X : St → Prop} {T : St} (h3 : 0 ≤ x3 ∧ x3 ≤ 8) : ∀ (m : Nat) (j : Int) (f : Int → Int), 0 ≤ j → j ≤ x3 → x3 - j < m → X (aput T 16 (fun y => if j ≤ y ∧ y < x3 then aI T 15 y else f y)) → l_M_round_124 x2 x3 x4 K X m j (aput T 16 f) := by
  intro m
  induction m with
  | zero => intro j f j0 j1 j2; omega
  | succ m ih =>
    intro j f j0 j1 j2 hX
    unfold l_M_round_124
    refine ⟨fun c => ?_, fun c => ⟨by omega, fun _ => ⟨by omega, ?_⟩⟩⟩
    · refine cast (congrArg (fun g => X (aput T 16 g)) ?_) hX
      funext y
      rw [if_neg (by omega)]
    · rintro _ rfl
      rw [aset_aput, aI_aput_n (by omega)]
      refine ⟨by omega, ih (j + 1) _ (by omega) (by omega) (by omega) ?_⟩
      refine cast (congrArg (fun g => X (aput T 16 g)) ?_) hX
      funext y
      by_cases c1 : y = j
      · rw [if_pos (by omega), if_neg (by omega), if_pos c1, c1]
      · by_cases c2 : j + 1 ≤ y ∧ y < x3
        · rw [if_pos (by omega), if_pos c2]
        · rw [if_neg (by omega), if_neg c2, if_neg c1]
def rHd (x2 n : Int) (K' : Int → St → Prop) (l : Int) (T : St) : Prop := ∃ m, l_M_round_93 x2 n K' (fun z4 zS => j_M_round_160 x2 z4 zS K') m l 1 T
def rAf (x2 n : Int) (K' : Int → St → Prop) (l : Int) (T : St) : Prop := ∃ m, j_M_round_150 x2 n l T K' (fun z4 zS => j_M_round_160 x2 z4 zS K') (l_M_round_93 x2 n K' (fun z4 zS => j_M_round_160 x2 z4 zS K') m)
def rXS (S0 S' : St) : Prop := (∀ k, k ≠ 13 → k ≠ 14 → aI S' k = aI S0 k) ∧ (∀ k, k ≠ 19 → fI S' k = fI S0 k) ∧ rI S' = rI S0 ∧ gI S' = gI S0
def rMS (T0 T' : St) : Prop := (∀ k, k ≠ 15 → k ≠ 16 → aI T' k = aI T0 k) ∧ fI T' = fI T0
def rBR (n l : Int) (S' T' : St) : Prop := fI S' 19 = l ∧ (l = -1 ∨ (0 ≤ l ∧ l ≤ 2000)) ∧ (l ≠ -1 → ∀ i, 0 ≤ i → i < n → aI S' 14 i = aI T' 16 i)
theorem rXS.now {S0 T0 S' T' : St} (h : REL tB S0 T0) (hx : rXS S0 S') (hm : rMS T0 T') : REL tB S' T' :=
  h.alike (fun k hk => hx.1 k (by omega) (by omega)) (fun k k0 k1 => hx.2.1 k (by omega)) hx.2.2.1 (by rw [hx.2.2.2]; exact extP.refl _) (fun k hk => hm.1 k (by omega) (by omega)) (fun k _ _ => by rw [hm.2])
theorem goes {S0 T0 : St} {n x2 : Int} (h : REL tB S0 T0) (hn : 1 ≤ n ∧ n ≤ 8) (hp : mono (aI S0 12) n) (hpr : ∀ i, 0 ≤ i → i < n → 0 ≤ aI S0 12 i ∧ aI S0 12 i < aI S0 0 0) (h18 : fI S0 18 = n) :
    ∀ (d : Nat) (k U : Int) (l : Int) (S' T' : St) (K : St → Prop), n - k < d → 1 ≤ k → k ≤ n → rXS S0 S' → rMS T0 T' → rBR n l S' T' → (∀ i, 0 ≤ i → i < k → aI S' 13 i = aI T' 15 i) → AS (aI S0 12) n U k (aI T' 15) → (∀ i, 0 ≤ i → i < n → 0 ≤ aI T' 15 i ∧ aI T' 15 i < aI S0 0 0) → (0 ≤ U ∧ U < 65536) → bt U 0 = 1 →
    (∀ S2 T2 l2, l2 ≠ -1 → rXS S0 S2 → rMS T0 T2 → rBR n l2 S2 T2 → (∀ i, 0 ≤ i → i < k → aI S2 13 i = aI T2 15 i) → DS (aI S0 12) n U k (aI T2 15) → (∀ i, 0 ≤ i → i < n → 0 ≤ aI T2 15 i ∧ aI T2 15 i < aI S0 0 0) → (∀ i, 0 ≤ i → i < k → aI T2 15 i = aI T' 15 i) → (∀ K', rAf x2 n K' l2 T2 → rHd x2 n K' l T') → K S2) →
    w_X_goesRound d k U (pth (dist (aI S0 1) (aI S0 2)) (aI T' 15) (k - 1).toNat) S' K := by
  have hD := dist_bd h.1
  intro d
  induction d with
  | zero => intro k U l S' T' K hd; omega
  | succ d ih =>
    intro k U l S' T' K hd k1 kn hx hm hb hpre has hr hU hU0 hK
    have R := rXS.now h hx hm
    have e12 : aI S' 12 = aI S0 12 := hx.1 12 (by omega) (by omega)
    have e1 : aI S' 1 = aI S0 1 := hx.1 1 (by omega) (by omega)
    have e2 : aI S' 2 = aI S0 2 := hx.1 2 (by omega) (by omega)
    have e00 : aI S' 0 = aI S0 0 := hx.1 0 (by omega) (by omega)
    have f18 : fI S' 18 = n := by rw [hx.2.1 18 (by omega)]; exact h18
    have pb := pth_bd hD (k - 1).toNat (f := aI T' 15) (fun i i0 i1 => hr i i0 (by omega))
    show b_X_goesRound (w_X_goesRound d) k U _ S' K
    unfold b_X_goesRound
    rw [f18]
    refine fun _ => ⟨fun c => ?_, fun c => ?_⟩
    · -- a town more
      have loop : ∀ (m : Nat) (i : Int) (S1 T1 : St) (l1 : Int), n - i < m → 1 ≤ i → i ≤ n → rXS S0 S1 → rMS T0 T1 → rBR n l1 S1 T1 → (∀ j, 0 ≤ j → j < k → aI S1 13 j = aI T1 15 j) → (∀ j, 0 ≤ j → j < n → 0 ≤ aI T1 15 j ∧ aI T1 15 j < aI S0 0 0) → (∀ j, 0 ≤ j → j < k → aI T1 15 j = aI T' 15 j) →
          ((∃ s, i ≤ s ∧ s < n ∧ bt U s = 0 ∧ (∀ t, i ≤ t → t < s → bt U t = 1) ∧ aI T1 15 k = aI S0 12 s ∧ (∀ U2, (∀ i, 0 ≤ i → bt U2 i = if i = s then 1 else bt U i) → AS (aI S0 12) n U2 (k + 1) (aI T1 15)) ∧ ∀ K', rHd x2 n K' l1 T1 → rHd x2 n K' l T') ∨
            ((∀ t, i ≤ t → t < n → bt U t = 1) ∧ l1 ≠ -1 ∧ DS (aI S0 12) n U k (aI T1 15) ∧ ∀ K', rAf x2 n K' l1 T1 → rHd x2 n K' l T')) →
          l_X_goesRound_75 (w_X_goesRound d) k U (pth (dist (aI S0 1) (aI S0 2)) (aI T' 15) (k - 1).toNat) K m i S1 := by
        intro m
        induction m with
        | zero => intro i S1 T1 l1 q; omega
        | succ m ihm =>
          intro i S1 T1 l1 q0 q1 q2 hx1 hm1 hb1 hp1 hr1 hs1 hcase
          have g18 : fI S1 18 = n := by rw [hx1.2.1 18 (by omega)]; exact h18
          have g12 : aI S1 12 = aI S0 12 := hx1.1 12 (by omega) (by omega)
          unfold l_X_goesRound_75 j_X_goesRound_143
          rw [g18]
          refine fun _ => ⟨fun ce => ?_, fun ce => ⟨by omega, fun cu => ?_, fun cu => ⟨by omega, ?_⟩⟩⟩
          · rcases hcase with ⟨s, s0, s1, -⟩ | ⟨-, hl, hds, hk'⟩
            · omega
            · exact hK S1 T1 l1 hl hx1 hm1 hb1 hp1 hds hr1 hs1 hk'
          · rw [bt_div] at cu
            have bi : bt U i = 0 := by rcases bt_01 U i with z | z <;> omega
            rcases hcase with ⟨s, s0, s1, sU, smin, sf, sas, shd⟩ | ⟨hall, -⟩
            · have es : s = i := by
                by_cases z : i < s
                · have := smin i (Int.le_refl i) z
                  omega
                · omega
              subst es
              have hU2 : ∀ j, 0 ≤ j → bt (iOr U (1 * 2 ^ s.toNat)) j = if j = s then 1 else bt U j := fun j j0 => bt_or hU ⟨by omega, by omega⟩ j0
              have hU3 := iOr_lt (n := 16) (x := U) (t := s) ⟨hU.1, hU.2⟩ (by omega) (by omega)
              have p2 : (2 : Int) ^ (16 : Int).toNat = 65536 := by decide
              have pt : (2 : Int) ^ s.toNat ≤ 65536 := p2_mono (n := 16) (by omega)
              have pt0 : (0 : Int) < 2 ^ s.toNat := Int.pow_pos (by decide)
              rw [g12]
              refine ⟨by omega, fun _ => ⟨by omega, ?_⟩⟩
              rintro _ rfl
              have e13 : ∀ j, j ≠ k → aI (aset S1 13 k (aI S0 12 s)) 13 j = aI S1 13 j := fun j hj => aI_aset_i hj
              have hx2 : rXS S0 (aset S1 13 k (aI S0 12 s)) := ⟨fun j a b => by rw [← hx1.1 j a b]; funext y; exact aI_aset_j a, hx1.2.1, hx1.2.2.1, hx1.2.2.2⟩
              have R2 := rXS.now h hx2 hm1
              have n00 : aI (aset S1 13 k (aI S0 12 s)) 0 = aI S0 0 := hx2.1 0 (by omega) (by omega)
              have n1 : aI (aset S1 13 k (aI S0 12 s)) 1 = aI S0 1 := hx2.1 1 (by omega) (by omega)
              have n2 : aI (aset S1 13 k (aI S0 12 s)) 2 = aI S0 2 := hx2.1 2 (by omega) (by omega)
              refine ⟨by omega, by omega, by omega, by omega, by omega, fun _ => ⟨by omega, fun _ => ?_⟩⟩
              rw [aI_aset_s, e13 (k - 1) (by omega), hp1 (k - 1) (by omega) (by omega)]
              have rk := hr1 (k - 1) (by omega) (by omega)
              have rs := hpr s (by omega) s1
              refine pX_miles R2.1 (by rw [n00]; exact rk) (by rw [n00]; exact rs) (fun d0 d1 _ => ⟨?_, ?_⟩)
              · rw [n1, n2] at d0 d1 ⊢
                omega
              · rw [n1, n2]
                have ep : pth (dist (aI S0 1) (aI S0 2)) (aI T' 15) (k - 1).toNat + dist (aI S0 1) (aI S0 2) (aI T1 15 (k - 1)) (aI S0 12 s) = pth (dist (aI S0 1) (aI S0 2)) (aI T1 15) (k + 1 - 1).toNat := by
                  rw [show (k + 1 - 1).toNat = (k - 1).toNat + 1 by omega]
                  show _ = pth (dist (aI S0 1) (aI S0 2)) (aI T1 15) (k - 1).toNat + dist (aI S0 1) (aI S0 2) (aI T1 15 ((k - 1).toNat : Int)) (aI T1 15 (((k - 1).toNat : Int) + 1))
                  rw [show (((k - 1).toNat : Nat) : Int) = k - 1 by omega, show k - 1 + 1 = k by omega, sf]
                  rw [pth_congr (k - 1).toNat (fun j j0 j1 => (hs1 j j0 (by omega)).symm)]
                rw [ep]
                refine ih (k + 1) (iOr U (1 * 2 ^ s.toNat)) l1 _ T1 _ (by omega) (by omega) (by omega) hx2 hm1 ?_ (fun j j0 j1 => ?_) (sas _ hU2) hr1 (by omega) ?_ (fun S2 T2 l2 t0 t1 t2 t3 t4 t5 t6 t7 t8 => ?_)
                · obtain ⟨z1, z2, z3⟩ := hb1
                  exact ⟨z1, z2, fun z j j0 j1 => by rw [aI_aset_j (by omega)]; exact z3 z j j0 j1⟩
                · by_cases z : j = k
                  · rw [z, aI_aset_s, sf]
                  · rw [e13 j z]
                    exact hp1 j j0 (by omega)
                · rw [hU2 0 (by omega), if_neg (by omega)]
                  exact hU0
                · refine ⟨by omega, ?_⟩
                  have tk : aI T2 15 k = aI S0 12 s := by rw [t7 k (by omega) (by omega), sf]
                  have tp : ∀ j, 0 ≤ j → j < k → aI T2 15 j = aI T' 15 j := fun j j0 j1 => by rw [t7 j j0 (by omega)]; exact hs1 j j0 j1
                  rcases unused (U := U) (n := n) (n - (s + 1)).toNat (s + 1) (by omega) with ⟨s', a0, a1, a2, a3⟩ | hno
                  · obtain ⟨j, j0, j1, j2, j3, j4⟩ := DS.next (s' := s') hp ⟨by omega, s1⟩ sU hU2 t5 (by omega) tk ⟨by omega, a1⟩ a2 (fun t z0 z1 => a3 t (by omega) z1)
                    have eg : aI (aput T2 15 (turn (exch (aI T2 15) k j) (k + 1) (n - 1))) 15 = turn (exch (aI T2 15) k j) (k + 1) (n - 1) := by funext y; exact aI_aput_s _ _ _ _
                    have lo : ∀ y, y < k → turn (exch (aI T2 15) k j) (k + 1) (n - 1) y = aI T2 15 y := by
                      intro y hy
                      unfold turn exch
                      rw [if_neg (by omega), if_neg (by omega), if_neg (by omega)]
                    have atk : turn (exch (aI T2 15) k j) (k + 1) (n - 1) k = aI S0 12 s' := by
                      unfold turn exch
                      rw [if_neg (by omega), if_neg (by omega), if_pos rfl, j3]
                    refine ihm (s + 1) S2 (aput T2 15 (turn (exch (aI T2 15) k j) (k + 1) (n - 1))) l2 (by omega) (by omega) (by omega) t1 ?_ ?_ ?_ ?_ ?_ (Or.inl ⟨s', a0, a1, a2, a3, ?_, ?_, ?_⟩)
                    · exact ⟨fun q z1 z2 => by rw [← t2.1 q z1 z2]; funext y; exact aI_aput_n z1, t2.2⟩
                    · obtain ⟨z1, z2, z3⟩ := t3
                      exact ⟨z1, z2, fun z y y0 y1 => by rw [aI_aput_n (by omega)]; exact z3 z y y0 y1⟩
                    · intro y y0 y1
                      rw [eg, lo y y1]
                      exact t4 y y0 (by omega)
                    · intro y y0 y1
                      rw [eg]
                      by_cases z : y < k
                      · rw [lo y z]
                        exact t6 y y0 y1
                      · by_cases z2 : y = k
                        · rw [z2, atk]
                          exact hpr s' (by omega) a1
                        · obtain ⟨w, w0, w1, w2, w3⟩ := (j4 (iOr U (1 * 2 ^ s'.toNat)) (fun i i0 => bt_or hU ⟨by omega, by omega⟩ i0)).1.1 y (by omega) y1
                          rw [w3]
                          exact hpr w w0 w1
                    · intro y y0 y1
                      rw [eg, lo y y1]
                      exact tp y y0 y1
                    · rw [eg]
                      exact atk
                    · intro U4 hU4
                      rw [eg]
                      exact j4 U4 hU4
                    · intro K' hk'
                      obtain ⟨mm, hmm⟩ := hk'
                      refine shd K' (t8 K' ⟨mm, ?_⟩)
                      unfold j_M_round_150
                      exact pM_nextOrder (by omega) (by omega) j0 (fun a b z0 z1 z2 => t5.2 a b (by omega) z1 z2) j1 (fun a z0 z1 => j2 a z0 z1) (fun _ => hmm)
                  · refine ihm (s + 1) S2 T2 l2 (by omega) (by omega) (by omega) t1 t2 t3 (fun y y0 y1 => t4 y y0 (by omega)) t6 tp (Or.inr ⟨fun t z0 z1 => hno t (by omega) z1, t0, DS.last hp ⟨by omega, s1⟩ sU hU2 t5 (by omega) tk (fun t z0 z1 => hno t (by omega) z1), fun K' hk' => shd K' (t8 K' hk')⟩)
            · have := hall i (Int.le_refl i) (by omega)
              omega
          · rw [bt_div] at cu
            refine ihm (i + 1) S1 T1 l1 (by omega) (by omega) (by omega) hx1 hm1 hb1 hp1 hr1 hs1 ?_
            rcases hcase with ⟨s, s0, s1, sU, smin, sf, sas, shd⟩ | ⟨hall, hl, hds, hk'⟩
            · refine Or.inl ⟨s, ?_, s1, sU, fun t z0 z1 => smin t (by omega) z1, sf, sas, shd⟩
              by_cases z : s = i
              · rw [z] at sU
                omega
              · omega
            · exact Or.inr ⟨fun t z0 z1 => hall t (by omega) z1, hl, hds, hk'⟩
      obtain ⟨s, s01, sU, sf, smin, sas⟩ := has.first hp (by omega)
      have s1 : 1 ≤ s := by
        by_cases z : s = 0
        · rw [z] at sU
          omega
        · omega
      exact ⟨(n + 1).toNat, loop (n + 1).toNat 1 S' T' l (by omega) (by omega) (by omega) hx hm hb hpre hr (fun j _ _ => rfl) (Or.inl ⟨s, s1, s01.2, sU, fun t z0 z1 => smin t (by omega) z1, sf, sas, fun K' hk' => hk'⟩)⟩
    · -- all towns tried
      have rk := hr (k - 1) (by omega) (by omega)
      have r0 := hr 0 (by omega) (by omega)
      have dd := hD _ _ rk.1 rk.2 r0.1 r0.2
      refine ⟨by omega, by omega, fun _ => fun _ => ?_⟩
      rw [hpre (k - 1) (by omega) (by omega), hpre 0 (by omega) (by omega)]
      refine pX_miles R.1 (by rw [e00]; exact rk) (by rw [e00]; exact r0) (fun d0 d1 _ => ?_)
      rw [e1, e2]
      refine ⟨by omega, ?_⟩
      have et : pth (dist (aI S0 1) (aI S0 2)) (aI T' 15) (k - 1).toNat + dist (aI S0 1) (aI S0 2) (aI T' 15 (k - 1)) (aI T' 15 0) = tot (dist (aI S0 1) (aI S0 2)) (aI T' 15) n := by
        unfold tot
        rw [c]
      intro v hv _
      have tt : v = tot (dist (aI S0 1) (aI S0 2)) (aI T' 15) n := by rw [hv, et]
      have vb : 0 ≤ v ∧ v ≤ 2000 := by omega
      obtain ⟨b1, b2, b3⟩ := hb
      have hds : DS (aI S0 12) n U k (aI T' 15) := ⟨has.1, fun a b z0 z1 z2 => by omega⟩
      have head : ∀ (K' : Int → St → Prop), ((l = -1 ∨ v < l) → rAf x2 n K' v (aput T' 16 (fun y => if 0 ≤ y ∧ y < n then aI T' 15 y else aI T' 16 y)) → rHd x2 n K' l T') ∧ ((l ≠ -1 ∧ ¬ v < l) → rAf x2 n K' l T' → rHd x2 n K' l T') := by
        intro K'
        have nn : nowA S0 T' := (rXS.now h (S' := S0) ⟨fun _ _ _ => rfl, fun _ _ => rfl, rfl, rfl⟩ hm).1
        constructor
        · rintro cc ⟨mm, hmm⟩
          have fin : ∀ (X : Int → St → Prop), j_M_round_117 x2 n v T' K' X (l_M_round_93 x2 n K' (fun z4 zS => j_M_round_160 x2 z4 zS K') mm) ∨ True := fun _ => Or.inr trivial
          have cp : j_M_round_117 x2 n v T' K' (fun z4 zS => j_M_round_160 x2 z4 zS K') (l_M_round_93 x2 n K' (fun z4 zS => j_M_round_160 x2 z4 zS K') mm) := by
            unfold j_M_round_117
            refine ⟨9, ?_⟩
            rw [← aput_self T' 16]
            have z := pM_copy124 (x2 := x2) (x3 := n) (x4 := v) (K := K') (T := T') (X := fun zS => j_M_round_150 x2 n v zS K' (fun z4 zS => j_M_round_160 x2 z4 zS K') (l_M_round_93 x2 n K' (fun z4 zS => j_M_round_160 x2 z4 zS K') mm)) ⟨by omega, hn.2⟩ 9 0 (aI T' 16) (by omega) (by omega) (by omega) hmm
            exact z
          refine ⟨mm + 1, ?_⟩
          unfold l_M_round_93
          refine ⟨fun z => absurd z (by decide), fun _ => pM_milesOf nn hn hr (fun _ => ?_)⟩
          rw [← tt]
          exact ⟨fun _ => cp, fun z => ⟨fun z2 => absurd z2 (by omega), fun _ => cp⟩⟩
        · rintro cc ⟨mm, hmm⟩
          refine ⟨mm + 1, ?_⟩
          unfold l_M_round_93
          refine ⟨fun z => absurd z (by decide), fun _ => pM_milesOf nn hn hr (fun _ => ?_)⟩
          rw [← tt]
          exact ⟨fun z => absurd z (by omega), fun _ => ⟨fun _ => hmm, fun z => absurd (by omega) z⟩⟩
      have better : (l = -1 ∨ v < l) → j_X_goesRound_48 (w_X_goesRound d) v S' K := by
        intro cc
        unfold j_X_goesRound_48
        rintro _ rfl
        rw [fI_fset_n (by omega), f18]
        refine fun _ => ⟨by omega, ?_⟩
        rintro _ rfl
        have a15 : aI (aput T' 16 (fun y => if 0 ≤ y ∧ y < n then aI T' 15 y else aI T' 16 y)) 15 = aI T' 15 := by funext y; exact aI_aput_n (by omega)
        have x13 : ∀ j, aI (pcpy (fset S' 19 v) (aI (fset S' 19 v) 13) 0 14 0 n) 13 j = aI S' 13 j := fun j => by rw [aI_pcpy, if_neg (by omega)]; rfl
        refine hK _ (aput T' 16 (fun y => if 0 ≤ y ∧ y < n then aI T' 15 y else aI T' 16 y)) v (by omega) ?_ ?_ ⟨?_, Or.inr vb, fun _ i i0 i1 => ?_⟩ (fun i i0 i1 => ?_) (by rw [a15]; exact hds) (by rw [a15]; exact hr) (fun i _ _ => by rw [a15]) (fun K' hk' => (head K').1 cc hk')
        · refine ⟨fun j z0 z1 => ?_, fun j z => ?_, hx.2.2.1, hx.2.2.2⟩
          · rw [← hx.1 j z0 z1]
            funext y
            rw [aI_pcpy, if_neg (by omega)]
            rfl
          · rw [fI_pcpy, fI_fset_n z]
            exact hx.2.1 j z
        · exact ⟨fun q z1 z2 => by rw [← hm.1 q z1 z2]; funext y; exact aI_aput_n z2, hm.2⟩
        · rw [fI_pcpy, fI_fset_s]
        · rw [aI_pcpy, if_pos (by omega), aI_aput_s, if_pos ⟨i0, i1⟩, show 0 + (i - 0) = i by omega]
          exact hpre i i0 (by omega)
        · rw [x13, a15]
          exact hpre i i0 i1
      rw [b1]
      refine fun _ => ⟨fun z => better (Or.inl z), fun z => ⟨fun z2 => better (Or.inr z2), fun z2 => ?_⟩⟩
      exact hK S' T' l z hx hm ⟨b1, b2, b3⟩ hpre hds hr (fun i _ _ => rfl) (fun K' hk' => (head K').2 ⟨z, z2⟩ hk')
theorem law_round {S T : St} {x w : Int} {K : Int → St → Prop} (h : REL tB S T) (hK : ∀ r S', PostF tB (w_M_round x w T) r S' → K r S') : w_X_round x w S K := by
  obtain ⟨⟨a0, a1, a2⟩, -⟩ := h.1.nums
  have p0 : (2 : Int) ^ (aI S 0 0).toNat ≤ 1024 := by
    have := p2_mono (m := aI S 0 0) (n := 10) (by omega)
    exact this
  have p00 : (0 : Int) < 2 ^ (aI S 0 0).toNat := Int.pow_pos (by decide)
  have inM : ∀ (K' : Int → St → Prop), (¬ (1 ≤ x ∧ x ≤ 1 * 2 ^ (aI S 0 0).toNat - 1) → K' (-1) T) → ((1 ≤ x ∧ x ≤ 1 * 2 ^ (aI S 0 0).toNat - 1) → ((8 < ssum (bt x) 16 → K' (-1) T) ∧ (¬ 8 < ssum (bt x) 16 → ((w < -1 → K' (-1) T) ∧ (¬ w < -1 → ((w < ssum (bt x) 16 → ∃ n47 : Nat, l_M_round_47 x w K' (fun (z3 : Int) (zS : St) => j_M_round_87 w z3 zS K') n47 0 0 T) ∧ (¬ w < ssum (bt x) 16 → K' (-1) T))))))) → w_M_round x w T K' := by
    intro K' h0 h1
    have bs := ssum_bd (g := bt x) 16 (fun i _ _ => bt_bd _ _)
    unfold w_M_round
    rw [a0]
    refine fun _ => ⟨by omega, by omega, by omega, p_isIn (fun q0 q1 => br1 (p_bits (fun _ => ?_))) (fun q => br0 (h0 q))⟩
    obtain ⟨z1, z2⟩ := h1 ⟨q0, q1⟩
    refine ⟨z1, fun q8 => ?_⟩
    obtain ⟨z3, z4⟩ := z2 q8
    exact ⟨z3, fun qw => p_bits (fun _ => z4 qw)⟩
  have stay : ∀ (hc : ∀ K' : Int → St → Prop, K' (-1) T → w_M_round x w T K'), K (-1) S := fun hc => hK _ _ (fun K' hk => hc K' (hk T h))
  unfold w_X_round
  refine fun _ => ⟨by omega, by omega, by omega, p_in (fun q0 q1 => br1 ?_) (fun q => br0 (stay (fun K' hk => inM K' (fun _ => hk) (fun z => absurd z q))))⟩
  have hx : 0 ≤ x ∧ x < 65536 := by omega
  have bs := ssum_bd (g := bt x) 16 (fun i _ _ => bt_bd _ _)
  refine p_bitCount hx (fun _ => ⟨fun c8 => stay (fun K' hk => inM K' (fun _ => hk) (fun _ => ⟨fun _ => hk, fun z => absurd c8 z⟩)), fun c8 => ⟨fun cw => stay (fun K' hk => inM K' (fun _ => hk) (fun _ => ⟨fun z => absurd z c8, fun _ => ⟨fun _ => hk, fun z => absurd cw z⟩⟩)), fun cw => p_bitCount hx (fun _ => ⟨fun ci => ?_, fun ci => stay (fun K' hk => inM K' (fun _ => hk) (fun _ => ⟨fun z => absurd z c8, fun _ => ⟨fun z => absurd z cw, fun _ => ⟨fun z => absurd z ci, fun _ => hk⟩⟩⟩))⟩)⟩⟩)
  have ecnt : cnt x (aI S 0 0).toNat = ssum (bt x) 16 := (bsum_small (n := aI S 0 0) hx.1 (by omega) (by omega)).symm
  have cpos : 1 ≤ cnt x (aI S 0 0).toNat := by
    rw [ecnt]
    exact cnt_pos ⟨q0, hx.2⟩
  obtain ⟨so1, so2⟩ := sv_ok x (aI S 0 0).toNat
  rintro _ rfl
  refine ⟨12, pX_round_52 (S0 := fset S 18 0) (by show 0 ≤ aI S 0 0 ∧ aI S 0 0 ≤ 10; omega) (by show cnt x (aI S 0 0).toNat ≤ 8; omega) (fun S1 s1 s2 s3 s4 s5 s6 => ?_) 12 0 _ (by show ((0 : Nat) : Int) ≤ aI S 0 0; omega) (by show aI S 0 0 - ((0 : Nat) : Int) < ((12 : Nat) : Int); omega) (fun _ _ => rfl) (fun _ _ => rfl) rfl rfl (fI_fset_s S 18 0) (fun i i0 i1 => by have z : cnt x 0 = 0 := rfl; omega)⟩
  have s5' : fI S1 18 = cnt x (aI S 0 0).toNat := s5
  have s6' : ∀ i, 0 ≤ i → i < cnt x (aI S 0 0).toNat → aI S1 12 i = sv x (aI S 0 0).toNat i := s6
  unfold j_X_round_102
  rintro _ rfl
  rw [aI_fset]
  refine fun _ => ?_
  rintro _ rfl
  have w1 : ∀ k, k ≠ 12 → k ≠ 13 → aI (aset (fset S1 19 (-1)) 13 0 (aI S1 12 0)) k = aI S k := by
    intro k k0 k1
    rw [show aI S k = aI (fset S 18 0) k from rfl, ← s1 k k0]
    funext y
    rw [aI_aset_j k1]
    rfl
  have w12 : aI (aset (fset S1 19 (-1)) 13 0 (aI S1 12 0)) 12 = aI S1 12 := by
    funext y
    rw [aI_aset_j (by omega)]
    rfl
  have w00 : aI (aset (fset S1 19 (-1)) 13 0 (aI S1 12 0)) 0 = aI S 0 := w1 0 (by omega) (by omega)
  have wF : ∀ k, k ≠ 18 → k ≠ 19 → fI (aset (fset S1 19 (-1)) 13 0 (aI S1 12 0)) k = fI S k := by
    intro k k0 k1
    rw [fI_aset, fI_fset_n k1, s2 k k0, fI_fset_n k0]
  refine ⟨10, by omega, ?_⟩
  -- the twin's start
  have done : ∀ (r : Int) (S2 : St), (∀ K' : Int → St → Prop, (∀ T', REL tB S2 T' → K' r T') → ∃ n47 : Nat, l_M_round_47 x w K' (fun (z3 : Int) (zS : St) => j_M_round_87 w z3 zS K') n47 0 0 T) → K r S2 := fun r S2 hq => hK r S2 (fun K' hk => inM K' (fun z => absurd ⟨q0, q1⟩ z) (fun _ => ⟨fun z => absurd z c8, fun _ => ⟨fun z => absurd z cw, fun _ => ⟨fun _ => hq K' hk, fun z => absurd ci z⟩⟩⟩))
  have mono0 : mono (aI (aset (fset S1 19 (-1)) 13 0 (aI S1 12 0)) 12) (cnt x (aI S 0 0).toNat) := by
    rw [w12]
    intro i j i0 ij j1
    rw [s6' i i0 (by omega), s6' j (by omega) j1]
    exact so2 i j i0 ij j1
  have rng : ∀ i, 0 ≤ i → i < cnt x (aI S 0 0).toNat → 0 ≤ sv x (aI S 0 0).toNat i ∧ sv x (aI S 0 0).toNat i < aI S 0 0 := by
    intro i i0 i1
    have := so1 i i0 i1
    omega
  -- one state of the twin behind its first loop
  obtain ⟨T1, u1, u2, u3, u4⟩ : ∃ T1, (∀ k, k ≠ 15 → aI T1 k = aI T k) ∧ fI T1 = fI T ∧ (∀ i, 0 ≤ i → i < cnt x (aI S 0 0).toNat → aI T1 15 i = sv x (aI S 0 0).toNat i) ∧ ∀ K' : Int → St → Prop, rHd w (cnt x (aI S 0 0).toNat) K' (-1) T1 → ∃ n47 : Nat, l_M_round_47 x w K' (fun (z3 : Int) (zS : St) => j_M_round_87 w z3 zS K') n47 0 0 T := by
    obtain ⟨T1, u1, u2, u3, u4⟩ := pM_round_47 (x1 := x) (x2 := w) (T0 := T) (by omega) (by rw [a0]; omega) 12 0 T (by omega) (by omega) (fun _ _ => rfl) rfl (fun i i0 i1 => by have z : cnt x 0 = 0 := rfl; omega)
    rw [a0] at u3 u4
    exact ⟨T1, u1, u2, u3, fun K' hk => ⟨12, u4 K' _ hk⟩⟩
  have R1 : REL tB (aset (fset S1 19 (-1)) 13 0 (aI S1 12 0)) T1 := by
    refine h.alike (fun k hk => w1 k (by omega) (by omega)) (fun k k0 k1 => wF k (by omega) (by omega)) ?_ ?_ (fun k hk => u1 k (by omega)) (fun k _ _ => by rw [u2])
    · show rI S1 = rI S
      rw [s3]
      rfl
    · show extP (gI S) (gI S1)
      rw [s4]
      exact extP.refl _
  have b1 : ∀ s : Int, 1 ≤ s → bt 1 s = 0 := by
    intro s hs
    refine bt_small (n := 1) (by decide) (by decide) hs
  refine goes (S0 := aset (fset S1 19 (-1)) 13 0 (aI S1 12 0)) (T0 := T1) (n := cnt x (aI S 0 0).toNat) (x2 := w) R1 ⟨cpos, by omega⟩ mono0 (fun i i0 i1 => by rw [w12, w00, s6' i i0 i1]; exact rng i i0 i1) (by rw [fI_aset, fI_fset_n (by omega)]; exact s5') 10 1 1 (-1) _ T1 _ (by omega) (by omega) cpos ⟨fun _ _ _ => rfl, fun _ _ => rfl, rfl, rfl⟩ ⟨fun _ _ _ => rfl, rfl⟩ ⟨by rw [fI_aset, fI_fset_s], Or.inl rfl, fun z => absurd rfl z⟩ (fun i i0 i1 => ?_) ⟨⟨fun i i0 i1 => ⟨i, by omega, i1, b1 i i0, ?_⟩, fun s s0 s1 sU => ⟨s, ?_, s1, ?_⟩⟩, fun a b z0 z1 z2 => ?_⟩ (fun i i0 i1 => by rw [w00, u3 i i0 i1]; exact rng i i0 i1) (by decide) (by decide) (fun S2 T2 l2 hl t1 t2 t3 t4 t5 t6 t7 t8 => ?_)
  · have e : i = 0 := by omega
    rw [e, aI_aset_s, u3 0 (by omega) (by omega), s6' 0 (by omega) (by omega)]
  · rw [w12, u3 i (by omega) i1, s6' i (by omega) i1]
  · by_cases z : s = 0
    · rw [z] at sU
      exact absurd sU (by decide)
    · omega
  · rw [w12, u3 s s0 s1, s6' s s0 s1]
  · rw [u3 a (by omega) (by omega), u3 b (by omega) z2]
    exact so2 a b (by omega) z1 z2
  · have R2 := rXS.now R1 t1 t2
    have goM : ∀ (r : Int), (∀ K' : Int → St → Prop, K' r T2 → j_M_round_160 w l2 T2 K') → K r S2 := by
      intro r hr
      refine done r S2 (fun K' hk => u4 K' (t8 K' ⟨1, ?_⟩))
      unfold j_M_round_150
      refine pM_lastOrder ⟨cpos, by omega⟩ t5.2 (fun _ => ?_)
      unfold l_M_round_93
      exact ⟨fun _ => hr K' (hk T2 R2), fun z => absurd rfl z⟩
    obtain ⟨v1, v2, v3⟩ := t3
    refine ⟨fun wn => ⟨by omega, fun _ => goM _ (fun K' hk => ⟨fun _ => ⟨by omega, fun _ => ?_⟩, fun z => absurd z wn⟩)⟩, fun wn _ => goM _ (fun K' hk => ⟨fun z => absurd wn z, fun _ => ?_⟩)⟩
    · rw [← v3 hl w (by omega) (by omega)]
      exact hk
    · rw [← v1]
      exact hk
