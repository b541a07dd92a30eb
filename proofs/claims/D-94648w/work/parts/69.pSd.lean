/-! PURE: saints: the law -/
variable {tB : Int}
def sxx (S S' : St) : Prop := (∀ k, k ≠ 9 → k ≠ 10 → k ≠ 11 → ¬ (79 ≤ k ∧ k ≤ 102) → aI S' k = aI S k) ∧ (∀ k, k ≠ 11 → k ≠ 12 → fI S' k = fI S k) ∧ rI S' = rI S ∧ gI S' = gI S
def smm (T T' : St) : Prop := (∀ k, ¬ (5 ≤ k ∧ k ≤ 11) → aI T' k = aI T k) ∧ ∀ k, k ≠ 29 → fI T' k = fI T k
theorem REL.saints {S S' T T' : St} (h : REL tB S T) (hx : sxx S S') (hm : smm T T') : REL tB S' T' :=
  h.alike (fun k hk => hx.1 k (by omega) (by omega) (by omega) (by omega)) (fun k k0 k1 => hx.2.1 k (by omega) (by omega)) hx.2.2.1 (by rw [hx.2.2.2]; exact extP.refl _) (fun k hk => hm.1 k (by omega)) (fun k k0 k1 => hm.2 k (by omega))
theorem pX_fillhas {S0 : St} {K : Int → St → Prop} {X : St → Prop} (hX : ∀ S', (∀ k, ¬ (79 ≤ k ∧ k ≤ 90) → aI S' k = aI S0 k) → fI S' = fI S0 → rI S' = rI S0 → gI S' = gI S0 → (∀ v c : Int, 0 ≤ v → v < 12 → 0 ≤ c → c ≤ 19 → aI S' (79 + v.toNat) c = 0) → X S') :
    ∀ (m : Nat) (t : Int) (S' : St), 0 ≤ t → t ≤ 12 → 12 - t < m → (∀ k, ¬ (79 ≤ k ∧ k ≤ 90) → aI S' k = aI S0 k) → fI S' = fI S0 → rI S' = rI S0 → gI S' = gI S0 → (∀ v c : Int, 0 ≤ v → v < t → 0 ≤ c → c ≤ 19 → aI S' (79 + v.toNat) c = 0) → l_X_laysSaints_182 K X m t S' := by
  intro m
  induction m with
  | zero => intro t S' t0 t1 t2; omega
  | succ m ih =>
    intro t S' t0 t1 t2 s1 s2 s3 s4 s5
    unfold l_X_laysSaints_182
    refine ⟨fun c => hX S' s1 s2 s3 s4 (fun v k v0 v1 k0 k1 => s5 v k v0 (by omega) k0 k1), fun c => ⟨by omega, p_fill (by omega) ⟨by omega, ih (t + 1) _ (by omega) (by omega) (by omega) (fun k hk => ?_) s2 s3 s4 (fun v k v0 v1 k0 k1 => ?_)⟩⟩⟩
    · rw [← s1 k hk]
      funext y
      rw [aI_aall, if_neg (by omega)]
    · rw [aI_aall]
      by_cases e : v = t
      · rw [if_pos (by omega)]
      · rw [if_neg (by omega)]
        exact s5 v k v0 (by omega) k0 k1
theorem saints_lp {S2 T3 : St} {n b : Int} {qv : Int → Int} {ap : Int → Int → Int} {MF : Int → Int} {K : Int → St → Prop} (hn : 0 ≤ n ∧ n ≤ 12)
    (hSD : ∀ S0 T0 s, (∀ k, k ≠ 11 → ¬ (79 ≤ k ∧ k ≤ 90) → aI S0 k = aI S2 k) → (∀ k, k ≠ 12 → fI S0 k = fI S2 k) → rI S0 = rI S2 → gI S0 = gI S2 → sMR T3 T0 → 0 ≤ s → s ≤ 12 → fI S0 12 = s → SD S0 T0 n s qv ap MF) :
    ∀ (m : Nat) (s : Int) (S' T' : St), 0 ≤ s → s ≤ n → n - s + 1 < m → (∀ k, k ≠ 11 → ¬ (79 ≤ k ∧ k ≤ 90) → aI S' k = aI S2 k) → (∀ k, k ≠ 12 → fI S' k = fI S2 k) → rI S' = rI S2 → gI S' = gI S2 → sMR T3 T' → fI S' 12 = s →
    (∀ S4 T4 s4, (∀ k, k ≠ 11 → ¬ (79 ≤ k ∧ k ≤ 90) → aI S4 k = aI S2 k) → (∀ k, k ≠ 12 → fI S4 k = fI S2 k) → rI S4 = rI S2 → gI S4 = gI S2 → sMR T3 T4 → fI S4 12 = s4 → (∀ i, 0 ≤ i → i < n → aI S4 11 i = aI T4 11 i) → (∀ (K' : Int → St → Prop) (X : Int → St → Prop), X s4 T4 → ∃ f, l_M_saints_57 b K' X f s T') → K 1 S4) →
    l_X_laysSaints_176 K m 0 S' := by
  intro m
  induction m with
  | zero => intro s S' T' s0 s1 s2; omega
  | succ m ih =>
    intro s S' T' s0 s1 s2 x1 x2 x3 x4 hm hf hK
    unfold l_X_laysSaints_176
    refine ⟨fun z => absurd rfl z, fun _ => ⟨13, pX_fillhas (S0 := S') (fun S1 y1 y2 y3 y4 y5 => ?_) 13 0 S' (by omega) (by omega) (by omega) (fun _ _ => rfl) rfl rfl rfl (fun v c v0 v1 => absurd v1 (by omega))⟩⟩
    unfold j_X_laysSaints_204
    have hm1 : sMR T3 (aset T' 11 0 (-1)) := hm.set _ _
    have f12 : fI S1 12 = s := by rw [y2]; exact hf
    have w1 : ∀ k, k ≠ 11 → ¬ (79 ≤ k ∧ k ≤ 90) → aI S1 k = aI S2 k := fun k k0 k1 => by rw [y1 k k1]; exact x1 k k0 k1
    have hsd := hSD S1 (aset T' 11 0 (-1)) s w1 (fun k hk => by rw [y2]; exact x2 k hk) (by rw [y3]; exact x3) (by rw [y4]; exact x4) hm1 s0 (by omega) f12
    have back : ∀ {S5 : St}, sXR S1 S5 → (∀ k, k ≠ 11 → ¬ (79 ≤ k ∧ k ≤ 90) → aI S5 k = aI S2 k) ∧ (∀ k, k ≠ 12 → fI S5 k = fI S2 k) ∧ rI S5 = rI S2 ∧ gI S5 = gI S2 ∧ fI S5 12 = s := by
      rintro S5 ⟨q1, q2, q3, q4⟩
      refine ⟨fun k k0 k1 => by rw [q1 k k0 k1]; exact w1 k k0 k1, fun k hk => by rw [q2, y2]; exact x2 k hk, by rw [q3, y3]; exact x3, by rw [q4, y4]; exact x4, by rw [q2]; exact f12⟩
    have backM : ∀ {T5 : St}, sMR (aset T' 11 0 (-1)) T5 → sMR T3 T5 := fun q => ⟨fun k hk => by rw [q.1 k hk, hm1.1 k hk], by rw [q.2]; exact hm1.2⟩
    refine ⟨14, by omega, ?_⟩
    show w_X_shares 14 0 (mx (aI (aset T' 11 0 (-1)) 11) (0 : Int).toNat) S1 _
    refine shr hsd 14 0 S1 (aset T' 11 0 (-1)) _ (by omega) (by omega) hn.1 ⟨fun _ _ _ => rfl, rfl, rfl, rfl⟩ ⟨fun _ _ => rfl, rfl⟩ (fun v c v0 v1 c0 c1 => ?_) (fun i i0 i1 => absurd i1 (by omega)) (fun i i0 i1 => absurd i1 (by omega)) (aI_aset_s _ _ _ _) (fun S5 T5 u1 u2 u3 u4 => ?_) (fun S5 T5 u1 u2 u3 u4 u5 u6 u7 => ?_)
    · rw [y5 v c v0 v1 c0 c1]
      rfl
    · obtain ⟨q1, q2, q3, q4, q5⟩ := back u1
      have bm := backM u2
      intro _
      rw [q5]
      refine fun _ => ⟨by omega, ?_⟩
      rintro _ rfl
      obtain ⟨m', rfl⟩ : ∃ m', m = m' + 1 := ⟨m - 1, by omega⟩
      unfold l_X_laysSaints_176
      refine ⟨fun _ => ?_, fun z => absurd z (by decide)⟩
      rw [fI_fset_s]
      refine fun _ => ⟨by omega, ?_⟩
      rintro _ rfl
      refine hK _ T5 s q1 (fun k hk => by rw [fI_fset_n hk, fI_fset_n hk]; exact q2 k hk) q3 q4 bm (by rw [fI_fset_s]; omega) u3 (fun K' X hX => ?_)
      obtain ⟨f, hf5⟩ := u4 (fun (r10 : Int) (S11 : St) => (r10 = 0 ∨ r10 = 1) → ((¬ r10 = 0 → X s S11) ∧ (r10 = 0 → InR (s + 1) ∧ (l_M_saints_57 b K' X 0 (s + 1) S11)))) ⟨1, by
        unfold l_M_share_9
        rw [u2.2]
        have e29 : fI (aset T' 11 0 (-1)) 29 = n := hsd.2.2.2.1.2.2
        rw [e29]
        exact ⟨fun z => absurd z (by omega), fun _ => fun _ => ⟨fun _ => ⟨fun z => absurd z (by omega), fun _ => fun _ => ⟨fun _ => hX, fun z => absurd z (by decide)⟩⟩, fun z => absurd (Int.le_refl _) z⟩⟩⟩
      refine ⟨1, ?_⟩
      unfold l_M_saints_57 w_M_share
      rintro _ rfl
      exact ⟨f, hf5⟩
    · obtain ⟨q1, q2, q3, q4, q5⟩ := back u1
      have bm := backM u2
      have u6' : s < n := by
        have e : mx (aI (aset T' 11 0 (-1)) 11) (0 : Int).toNat = 0 := rfl
        rw [e] at u6
        omega
      intro _
      rw [q5]
      refine fun _ => ⟨by omega, ?_⟩
      rintro _ rfl
      refine ih (s + 1) _ T5 (by omega) (by omega) (by omega) q1 (fun k hk => by rw [fI_fset_n hk]; exact q2 k hk) q3 q4 bm (fI_fset_s _ _ _) (fun S6 T6 s6 v1 v2 v3 v4 v5 v6 v7 v8 => hK S6 T6 s6 v1 v2 v3 v4 v5 v6 v7 (fun K' X hX => ?_))
      obtain ⟨f, hf6⟩ := v8 K' X hX
      obtain ⟨g, hg⟩ := u7 (fun (r10 : Int) (S11 : St) => (r10 = 0 ∨ r10 = 1) → ((¬ r10 = 0 → X s S11) ∧ (r10 = 0 → InR (s + 1) ∧ (l_M_saints_57 b K' X f (s + 1) S11)))) ⟨1, by
        unfold l_M_share_9
        exact ⟨fun _ => ⟨fun _ => fun _ => ⟨fun z => absurd rfl z, fun _ => ⟨by omega, hf6⟩⟩, fun z => absurd (by omega) z⟩, fun z => absurd (by omega) z⟩⟩
      refine ⟨f + 1, ?_⟩
      unfold l_M_saints_57 w_M_share
      rintro _ rfl
      exact ⟨g, hg⟩
theorem saints_lk {S4 T4 : St} {n b : Int} {K : Int → St → Prop} (hn : 0 ≤ n ∧ n ≤ 12) (f1 : fI S4 11 = n) (f2 : fI T4 29 = n) (h1 : ∀ i, 0 ≤ i → i < n → aI S4 11 i = aI T4 11 i) (h2 : ∀ i, 0 ≤ i → i < n → aI S4 10 i = aI T4 8 i) : ∀ (m : Nat) (i : Int), 0 ≤ i → i ≤ n → n - i < m → (∀ r, (∀ K' : Int → St → Prop, K' r T4 → l_M_saints_81 b T4 K' m i) → K r S4) → l_X_saints_57 b S4 K m i := by
  intro m
  induction m with
  | zero => intro i i0 i1 i2; omega
  | succ m ih =>
    intro i i0 i1 i2 hK
    unfold l_X_saints_57
    rw [f1]
    refine fun _ => ⟨fun c => hK _ (fun K' hk => ?_), fun c => ⟨by omega, fun _ => ⟨fun ne => ⟨by omega, ih (i + 1) (by omega) (by omega) (by omega) (fun r hr => hK r (fun K' hk => ?_))⟩, fun e => ⟨by omega, fun _ => hK _ (fun K' hk => ?_)⟩⟩⟩⟩
    · unfold l_M_saints_81
      rw [f2]
      exact fun _ => ⟨fun _ => hk, fun z => absurd c z⟩
    · unfold l_M_saints_81
      rw [f2]
      rw [h2 i i0 (by omega)] at ne
      exact fun _ => ⟨fun z => absurd z c, fun _ => ⟨by omega, fun _ => ⟨fun _ => ⟨by omega, hr K' hk⟩, fun z => absurd z ne⟩⟩⟩
    · unfold l_M_saints_81
      rw [f2]
      rw [h2 i i0 (by omega)] at e
      rw [h1 i i0 (by omega)] at hk
      exact fun _ => ⟨fun z => absurd z c, fun _ => ⟨by omega, fun _ => ⟨fun z => absurd e z, fun _ => ⟨by omega, fun _ => hk⟩⟩⟩⟩
theorem law_saints_34 {S T : St} {x b : Int} {K : Int → St → Prop} (h : REL tB S T) (hK : ∀ r S', PostF tB (j_M_saints_34 x b T) r S' → K r S') : j_X_saints_34 x b S K := by
  obtain ⟨⟨a0, a1, a2⟩, ⟨b0, b1, b2⟩, -⟩ := h.1.nums
  obtain ⟨H, H01, HX, HM⟩ := holy_fn h.1 h.2.2.2
  obtain ⟨U, U01, UX, UM⟩ := unlike_fn h.1 h.2.2.2
  obtain ⟨MF, MFb, MX, MM⟩ := many_fn h.1 h.2.2.2
  have cb := ssum_bd (g := gAsk S H x) (aI S 0 1).toNat (fun i _ _ => by rcases gAsk_01 S H x i with z | z <;> omega)
  obtain ⟨T2, p1, p2, p3, p4, p5⟩ := pM_find (x := x) (T := T) h H01 HM 17 0 (fset T 29 0) (by omega) (by omega) (fun _ _ => rfl) (fun k hk => fI_fset_n hk) (fI_fset_s _ _ _) (fun i i0 i1 => by
    have : ssum (gAsk S H x) 0 = 0 := rfl
    omega)
  have find : ∀ K' : Int → St → Prop, (fI T2 29 ≤ 12 → w_M_findBarred T2 (fun (S19 : St) => ∃ n57 : Nat, l_M_saints_57 b K' (fun (z3 : Int) (zS : St) => j_M_saints_71 b z3 zS K') n57 0 S19)) ∧ (¬ fI T2 29 ≤ 12 → K' (-2) T2) → j_M_saints_34 x b T K' := by
    intro K' hk
    unfold j_M_saints_34 w_M_findAsked
    rintro _ rfl
    exact ⟨17, p5 _ (fun _ => hk)⟩
  unfold j_X_saints_34 w_X_laysSaints
  rintro _ rfl
  refine ⟨17, pX_find h H01 HX (fun c S1 x1 x2 x3 x4 => fun _ => ⟨fun z => absurd rfl z, fun _ => hK _ _ (fun K' hk => ?_)⟩) (fun c S1 x1 x2 x3 x4 x5 x6 => ?_) 17 0 (fset S 11 0) (by omega) (by omega) (fun _ _ _ => rfl) (fun k hk => fI_fset_n hk) rfl rfl (fI_fset_s _ _ _) (by
    have : ssum (gAsk S H x) 0 = 0 := rfl
    omega) (fun i i0 i1 => by
    have : ssum (gAsk S H x) 0 = 0 := rfl
    omega)⟩
  rotate_left
  · refine find K' ⟨fun z => absurd z (by omega), fun _ => hk _ (h.saints ⟨fun k k0 k1 k2 k3 => x1 k k0 k1, fun k k0 k1 => x2 k k0, x3, x4⟩ ⟨fun k hk => p1 k (by omega), p2⟩)⟩
  · have ok := svG_ok (g := gAsk S H x) (gAsk_01 S H x) (aI S 0 1).toNat
    have cM2 : coreM T T2 := ⟨p1 0 (by omega), p1 2 (by omega)⟩
    have cX1 : coreX S S1 := ⟨fun k hk => x1 k (by omega) (by omega), x3, x4⟩
    obtain ⟨T3, r1, r2, r3, r4⟩ := pM_barred (T0 := T2) (n := ssum (gAsk S H x) (aI S 0 1).toNat) (qv := svG (gAsk S H x) (aI S 0 1).toNat) h (by omega) U01 UM MM cM2 (fun i i0 i1 => ⟨p4 i i0 i1, by have := ok i i0 i1; omega⟩) p3 13 0 T2 (by omega) (by omega) (by omega) (fun _ _ _ _ => rfl) rfl (fun j j0 j1 => absurd j1 (by omega))
    unfold j_X_laysSaints_81
    refine ⟨13, pX_apart (S := S) (S0 := S1) (n := ssum (gAsk S H x) (aI S 0 1).toNat) (qv := svG (gAsk S H x) (aI S 0 1).toNat) (by omega) U01 UX cX1 (fun i i0 i1 => ⟨x6 i i0 i1, by have := ok i i0 i1; omega⟩) x5 (fun S2 y1 y2 y3 y4 y5 => ?_) 13 0 S1 (by omega) (by omega) (by omega) (fun _ _ _ => rfl) rfl rfl rfl (fun j k j0 j1 => absurd j1 (by omega))⟩
    unfold j_X_laysSaints_169
    rintro _ rfl
    refine ⟨15, saints_lp (S2 := S2) (T3 := T3) (n := ssum (gAsk S H x) (aI S 0 1).toNat) (b := b) (qv := svG (gAsk S H x) (aI S 0 1).toNat) (ap := apU U (svG (gAsk S H x) (aI S 0 1).toNat)) (MF := MF) (by omega) (fun S0 T0 s z1 z2 z3 z4 z5 s0 s1 z6 => ?_) 15 0 (fset S2 12 0) T3 (by omega) (by omega) (by omega) (fun _ _ _ => rfl) (fun k hk => fI_fset_n hk) rfl rfl ⟨fun _ _ => rfl, rfl⟩ (fI_fset_s _ _ _) (fun S4 T4 s4 v1 v2 v3 v4 v5 v6 v7 v8 => ?_)⟩
    · have a0k : ∀ k, k ≠ 9 → k ≠ 10 → k ≠ 11 → ¬ (79 ≤ k ∧ k ≤ 102) → aI S0 k = aI S k := fun k k0 k1 k2 k3 => by rw [z1 k k2 (by omega), y1 k k0 (by omega), x1 k k0 k1]
      have hx0 : sxx S S0 := ⟨a0k, fun k k0 k1 => by rw [z2 k k1, y2, x2 k k0], by rw [z3, y3, x3], by rw [z4, y4, x4]⟩
      have hm0 : smm T T0 := ⟨fun k hk => by rw [z5.1 k (by omega), r1 k (by omega) (by omega) (by omega), p1 k (by omega)], fun k hk => by rw [z5.2, r2, p2 k hk]⟩
      have hR := h.saints hx0 hm0
      have e03 : aI S0 3 = aI S 3 := a0k 3 (by omega) (by omega) (by omega) (by omega)
      have e00 : aI S0 0 = aI S 0 := a0k 0 (by omega) (by omega) (by omega) (by omega)
      refine ⟨hR.1, by omega, by omega, ⟨by rw [z2 11 (by omega), y2]; exact x5, z6, by rw [z5.2, r2]; exact p3⟩, fun i i0 i1 => ⟨?_, ?_, ?_⟩, fun i k i0 i1 k0 k1 => ⟨?_, ?_⟩, fun k k0 k1 => ?_, fun S' k K hc hk hK' => MX S' k K ⟨fun j hj => by rw [hc.1 j hj, a0k j (by omega) (by omega) (by omega) (by omega)], by rw [hc.2.1, hx0.2.2.1], by rw [hc.2.2, hx0.2.2.2]⟩ hk hK', MFb⟩
      · rw [z1 10 (by omega) (by omega), y1 10 (by omega) (by omega)]
        exact x6 i i0 i1
      · rw [z5.1 8 (by omega), r1 8 (by omega) (by omega) (by omega)]
        exact p4 i i0 i1
      · rw [e00]
        have := ok i i0 i1
        omega
      · rw [z1 (91 + i.toNat) (by omega) (by omega)]
        exact y5 i k i0 i1 k0 k1
      · have as := apU_sym (U := U) (qv := svG (gAsk S H x) (aI S 0 1).toNat) U01 i k
        refine ⟨as.1, as.2, ?_⟩
        rw [z5.1 9 (by omega)]
        exact (r3 k k0 k1).2 i i0 i1
      · rw [z5.1 10 (by omega), e03]
        exact (r3 k k0 k1).1
    · have hx4 : sxx S S4 := ⟨fun k k0 k1 k2 k3 => by rw [v1 k k2 (by omega), y1 k k0 (by omega), x1 k k0 k1], fun k k0 k1 => by rw [v2 k k1, y2, x2 k k0], by rw [v3, y3, x3], by rw [v4, y4, x4]⟩
      have hm4 : smm T T4 := ⟨fun k hk => by rw [v5.1 k (by omega), r1 k (by omega) (by omega) (by omega), p1 k (by omega)], fun k hk => by rw [v5.2, r2, p2 k hk]⟩
      have hR := h.saints hx4 hm4
      have mgo : ∀ K' : Int → St → Prop, j_M_saints_71 b s4 T4 K' → j_M_saints_34 x b T K' := by
        intro K' hk
        refine find K' ⟨fun _ => ?_, fun z => absurd (by omega) z⟩
        unfold w_M_findBarred
        exact ⟨13, r4 _ (v8 K' (fun (z3 : Int) (zS : St) => j_M_saints_71 b z3 zS K') hk)⟩
      refine fun _ => ⟨fun _ => ⟨fun nb => ⟨13, saints_lk (n := ssum (gAsk S H x) (aI S 0 1).toNat) (T4 := T4) (by omega) (by rw [v2 11 (by omega), y2]; exact x5) (by rw [v5.2, r2]; exact p3) v7 (fun i i0 i1 => ?_) 13 0 (by omega) (by omega) (by omega) (fun r hr => hK _ _ (fun K' hk => mgo K' ?_))⟩, fun eb => fun _ => hK _ _ (fun K' hk => mgo K' ?_)⟩, fun z => absurd z (by decide)⟩
      · rw [v1 10 (by omega) (by omega), y1 10 (by omega) (by omega), x6 i i0 i1, v5.1 8 (by omega), r1 8 (by omega) (by omega) (by omega), p4 i i0 i1]
      · unfold j_M_saints_71
        exact ⟨fun _ => ⟨13, hr K' (hk _ hR)⟩, fun z => absurd z nb⟩
      · rw [v6] at hk
        unfold j_M_saints_71
        exact ⟨fun z => absurd eb z, fun _ => hk _ hR⟩
theorem law_saints {S T : St} {x b : Int} {K : Int → St → Prop} (h : REL tB S T) (hK : ∀ r S', PostF tB (w_M_saints x b T) r S' → K r S') : w_X_saints x b S K := by
  obtain ⟨⟨a0, a1, a2⟩, ⟨b0, b1, b2⟩, -⟩ := h.1.nums
  have p : (2 : Int) ^ (aI S 0 0).toNat ≤ 1024 := p2_mono (n := 10) (by omega)
  have p0 : (0 : Int) < 2 ^ (aI S 0 0).toNat := Int.pow_pos (by decide)
  have go : ∀ K' : Int → St → Prop, (0 ≤ x → x ≤ 1 * 2 ^ (aI S 0 0).toNat - 1 → (b = -1 → j_M_saints_34 x b T K') ∧ (¬ b = -1 → w_M_isBone b T (fun (r28 : Int) => (r28 = 0 ∨ r28 = 1) → ((¬ r28 = 0 → j_M_saints_34 x b T K') ∧ (r28 = 0 → K' (-2) T))))) → (¬ (0 ≤ x ∧ x ≤ 1 * 2 ^ (aI S 0 0).toNat - 1) → K' (-2) T) → w_M_saints x b T K' := by
    intro K' h1 h0
    unfold w_M_saints
    rw [a0]
    exact fun _ => ⟨by omega, by omega, by omega, p_isIn (fun q0 q1 => fun _ => ⟨fun z => absurd z (by decide), fun _ => h1 q0 q1⟩) (fun q => fun _ => ⟨fun _ => h0 q, fun z => absurd rfl z⟩)⟩
  unfold w_X_saints
  refine fun _ => ⟨by omega, by omega, by omega, p_in (fun q0 q1 => fun _ => ⟨fun z => absurd z (by decide), fun _ => ⟨fun e => ?_, fun ne => ?_⟩⟩) (fun q => fun _ => ⟨fun _ => hK _ _ (fun K' hk => go K' (fun z0 z1 => absurd ⟨z0, z1⟩ q) (fun _ => hk T h)), fun z => absurd rfl z⟩)⟩
  · exact law_saints_34 h (fun r S' hp => hK _ _ (fun K' hk => go K' (fun _ _ => ⟨fun _ => hp K' hk, fun z => absurd e z⟩) (fun z => absurd ⟨q0, q1⟩ z)))
  · refine pX_isBone (by omega) (fun c0 c1 => fun _ => ⟨fun z => absurd z (by decide), fun _ => ?_⟩) (fun c => fun _ => ⟨fun _ => hK _ _ (fun K' hk => go K' (fun _ _ => ⟨fun z => absurd z ne, fun _ => ?_⟩) (fun z => absurd ⟨q0, q1⟩ z)), fun z => absurd rfl z⟩)
    · refine law_saints_34 h (fun r S' hp => hK _ _ (fun K' hk => go K' (fun _ _ => ⟨fun z => absurd z ne, fun _ => ?_⟩) (fun z => absurd ⟨q0, q1⟩ z)))
      exact p_isBone (by omega) (fun _ _ => fun _ => ⟨fun _ => hp K' hk, fun z => absurd z (by decide)⟩) (fun c => absurd (by omega) c)
    · exact p_isBone (by omega) (fun _ _ => absurd (by omega) c) (fun _ => fun _ => ⟨fun z => absurd rfl z, fun _ => hk T h⟩)
