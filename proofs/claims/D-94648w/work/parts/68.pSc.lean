/-! PURE: saints: who is asked for, who can't lie together -/
variable {tB : Int}
def svG (g : Int → Int) : Nat → Int → Int
  | 0 => fun _ => -1
  | t + 1 => fun i => if g t = 1 ∧ i = ssum g t then t else svG g t i
theorem svG_ok {g : Int → Int} (h01 : ∀ i, g i = 0 ∨ g i = 1) : ∀ (t : Nat) (i : Int), 0 ≤ i → i < ssum g t → 0 ≤ svG g t i ∧ svG g t i < t := by
  intro t
  induction t with
  | zero => intro i i0 i1; have : ssum g 0 = 0 := rfl; omega
  | succ t ih =>
    intro i i0 i1
    have e : ssum g (t + 1) = ssum g t + g t := rfl
    have hg := h01 t
    show 0 ≤ (if g t = 1 ∧ i = ssum g t then (t : Int) else svG g t i) ∧ (if g t = 1 ∧ i = ssum g t then (t : Int) else svG g t i) < ((t + 1 : Nat) : Int)
    by_cases c : g t = 1 ∧ i = ssum g t
    · rw [if_pos c]
      omega
    · rw [if_neg c]
      have := ih i i0 (by omega)
      omega
theorem ssum_mono {g : Int → Int} (h01 : ∀ i, g i = 0 ∨ g i = 1) : ∀ (d a : Nat), ssum g a ≤ ssum g (a + d) := by
  intro d
  induction d with
  | zero => intro a; exact Int.le_refl _
  | succ d ih =>
    intro a
    have h1 := ih a
    have h2 := h01 ((a + d : Nat) : Int)
    show ssum g a ≤ ssum g (a + d) + g ((a + d : Nat) : Int)
    omega
def gAsk (S : St) (H : Int → Int) (x b : Int) : Int := if bt x (aI S 3 (5 * b + 3)) = 1 ∧ H b = 1 then 1 else 0
theorem gAsk_01 (S : St) (H : Int → Int) (x : Int) : ∀ b, gAsk S H x b = 0 ∨ gAsk S H x b = 1 := by
  intro b
  unfold gAsk
  split
  · exact Or.inr rfl
  · exact Or.inl rfl
theorem pX_find {S T : St} {H : Int → Int} {x : Int} {K : Int → St → Prop} {X : St → Prop} (h : REL tB S T) (h01 : ∀ b, H b = 0 ∨ H b = 1)
    (HX : ∀ (S' : St) (b : Int) (K : Int → St → Prop), coreX S S' → (0 ≤ b ∧ b < aI S 0 1) → (∀ v, K (H b) (aput S' 9 v)) → w_X_isHoly b S' K)
    (hB : 12 < ssum (gAsk S H x) (aI S 0 1).toNat → ∀ S', (∀ k, k ≠ 9 → k ≠ 10 → aI S' k = aI S k) → (∀ k, k ≠ 11 → fI S' k = fI S k) → rI S' = rI S → gI S' = gI S → K 0 S')
    (hX : ssum (gAsk S H x) (aI S 0 1).toNat ≤ 12 → ∀ S', (∀ k, k ≠ 9 → k ≠ 10 → aI S' k = aI S k) → (∀ k, k ≠ 11 → fI S' k = fI S k) → rI S' = rI S → gI S' = gI S → fI S' 11 = ssum (gAsk S H x) (aI S 0 1).toNat → (∀ i, 0 ≤ i → i < ssum (gAsk S H x) (aI S 0 1).toNat → aI S' 10 i = svG (gAsk S H x) (aI S 0 1).toNat i) → X S') :
    ∀ (m : Nat) (t : Nat) (S' : St), (t : Int) ≤ aI S 0 1 → aI S 0 1 - t < m → (∀ k, k ≠ 9 → k ≠ 10 → aI S' k = aI S k) → (∀ k, k ≠ 11 → fI S' k = fI S k) → rI S' = rI S → gI S' = gI S → fI S' 11 = ssum (gAsk S H x) t → ssum (gAsk S H x) t ≤ 12 → (∀ i, 0 ≤ i → i < ssum (gAsk S H x) t → aI S' 10 i = svG (gAsk S H x) t i) → l_X_laysSaints_7 x K X m t S' := by
  obtain ⟨⟨a0, a1, a2⟩, ⟨b0, b1, b2⟩, -⟩ := h.1.nums
  intro m
  induction m with
  | zero => intro t S' t0 t1; omega
  | succ m ih =>
    intro t S' t0 t1 s1 s2 s3 s4 s5 s6 s7
    have c0 : aI S' 0 = aI S 0 := s1 0 (by omega) (by omega)
    have c3 : aI S' 3 = aI S 3 := s1 3 (by omega) (by omega)
    have cb := ssum_bd (g := gAsk S H x) t (fun i _ _ => by rcases gAsk_01 S H x i with z | z <;> omega)
    have up : ssum (gAsk S H x) (t + 1) = ssum (gAsk S H x) t + gAsk S H x t := rfl
    have v : ∀ i, svG (gAsk S H x) (t + 1) i = if gAsk S H x t = 1 ∧ i = ssum (gAsk S H x) t then (t : Int) else svG (gAsk S H x) t i := fun i => rfl
    unfold l_X_laysSaints_7 j_X_laysSaints_75
    rw [c0]
    refine fun _ => ⟨fun c => ?_, fun c => pX_bone_2 (by omega) (by omega) (fun _ => ?_)⟩
    · have et : t = (aI S 0 1).toNat := by omega
      rw [et] at s5 s6 s7
      exact hX s6 S' s1 s2 s3 s4 s5 s7
    · rw [c3, bt_div]
      have ga := (h.1.2.2.1.2.2.2.1 (t : Int) (by omega) (by omega)).2.2.2.1
      have skip : gAsk S H x t = 0 → ∀ u : Int → Int, ∀ S2, (∀ k, k ≠ 9 → k ≠ 10 → aI S2 k = aI S k) → (∀ k, k ≠ 11 → fI S2 k = fI S k) → rI S2 = rI S → gI S2 = gI S → fI S2 11 = ssum (gAsk S H x) t → (∀ i, 0 ≤ i → i < ssum (gAsk S H x) t → aI S2 10 i = svG (gAsk S H x) t i) → InR ((t : Int) + 1) ∧ l_X_laysSaints_7 x K X m ((t : Int) + 1) S2 := by
        intro hz u S2 q1 q2 q3 q4 q5 q6
        refine ⟨by omega, ih (t + 1) S2 (by omega) (by omega) q1 q2 q3 q4 (by rw [up, hz]; omega) (by rw [up, hz]; omega) (fun i i0 i1 => ?_)⟩
        rw [v, if_neg (fun q => by omega)]
        exact q6 i i0 (by omega)
      refine ⟨by omega, fun z => ?_, fun z => HX S' t _ ⟨fun k hk => s1 k (by omega) (by omega), s3, s4⟩ (by omega) (fun u r01 => ⟨fun z2 => ?_, fun z2 => ?_⟩)⟩
      · have hz : gAsk S H x t = 0 := by unfold gAsk; rw [if_neg (fun q => by omega)]
        exact skip hz (aI S' 9) S' s1 s2 s3 s4 s5 s7
      · have b1' : bt x (aI S 3 (5 * (t : Int) + 3)) = 1 := by rcases bt_01 x (aI S 3 (5 * (t : Int) + 3)) with q | q <;> omega
        have h1 : H t = 1 := by rcases h01 t with q | q <;> omega
        have hz : gAsk S H x t = 1 := by unfold gAsk; rw [if_pos ⟨b1', h1⟩]
        have f11 : fI (aput S' 9 u) 11 = ssum (gAsk S H x) t := s5
        rw [f11]
        refine fun _ => ⟨fun ne => ⟨by omega, ?_⟩, fun e12 => ?_⟩
        · rintro _ rfl
          rw [fI_aset, f11]
          refine fun _ => ⟨by omega, ?_⟩
          rintro _ rfl
          refine ⟨by omega, ih (t + 1) _ (by omega) (by omega) (fun k k0 k1 => ?_) (fun k hk => ?_) s3 s4 ?_ (by rw [up, hz]; omega) (fun i i0 i1 => ?_)⟩
          · rw [← s1 k k0 k1]
            funext y
            rw [aI_fset, aI_aset_j k1, aI_aput_n k0]
          · rw [fI_fset_n hk]
            exact s2 k hk
          · rw [fI_fset_s, up, hz]
          · rw [aI_fset, aI_aset, v]
            by_cases e : i = ssum (gAsk S H x) t
            · rw [if_pos ⟨rfl, e⟩, if_pos ⟨hz, e⟩]
            · rw [if_neg (fun q => e q.2), if_neg (fun q => e q.2), aI_aput_n (by omega)]
              exact s7 i i0 (by omega)
        · refine hB ?_ _ (fun k k0 k1 => ?_) s2 s3 s4
          · have m1 := ssum_mono (gAsk_01 S H x) ((aI S 0 1).toNat - (t + 1)) (t + 1)
            rw [show t + 1 + ((aI S 0 1).toNat - (t + 1)) = (aI S 0 1).toNat by omega] at m1
            omega
          · rw [← s1 k k0 k1]
            funext y
            exact aI_aput_n k0
      · have hz : gAsk S H x t = 0 := by unfold gAsk; rw [if_neg (fun q => by omega)]
        refine skip hz u _ (fun k k0 k1 => ?_) s2 s3 s4 s5 (fun i i0 i1 => ?_)
        · rw [← s1 k k0 k1]
          funext y
          exact aI_aput_n k0
        · rw [aI_aput_n (by omega)]
          exact s7 i i0 i1
theorem pM_find {S T : St} {H : Int → Int} {x : Int} (h : REL tB S T) (h01 : ∀ b, H b = 0 ∨ H b = 1)
    (HM : ∀ (T' : St) (b : Int), coreM T T' → (0 ≤ b ∧ b < aI S 0 1) → ∃ v5 v6 v7, ∀ K : Int → St → Prop, K (H b) (aw T' v5 v6 v7) → w_M_isHoly b T' K) :
    ∀ (m : Nat) (t : Nat) (T' : St), (t : Int) ≤ aI S 0 1 → aI S 0 1 - t < m → (∀ k, ¬ (5 ≤ k ∧ k ≤ 8) → aI T' k = aI T k) → (∀ k, k ≠ 29 → fI T' k = fI T k) → fI T' 29 = ssum (gAsk S H x) t → (∀ i, 0 ≤ i → i < ssum (gAsk S H x) t → aI T' 8 i = svG (gAsk S H x) t i) →
    ∃ T2, (∀ k, ¬ (5 ≤ k ∧ k ≤ 8) → aI T2 k = aI T k) ∧ (∀ k, k ≠ 29 → fI T2 k = fI T k) ∧ fI T2 29 = ssum (gAsk S H x) (aI S 0 1).toNat ∧ (∀ i, 0 ≤ i → i < ssum (gAsk S H x) (aI S 0 1).toNat → aI T2 8 i = svG (gAsk S H x) (aI S 0 1).toNat i) ∧ ∀ K : St → Prop, K T2 → l_M_findAsked_7 x K m t T' := by
  obtain ⟨⟨a0, a1, a2⟩, ⟨b0, b1, b2⟩, -⟩ := h.1.nums
  intro m
  induction m with
  | zero => intro t T' t0 t1; omega
  | succ m ih =>
    intro t T' t0 t1 s1 s2 s5 s7
    have c0 : aI T' 0 = aI T 0 := s1 0 (by omega)
    have cb := ssum_bd (g := gAsk S H x) t (fun i _ _ => by rcases gAsk_01 S H x i with z | z <;> omega)
    have up : ssum (gAsk S H x) (t + 1) = ssum (gAsk S H x) t + gAsk S H x t := rfl
    have v : ∀ i, svG (gAsk S H x) (t + 1) i = if gAsk S H x t = 1 ∧ i = ssum (gAsk S H x) t then (t : Int) else svG (gAsk S H x) t i := fun i => rfl
    by_cases ct : (t : Int) = aI S 0 1
    · have et : t = (aI S 0 1).toNat := by omega
      rw [et] at s5 s7
      refine ⟨T', s1, s2, s5, s7, fun K hK => ?_⟩
      unfold l_M_findAsked_7
      rw [c0, b0]
      exact fun _ => ⟨fun _ => hK, fun z => absurd (by omega) z⟩
    · have ga := (h.1.2.2.1.2.2.2.1 (t : Int) (by omega) (by omega)).2.2.2.1
      have q3 := h.1.bone (b := (t : Int)) (e := 3) (by omega) (by omega) (by omega) (by omega)
      have begin1 : ∀ (K : St → Prop), ((bt x (aI S 3 (5 * (t : Int) + 3)) = 0 → j_M_findAsked_66 x t T' K (l_M_findAsked_7 x K m)) ∧ (¬ bt x (aI S 3 (5 * (t : Int) + 3)) = 0 → w_M_isHoly t T' (fun (r13 : Int) (S14 : St) => (r13 = 0 ∨ r13 = 1) → ((¬ r13 = 0 → (InR (fI S14 29) → ((0 : Int) ≤ fI S14 29 ∧ fI S14 29 < 16) ∧ ((∀ S18 : St, S18 = aset S14 8 (fI S14 29) t → (InR (fI S18 29) → InR ((fI S18 29) + 1) ∧ ((∀ S21 : St, S21 = fset S18 29 ((fI S18 29) + 1) → j_M_findAsked_66 x t S21 K (l_M_findAsked_7 x K m)))))))) ∧ (r13 = 0 → j_M_findAsked_66 x t S14 K (l_M_findAsked_7 x K m)))))) → l_M_findAsked_7 x K (m + 1) t T' := by
        rintro K ⟨z1, z2⟩
        unfold l_M_findAsked_7
        rw [c0, b0]
        refine fun _ => ⟨fun z => absurd z (by omega), fun _ => p_boneAt (by omega) (fun _ => ⟨by omega, by omega, fun _ => ?_⟩)⟩
        rw [q3, bt_div]
        exact ⟨by omega, z1, z2⟩
      by_cases cb0 : bt x (aI S 3 (5 * (t : Int) + 3)) = 0
      · have hz : gAsk S H x t = 0 := by unfold gAsk; rw [if_neg (fun q => by omega)]
        obtain ⟨T2, u1, u2, u3, u4, u5⟩ := ih (t + 1) T' (by omega) (by omega) s1 s2 (by rw [up, hz]; omega) (fun i i0 i1 => by
          rw [v, if_neg (fun q => by omega)]
          exact s7 i i0 (by omega))
        exact ⟨T2, u1, u2, u3, u4, fun K hK => begin1 K ⟨fun _ => ⟨by omega, u5 K hK⟩, fun z => absurd cb0 z⟩⟩
      · obtain ⟨v5, v6, v7, hw⟩ := HM T' t ⟨c0, s1 2 (by omega)⟩ (by omega)
        have awk : ∀ k, ¬ (5 ≤ k ∧ k ≤ 8) → aI (aw T' v5 v6 v7) k = aI T k := fun k hk => by rw [aw_hi T' v5 v6 v7 (by omega) (by omega) (by omega)]; exact s1 k hk
        have aw8 : aI (aw T' v5 v6 v7) 8 = aI T' 8 := aw_hi T' v5 v6 v7 (by omega) (by omega) (by omega)
        have f29 : fI (aw T' v5 v6 v7) 29 = ssum (gAsk S H x) t := s5
        rcases h01 t with h0 | h1
        · have hz : gAsk S H x t = 0 := by unfold gAsk; rw [if_neg (fun q => by omega)]
          obtain ⟨T2, u1, u2, u3, u4, u5⟩ := ih (t + 1) (aw T' v5 v6 v7) (by omega) (by omega) awk s2 (by rw [up, hz, f29]; omega) (fun i i0 i1 => by
            rw [v, if_neg (fun q => by omega), aw8]
            exact s7 i i0 (by omega))
          refine ⟨T2, u1, u2, u3, u4, fun K hK => begin1 K ⟨fun z => absurd z cb0, fun _ => hw _ (fun _ => ?_)⟩⟩
          rw [h0]
          exact ⟨fun z => absurd rfl z, fun _ => ⟨by omega, u5 K hK⟩⟩
        · have b1' : bt x (aI S 3 (5 * (t : Int) + 3)) = 1 := by rcases bt_01 x (aI S 3 (5 * (t : Int) + 3)) with q | q <;> omega
          have hz : gAsk S H x t = 1 := by unfold gAsk; rw [if_pos ⟨b1', h1⟩]
          obtain ⟨T2, u1, u2, u3, u4, u5⟩ := ih (t + 1) (fset (aset (aw T' v5 v6 v7) 8 (ssum (gAsk S H x) t) t) 29 (ssum (gAsk S H x) t + 1)) (by omega) (by omega) (fun k hk => by
            rw [aI_fset, ← awk k hk]
            funext y
            exact aI_aset_j (by omega)) (fun k hk => by rw [fI_fset_n hk]; exact s2 k hk) (by rw [fI_fset_s, up, hz]) (fun i i0 i1 => by
            rw [aI_fset, aI_aset, v]
            by_cases e : i = ssum (gAsk S H x) t
            · rw [if_pos ⟨rfl, e⟩, if_pos ⟨hz, e⟩]
            · rw [if_neg (fun q => e q.2), if_neg (fun q => e q.2), aw8]
              exact s7 i i0 (by omega))
          refine ⟨T2, u1, u2, u3, u4, fun K hK => begin1 K ⟨fun z => absurd z cb0, fun _ => hw _ (fun _ => ?_)⟩⟩
          rw [h1, f29]
          refine ⟨fun _ => fun _ => ⟨by omega, ?_⟩, fun z => absurd z (by decide)⟩
          rintro _ rfl
          rw [fI_aset, f29]
          refine fun _ => ⟨by omega, ?_⟩
          rintro _ rfl
          exact ⟨by omega, u5 K hK⟩
/-- who can't lie together -/
def apU (U : Int → Int → Int) (qv : Int → Int) (i k : Int) : Int := if i = k then 0 else if U (qv i) (qv k) = 0 then U (qv k) (qv i) else 1
theorem apU_sym {U : Int → Int → Int} {qv : Int → Int} (h01 : ∀ a b, U a b = 0 ∨ U a b = 1) (i k : Int) : apU U qv i k = apU U qv k i ∧ (apU U qv i k = 0 ∨ apU U qv i k = 1) := by
  by_cases c : i = k
  · subst c
    unfold apU
    rw [if_pos rfl]
    exact ⟨rfl, Or.inl rfl⟩
  · have c' : ¬ k = i := fun q => c q.symm
    unfold apU
    rw [if_neg c, if_neg c']
    rcases h01 (qv i) (qv k) with a | a <;> rcases h01 (qv k) (qv i) with b | b <;> rw [a, b] <;> simp
theorem pX_apart {S S0 : St} {U : Int → Int → Int} {qv : Int → Int} {n : Int} {K : Int → St → Prop} {X : St → Prop} (hn : 0 ≤ n ∧ n ≤ 12) (h01 : ∀ a b, U a b = 0 ∨ U a b = 1)
    (UX : ∀ (S' : St) (a b : Int) (K : Int → St → Prop), coreX S S' → (0 ≤ a ∧ a < aI S 0 1) → (0 ≤ b ∧ b < aI S 0 1) → (∀ v, K (U a b) (aput S' 9 v)) → w_X_areUnlike a b S' K)
    (hc : coreX S S0) (hq : ∀ i, 0 ≤ i → i < n → aI S0 10 i = qv i ∧ 0 ≤ qv i ∧ qv i < aI S 0 1) (hf : fI S0 11 = n)
    (hX : ∀ S', (∀ k, k ≠ 9 → ¬ (91 ≤ k ∧ k ≤ 102) → aI S' k = aI S0 k) → fI S' = fI S0 → rI S' = rI S0 → gI S' = gI S0 → (∀ i k, 0 ≤ i → i < n → 0 ≤ k → k < n → aI S' (91 + i.toNat) k = apU U qv i k) → X S') :
    ∀ (m : Nat) (i : Int) (S' : St), 0 ≤ i → i ≤ n → n - i < m → (∀ k, k ≠ 9 → ¬ (91 ≤ k ∧ k ≤ 102) → aI S' k = aI S0 k) → fI S' = fI S0 → rI S' = rI S0 → gI S' = gI S0 → (∀ j k, 0 ≤ j → j < i → 0 ≤ k → k < n → aI S' (91 + j.toNat) k = apU U qv j k) → l_X_laysSaints_83 K X m i S' := by
  intro m
  induction m with
  | zero => intro i S' i0 i1 i2; omega
  | succ m ih =>
    intro i S' i0 i1 i2 s1 s2 s3 s4 s5
    unfold l_X_laysSaints_83
    rw [s2, hf]
    refine fun _ => ⟨fun c => ?_, fun c => ?_⟩
    · refine hX S' s1 s2 s3 s4 (fun j k j0 j1 k0 k1 => s5 j k j0 (by omega) k0 k1)
    · have inn : ∀ (f : Nat) (k : Int) (S2 : St), 0 ≤ k → k ≤ n → n - k < f → (∀ k, k ≠ 9 → ¬ (91 ≤ k ∧ k ≤ 102) → aI S2 k = aI S0 k) → fI S2 = fI S0 → rI S2 = rI S0 → gI S2 = gI S0 → (∀ j k, 0 ≤ j → j < i → 0 ≤ k → k < n → aI S2 (91 + j.toNat) k = apU U qv j k) → (∀ j, 0 ≤ j → j < k → aI S2 (91 + i.toNat) j = apU U qv i j) → l_X_laysSaints_93 i K (fun zS => j_X_laysSaints_163 i zS K X (l_X_laysSaints_83 K X m)) f k S2 := by
        intro f
        induction f with
        | zero => intro k S2 k0 k1 k2; omega
        | succ f ihf =>
          intro k S2 k0 k1 k2 t1 t2 t3 t4 t5 t6
          have e10 : aI S2 10 = aI S0 10 := t1 10 (by omega) (by omega)
          have wr : ¬ n ≤ k → ∀ (S3 : St) (v : Int), v = apU U qv i k → (∀ k, k ≠ 9 → ¬ (91 ≤ k ∧ k ≤ 102) → aI S3 k = aI S0 k) → fI S3 = fI S0 → rI S3 = rI S0 → gI S3 = gI S0 → (∀ j k, 0 ≤ j → j < i → 0 ≤ k → k < n → aI S3 (91 + j.toNat) k = apU U qv j k) → (∀ j, 0 ≤ j → j < k → aI S3 (91 + i.toNat) j = apU U qv i j) → (v = 0 ∨ v = 1) → j_X_laysSaints_156 i k i k v S3 K (fun zS => j_X_laysSaints_163 i zS K X (l_X_laysSaints_83 K X m)) (l_X_laysSaints_93 i K (fun zS => j_X_laysSaints_163 i zS K X (l_X_laysSaints_83 K X m)) f) := by
            intro nkn S3 v hv u1 u2 u3 u4 u5 u6 v01
            unfold j_X_laysSaints_156
            refine ⟨by omega, v01, ?_⟩
            rintro _ rfl
            refine ⟨by omega, ihf (k + 1) _ (by omega) (by omega) (by omega) (fun q q0 q1 => ?_) u2 u3 u4 (fun j q j0 j1 q0 q1 => ?_) (fun j j0 j1 => ?_)⟩
            · rw [← u1 q q0 q1]
              funext y
              exact aI_aset_j (by omega)
            · rw [aI_aset_j (by omega)]
              exact u5 j q j0 j1 q0 q1
            · by_cases e : j = k
              · rw [e, aI_aset_s]
                exact hv
              · rw [aI_aset_i e]
                exact u6 j j0 (by omega)
          unfold l_X_laysSaints_93
          rw [t2, hf]
          refine fun _ => ⟨fun c2 => ?_, fun c2 => ⟨by omega, fun eik => ?_, fun nik => ?_⟩⟩
          · unfold j_X_laysSaints_163
            refine ⟨by omega, ih (i + 1) S2 (by omega) (by omega) (by omega) t1 t2 t3 t4 (fun j q j0 j1 q0 q1 => ?_)⟩
            by_cases e : j = i
            · rw [e]
              exact t6 q q0 (by omega)
            · exact t5 j q j0 (by omega) q0 q1
          · unfold j_X_laysSaints_155
            exact wr c2 S2 0 (by unfold apU; rw [if_pos eik]) t1 t2 t3 t4 t5 t6 (Or.inl rfl)
          · have qi := hq i i0 (by omega)
            have qk := hq k k0 (by omega)
            have cX : ∀ S3, (∀ k, k ≠ 9 → ¬ (91 ≤ k ∧ k ≤ 102) → aI S3 k = aI S0 k) → rI S3 = rI S0 → gI S3 = gI S0 → coreX S S3 := fun S3 z1 z2 z3 => ⟨fun q hq => by rw [z1 q (by omega) (by omega)]; exact hc.1 q hq, by rw [z2]; exact hc.2.1, by rw [z3]; exact hc.2.2⟩
            have nm : ∀ (S3 : St) (u : Int → Int), (∀ k, k ≠ 9 → ¬ (91 ≤ k ∧ k ≤ 102) → aI S3 k = aI S0 k) → (∀ k, k ≠ 9 → ¬ (91 ≤ k ∧ k ≤ 102) → aI (aput S3 9 u) k = aI S0 k) := fun S3 u z q q0 q1 => by rw [← z q q0 q1]; funext y; exact aI_aput_n q0
            have nm2 : ∀ (S3 : St) (u : Int → Int) (j : Int) (y : Int), aI (aput S3 9 u) (91 + j.toNat) y = aI S3 (91 + j.toNat) y := fun S3 u j y => aI_aput_n (by omega)
            rw [e10, qi.1, qk.1]
            unfold j_X_laysSaints_151 j_X_laysSaints_155
            refine ⟨by omega, fun _ => ⟨by omega, fun _ => UX S2 _ _ _ (cX S2 t1 t3 t4) qi.2 qk.2 (fun u r01 => ⟨fun z => ?_, fun z => ?_⟩)⟩⟩
            · refine wr c2 _ 1 ?_ (nm S2 u t1) t2 t3 t4 (fun j q j0 j1 q0 q1 => by rw [nm2]; exact t5 j q j0 j1 q0 q1) (fun j j0 j1 => by rw [nm2]; exact t6 j j0 j1) (Or.inr rfl)
              unfold apU
              rw [if_neg nik, if_neg z]
            · have f10 : aI (aput S2 9 u) 10 = aI S0 10 := nm S2 u t1 10 (by omega) (by omega)
              rw [f10, qi.1, qk.1]
              refine ⟨by omega, fun _ => ⟨by omega, fun _ => UX _ _ _ _ (cX _ (nm S2 u t1) t3 t4) qk.2 qi.2 (fun u2 r01' => ⟨fun z2 => ?_, fun z2 => ?_⟩)⟩⟩
              · refine wr c2 _ 0 ?_ (nm _ u2 (nm S2 u t1)) t2 t3 t4 (fun j q j0 j1 q0 q1 => by rw [nm2, nm2]; exact t5 j q j0 j1 q0 q1) (fun j j0 j1 => by rw [nm2, nm2]; exact t6 j j0 j1) (Or.inl rfl)
                unfold apU
                rw [if_neg nik, if_pos z, z2]
              · refine wr c2 _ 1 ?_ (nm _ u2 (nm S2 u t1)) t2 t3 t4 (fun j q j0 j1 q0 q1 => by rw [nm2, nm2]; exact t5 j q j0 j1 q0 q1) (fun j j0 j1 => by rw [nm2, nm2]; exact t6 j j0 j1) (Or.inr rfl)
                unfold apU
                rw [if_neg nik, if_pos z]
                rcases h01 (qv k) (qv i) with q | q <;> omega
      exact ⟨13, inn 13 0 S' (by omega) hn.1 (by omega) s1 s2 s3 s4 s5 (fun j j0 j1 => by omega)⟩
theorem pM_barred {S T T0 : St} {U : Int → Int → Int} {qv MF : Int → Int} {n : Int} (h : REL tB S T) (hn : 0 ≤ n ∧ n ≤ 12) (h01 : ∀ a b, U a b = 0 ∨ U a b = 1)
    (UM : ∀ (T' : St) (a b : Int), coreM T T' → (0 ≤ a ∧ a < aI S 0 1) → (0 ≤ b ∧ b < aI S 0 1) → ∃ v5 v6 v7, ∀ K : Int → St → Prop, K (if U a b = 0 then U b a else 1) (aw T' v5 v6 v7) → w_M_isUnlike a b T' K)
    (MM : ∀ (T' : St) (k : Int) (K : Int → Prop), coreM T T' → (0 ≤ k ∧ k ≤ 19) → K (MF k) → w_M_manyOf k T' K)
    (hc : coreM T T0) (hq : ∀ i, 0 ≤ i → i < n → aI T0 8 i = qv i ∧ 0 ≤ qv i ∧ qv i < aI S 0 1) (hf : fI T0 29 = n) :
    ∀ (m : Nat) (i : Int) (T' : St), 0 ≤ i → i ≤ n → n - i < m → (∀ k, ¬ (5 ≤ k ∧ k ≤ 7) → k ≠ 9 → k ≠ 10 → aI T' k = aI T0 k) → fI T' = fI T0 → (∀ j, 0 ≤ j → j < i → aI T' 10 j = MF (aI S 3 (5 * qv j)) ∧ (∀ k, 0 ≤ k → k < n → bt (aI T' 9 j) k = apU U qv j k)) →
    ∃ T2, (∀ k, ¬ (5 ≤ k ∧ k ≤ 7) → k ≠ 9 → k ≠ 10 → aI T2 k = aI T0 k) ∧ fI T2 = fI T0 ∧ (∀ j, 0 ≤ j → j < n → aI T2 10 j = MF (aI S 3 (5 * qv j)) ∧ (∀ k, 0 ≤ k → k < n → bt (aI T2 9 j) k = apU U qv j k)) ∧ ∀ K : St → Prop, K T2 → l_M_findBarred_2 K m i T' := by
  obtain ⟨⟨a0, a1, a2⟩, ⟨b0, b1, b2⟩, -⟩ := h.1.nums
  intro m
  induction m with
  | zero => intro i T' i0 i1 i2; omega
  | succ m ih =>
    intro i T' i0 i1 i2 s1 s2 s3
    by_cases ci : i = n
    · refine ⟨T', s1, s2, fun j j0 j1 => s3 j j0 (by omega), fun K hK => ?_⟩
      unfold l_M_findBarred_2
      rw [s2, hf]
      exact fun _ => ⟨fun _ => hK, fun z => absurd (by omega) z⟩
    · have qi := hq i i0 (by omega)
      have gk := (h.1.2.2.1.2.2.2.1 (qv i) qi.2.1 qi.2.2).1
      have gb := h.1.2.2.1.1 (qv i) qi.2.1 qi.2.2
      have inn : ∀ (f : Nat) (k : Int) (T2 : St), 0 ≤ k → k ≤ n → n - k < f → (∀ k, ¬ (5 ≤ k ∧ k ≤ 7) → k ≠ 9 → k ≠ 10 → aI T2 k = aI T0 k) → fI T2 = fI T0 → (∀ j, 0 ≤ j → j < i → aI T2 10 j = MF (aI S 3 (5 * qv j)) ∧ (∀ k, 0 ≤ k → k < n → bt (aI T2 9 j) k = apU U qv j k)) → aI T2 10 i = MF (aI S 3 (5 * qv i)) → (0 ≤ aI T2 9 i ∧ aI T2 9 i < 65536) → (∀ j, 0 ≤ j → j < n → bt (aI T2 9 i) j = if j < k then apU U qv i j else 0) →
          ∃ T3, (∀ k, ¬ (5 ≤ k ∧ k ≤ 7) → k ≠ 9 → k ≠ 10 → aI T3 k = aI T0 k) ∧ fI T3 = fI T0 ∧ (∀ j, 0 ≤ j → j < i + 1 → aI T3 10 j = MF (aI S 3 (5 * qv j)) ∧ (∀ k, 0 ≤ k → k < n → bt (aI T3 9 j) k = apU U qv j k)) ∧ ∀ (K : St → Prop) (X : St → Prop), X T3 → l_M_findBarred_43 i K X f k T2 := by
        intro f
        induction f with
        | zero => intro k T2 k0 k1 k2; omega
        | succ f ihf =>
          intro k T2 k0 k1 k2 t1 t2 t3 t4 t5 t6
          by_cases ck : k = n
          · refine ⟨T2, t1, t2, fun j j0 j1 => ?_, fun K X hX => ?_⟩
            · by_cases e : j = i
              · rw [e]
                exact ⟨t4, fun q q0 q1 => by rw [t6 q q0 q1, if_pos (by omega)]⟩
              · exact t3 j j0 (by omega)
            · unfold l_M_findBarred_43
              rw [t2, hf]
              exact fun _ => ⟨fun _ => hX, fun z => absurd (by omega) z⟩
          · have qk := hq k k0 (by omega)
            have e8 : aI T2 8 = aI T0 8 := t1 8 (by omega) (by omega) (by omega)
            by_cases eik : i = k
            · obtain ⟨T3, u1, u2, u3, u4⟩ := ihf (k + 1) T2 (by omega) (by omega) (by omega) t1 t2 t3 t4 t5 (fun j j0 j1 => by
                rw [t6 j j0 j1]
                by_cases z : j = k
                · rw [if_neg (by omega), if_pos (by omega), z]
                  unfold apU
                  rw [if_pos eik]
                · by_cases z2 : j < k
                  · rw [if_pos z2, if_pos (by omega)]
                  · rw [if_neg z2, if_neg (by omega)])
              refine ⟨T3, u1, u2, u3, fun K X hX => ?_⟩
              unfold l_M_findBarred_43 j_M_findBarred_87
              rw [t2, hf]
              exact fun _ => ⟨fun z => absurd z (by omega), fun _ => ⟨fun _ => ⟨by omega, u4 K X hX⟩, fun z => absurd eik z⟩⟩
            · have cM : coreM T T2 := ⟨by rw [t1 0 (by omega) (by omega) (by omega)]; exact hc.1, by rw [t1 2 (by omega) (by omega) (by omega)]; exact hc.2⟩
              obtain ⟨v5, v6, v7, hw⟩ := UM T2 (qv i) (qv k) cM qi.2 qk.2
              have eap : (if U (qv i) (qv k) = 0 then U (qv k) (qv i) else 1) = apU U qv i k := by
                unfold apU
                rw [if_neg eik]
              rw [eap] at hw
              have awk : ∀ j, ¬ (5 ≤ j ∧ j ≤ 7) → aI (aw T2 v5 v6 v7) j = aI T2 j := fun j hj => aw_hi T2 v5 v6 v7 (by omega) (by omega) (by omega)
              rcases (apU_sym (qv := qv) h01 i k).2 with ap0 | ap1
              · obtain ⟨T3, u1, u2, u3, u4⟩ := ihf (k + 1) (aw T2 v5 v6 v7) (by omega) (by omega) (by omega) (fun j q0 q1 q2 => by rw [awk j q0]; exact t1 j q0 q1 q2) t2 (by rw [awk 10 (by omega), awk 9 (by omega)]; exact t3) (by rw [awk 10 (by omega)]; exact t4) (by rw [awk 9 (by omega)]; exact t5) (fun j j0 j1 => by
                  rw [awk 9 (by omega), t6 j j0 j1]
                  by_cases z : j = k
                  · rw [if_neg (by omega), if_pos (by omega), z, ap0]
                  · by_cases z2 : j < k
                    · rw [if_pos z2, if_pos (by omega)]
                    · rw [if_neg z2, if_neg (by omega)])
                refine ⟨T3, u1, u2, u3, fun K X hX => ?_⟩
                unfold l_M_findBarred_43 j_M_findBarred_87
                rw [t2, hf, e8, qi.1, qk.1]
                refine fun _ => ⟨fun z => absurd z (by omega), fun _ => ⟨fun z => absurd z eik, fun _ => ⟨by omega, fun _ => ⟨by omega, fun _ => hw _ (fun _ => ?_)⟩⟩⟩⟩
                rw [ap0]
                exact ⟨fun _ => ⟨by omega, u4 K X hX⟩, fun z => absurd rfl z⟩
              · have o := iOr_lt (x := aI T2 9 i) (t := k) (n := 16) ⟨t5.1, t5.2⟩ (by omega) (by omega)
                have p16 : (2 : Int) ^ (16 : Int).toNat = 65536 := by decide
                have pk : (2 : Int) ^ k.toNat ≤ 65536 := p2_mono (n := 16) (by omega)
                have pk0 : (0 : Int) < 2 ^ k.toNat := Int.pow_pos (by decide)
                obtain ⟨T3, u1, u2, u3, u4⟩ := ihf (k + 1) (aset (aw T2 v5 v6 v7) 9 i (iOr (aI T2 9 i) (1 * 2 ^ k.toNat))) (by omega) (by omega) (by omega) (fun j q0 q1 q2 => by
                  rw [← t1 j q0 q1 q2, ← awk j q0]
                  funext y
                  exact aI_aset_j q1) t2 (fun j j0 j1 => by
                  rw [aI_aset_j (by omega), aI_aset_i (by omega), awk 10 (by omega), awk 9 (by omega)]
                  exact t3 j j0 j1) (by rw [aI_aset_j (by omega), awk 10 (by omega)]; exact t4) (by rw [aI_aset_s]; omega) (fun j j0 j1 => by
                  rw [aI_aset_s, bt_or ⟨t5.1, t5.2⟩ (by omega) j0]
                  by_cases z : j = k
                  · rw [if_pos z, if_pos (by omega), z, ap1]
                  · rw [if_neg z, t6 j j0 j1]
                    by_cases z2 : j < k
                    · rw [if_pos z2, if_pos (by omega)]
                    · rw [if_neg z2, if_neg (by omega)])
                refine ⟨T3, u1, u2, u3, fun K X hX => ?_⟩
                unfold l_M_findBarred_43 j_M_findBarred_87
                rw [t2, hf, e8, qi.1, qk.1]
                refine fun _ => ⟨fun z => absurd z (by omega), fun _ => ⟨fun z => absurd z eik, fun _ => ⟨by omega, fun _ => ⟨by omega, fun _ => hw _ (fun _ => ?_)⟩⟩⟩⟩
                rw [ap1, awk 9 (by omega)]
                refine ⟨fun z => absurd z (by decide), fun _ => ⟨by omega, fun _ => ⟨by omega, by omega, by omega, ?_⟩⟩⟩
                rintro _ rfl
                exact ⟨by omega, u4 K X hX⟩
      obtain ⟨T3, u1, u2, u3, u4⟩ := inn 13 0 (aset (aset T' 9 i 0) 10 i (MF (aI S 3 (5 * qv i)))) (by omega) hn.1 (by omega) (fun j q0 q1 q2 => by
        rw [← s1 j q0 q1 q2]
        funext y
        rw [aI_aset_j q2, aI_aset_j q1]) s2 (fun j j0 j1 => by
        rw [aI_aset_i (by omega), aI_aset_j (by omega), aI_aset_j (by omega), aI_aset_i (by omega)]
        exact s3 j j0 j1) (aI_aset_s _ _ _ _) (by rw [aI_aset_j (by omega), aI_aset_s]; omega) (fun j j0 j1 => by
        rw [aI_aset_j (by omega), aI_aset_s, bt_zero, if_neg (by omega)])
      obtain ⟨T4, w1, w2, w3, w4⟩ := ih (i + 1) T3 (by omega) (by omega) (by omega) u1 u2 u3
      refine ⟨T4, w1, w2, w3, fun K hK => ?_⟩
      unfold l_M_findBarred_2
      rw [s2, hf]
      refine fun _ => ⟨fun z => absurd z (by omega), fun _ => ⟨by omega, ?_⟩⟩
      rintro _ rfl
      have e8 : aI (aset T' 9 i 0) 8 i = qv i := by
        rw [aI_aset_j (by omega), s1 8 (by omega) (by omega) (by omega)]
        exact qi.1
      have e0 : aI (aset T' 9 i 0) 0 = aI T 0 := by
        funext y
        rw [aI_aset_j (by omega), s1 0 (by omega) (by omega) (by omega), hc.1]
      rw [e8, e0]
      refine ⟨by omega, fun _ => p_boneAt (by omega) (fun _ => ⟨by omega, fun _ => ?_⟩)⟩
      rw [gb]
      refine MM _ _ _ ⟨e0, ?_⟩ gk (fun _ => ⟨by omega, ?_⟩)
      · funext y
        rw [aI_aset_j (by omega), s1 2 (by omega) (by omega) (by omega), hc.2]
      · rintro _ rfl
        refine ⟨13, u4 _ _ ?_⟩
        unfold j_M_findBarred_93
        exact ⟨by omega, w4 K hK⟩
