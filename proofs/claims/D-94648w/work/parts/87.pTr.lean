/-! PURE: text(): the twin's clause: its start and its end -/
theorem cl_1 {b : Int → Int} {n lim p o w : Int} {T : St} {K : Int → St → Prop} (hi : exS b n lim T p o w) (h : soF b n p < 0) (hK : K 1 T) : w_M_clause T K := by
  unfold w_M_clause
  exact pM_sortOf hi (fun _ => ⟨fun z => absurd z (by omega), fun _ => hK⟩)
theorem cl_4 {b : Int → Int} {n lim p o w : Int} {T : St} {K : Int → St → Prop} (hi : exS b n lim T p o w) (h : 0 ≤ soF b n p ∧ soF b n p < 3) (h1 : bt (fI T 21) (soF b n p) = 1) (hK : K 4 T) : w_M_clause T K := by
  unfold w_M_clause
  refine pM_sortOf hi (fun _ => ⟨fun _ => ⟨fun z => absurd z (by omega), fun _ => fun _ => ⟨by omega, ?_⟩⟩, fun z => absurd h.1 z⟩)
  rw [bt_div]
  exact ⟨fun z => absurd h1 z, fun _ => hK⟩
/-- the number of the clauses is looked at -/
theorem cl_30 {b : Int → Int} {n lim p o w : Int} {T : St} {K : Int → St → Prop} (hi : exS b n lim T p o w) (h : 0 ≤ soF b n p) (h1 : soF b n p < 3 → bt (fI T 21) (soF b n p) = 0) (hK : j_M_clause_30 (soF b n p) T K) : w_M_clause T K := by
  unfold w_M_clause
  refine pM_sortOf hi (fun _ => ⟨fun _ => ⟨fun _ => hK, fun z => fun _ => ⟨by omega, ?_⟩⟩, fun z => absurd h z⟩)
  rw [bt_div, h1 (by omega)]
  exact ⟨fun _ => hK, fun z => absurd z (by decide)⟩
theorem cl_6 {b : Int → Int} {n lim p o w : Int} {T : St} {K : Int → St → Prop} (hi : exS b n lim T p o w) (h : 0 ≤ soF b n p) (h1 : soF b n p < 3 → bt (fI T 21) (soF b n p) = 0) (hc : aI T 2 (fI T 12) = 24) (hK : K 6 T) : w_M_clause T K := by
  have x12 := hi.2.2.2.2.2.1
  refine cl_30 hi h h1 ?_
  unfold j_M_clause_30
  rw [hc]
  refine fun _ => ⟨by omega, fun _ => ?_⟩
  rintro _ rfl -
  exact ⟨fun z => absurd rfl z, fun _ => hK⟩
/-- what a clause's end is -/
def clE (s x w : Int) (K : Int → St → Prop) : Int → St → Prop := fun r S => InR r → j_M_clause_128 s x w r S K
theorem cl_pre {b : Int → Int} {n lim p o w c s : Int} {T : St} (hi : exS b n lim T p o w) (hs : s = soF b n p) (h : 0 ≤ s) (h1 : s < 3 → bt (fI T 21) s = 0) (hc : aI T 2 (fI T 12) = c) (hc2 : 0 ≤ c ∧ c < 24) (h21 : 0 ≤ fI T 21 ∧ fI T 21 < 8) :
    ∃ T2, exS b n (if s = 2 then 8 else 5) T2 (te b n p) o w ∧ p < te b n p ∧ ((0 ≤ fI T2 21 ∧ fI T2 21 < 8) ∧ ∀ i, 0 ≤ i → i < 3 → bt (fI T2 21) i = if i = s then 1 else bt (fI T 21) i) ∧ (∀ k, ¬ (7 ≤ k ∧ k ≤ 11) → k ≠ 20 → k ≠ 21 → fI T2 k = fI T k) ∧ (∀ k, k ≠ 2 → aI T2 k = aI T k) ∧ aI T2 2 (fI T 12 + 1 + 4 * c) = s ∧ (∀ i, i ≠ fI T 12 + 1 + 4 * c → aI T2 2 i = aI T 2 i) ∧
    ∀ K : Int → St → Prop, (s = 0 → w_M_summed T2 (clE s (fI T 12 + 1 + 4 * c) w K)) → (s = 1 ∨ s = 2 → w_M_either T2 (clE s (fI T 12 + 1 + 4 * c) w K)) → (3 ≤ s → w_M_done (fI T 12 + 1 + 4 * c) s T2 (clE s (fI T 12 + 1 + 4 * c) w K)) → w_M_clause T K := by
  have x12 := hi.2.2.2.2.2.1
  have sb := soF_bd b n p
  have k2 : tk b n p ≠ 0 := by
    intro e
    unfold soF at hs
    rw [if_neg (by omega)] at hs
    omega
  have tg := te_gt (b := b) (n := n) (p := p) hi.2.1.2 k2
  -- which came
  have on : ∃ v : Int, (0 ≤ v ∧ v < 8) ∧ (∀ i, 0 ≤ i → i < 3 → bt v i = if i = s then 1 else bt (fI T 21) i) ∧ ((s < 3 ∧ v = iOr (fI T 21) (1 * 2 ^ s.toNat)) ∨ (3 ≤ s ∧ v = fI T 21)) := by
    by_cases c3 : s < 3
    · have o1 := iOr_lt (x := fI T 21) (t := s) (n := 3) h21 (by omega) (by omega)
      have p3 : (2 : Int) ^ (3 : Int).toNat = 8 := by decide
      refine ⟨iOr (fI T 21) (1 * 2 ^ s.toNat), by omega, fun i i0 i1 => ?_, Or.inl ⟨c3, rfl⟩⟩
      exact bt_or ⟨h21.1, by omega⟩ (by omega) i0
    · exact ⟨fI T 21, h21, fun i i0 i1 => by rw [if_neg (by omega)], Or.inr ⟨by omega, rfl⟩⟩
  obtain ⟨v, v1, v2, v3⟩ := on
  have e0 : ∀ k, k ≠ 20 → k ≠ 21 → fI (fset (fset T 21 v) 20 s) k = fI T k := fun k k0 k1 => by rw [fI_fset_n k0, fI_fset_n k1]
  have hi2 : exS b n (if s = 2 then 8 else 5) (fset (fset T 21 v) 20 s) p o w := by
    obtain ⟨h1', h2, h3, ⟨h6, h6b⟩, ⟨h7, h7b⟩, h9, h10⟩ := hi
    refine ⟨h1'.kept (e0 4 (by omega) (by omega)) rfl, h2, ⟨?_, ?_, ?_, fun z => ?_, fun z => ?_⟩, ⟨?_, h6b⟩, ⟨?_, h7b⟩, ?_, ?_⟩
    · rw [e0 8 (by omega) (by omega)]; exact h3.1
    · rw [e0 7 (by omega) (by omega)]; exact h3.2.1
    · rw [e0 9 (by omega) (by omega)]; exact h3.2.2.1
    · rw [e0 10 (by omega) (by omega)]; exact h3.2.2.2.1 z
    · rw [e0 11 (by omega) (by omega)]; exact h3.2.2.2.2 z
    · rw [e0 18 (by omega) (by omega)]; exact h6
    · rw [e0 14 (by omega) (by omega)]; exact h7
    · rw [e0 12 (by omega) (by omega)]; exact h9
    · rw [fI_fset_s]
      by_cases c2 : s = 2
      · exact Or.inl ⟨c2, by rw [if_pos c2]⟩
      · exact Or.inr ⟨c2, by rw [if_neg c2]⟩
  obtain ⟨T1, u1, u2, u3, u4⟩ := hi2.nxH rfl (fun _ _ => rfl) k2
  have f12 : fI T1 12 = fI T 12 := by rw [u2 12 (by omega), e0 12 (by omega) (by omega)]
  have f14 : fI T1 14 = w := by rw [u2 14 (by omega), e0 14 (by omega) (by omega)]; exact hi.2.2.2.2.1.1
  have f21 : fI T1 21 = v := by rw [u2 21 (by omega), fI_fset_n (by omega), fI_fset_s]
  have fT2 : ∀ k, fI (aset T1 2 (fI T 12 + 1 + 4 * c) s) k = fI T1 k := fun _ => rfl
  refine ⟨aset T1 2 (fI T 12 + 1 + 4 * c) s, ?_, tg.1, ⟨by rw [fT2, f21]; exact v1, fun i i0 i1 => by rw [fT2, f21]; exact v2 i i0 i1⟩, fun k k0 k1 k2' => by rw [fT2, u2 k k0, e0 k k1 k2'], fun k k0 => ?_, aI_aset_s _ _ _ _, fun i hi' => ?_, fun K q0 q1 q2 => ?_⟩
  · obtain ⟨h1', h2, h3, h6, h7, h9, h10⟩ := u1
    exact ⟨h1'.kept rfl (by funext y; exact aI_aset_j (by omega)), h2, h3, h6, h7, h9, h10⟩
  · funext y
    rw [aI_aset_j k0, u3]
    rfl
  · rw [aI_aset_i hi', u3]
    rfl
  · have main : j_M_clause_66 s c (fset T 21 v) K := by
      unfold j_M_clause_66
      rintro _ rfl
      refine u4 _ ?_
      rw [f12]
      refine fun _ => ⟨by omega, by omega, by omega, ?_⟩
      rintro _ rfl -
      refine ⟨by omega, ?_⟩
      rintro _ rfl
      rw [fT2, f14]
      rintro - _ rfl -
      exact ⟨fun z => ⟨fun z2 => q1 (by omega), fun z2 => q0 z2⟩, fun z => q2 (by omega)⟩
    rw [hs] at h h1 main v3
    refine cl_30 hi h h1 ?_
    unfold j_M_clause_30
    rw [hc]
    refine fun _ => ⟨by omega, fun _ => ?_⟩
    rintro _ rfl -
    refine ⟨fun _ => ⟨fun z => ?_, fun z => fun _ => ?_⟩, fun z => absurd z (by omega)⟩
    · rcases v3 with ⟨a, d⟩ | ⟨a, d⟩
      · omega
      · rw [d, fset_self] at main
        exact main
    · rcases v3 with ⟨a, d⟩ | ⟨a, d⟩
      · have pb : (2 : Int) ^ (soF b n p).toNat ≤ 8 := p2_mono (n := 3) (by omega)
        have pb0 : (0 : Int) < 2 ^ (soF b n p).toNat := Int.pow_pos (by decide)
        refine ⟨by omega, by omega, ?_⟩
        rintro _ rfl
        rw [d] at main
        exact main
      · omega
