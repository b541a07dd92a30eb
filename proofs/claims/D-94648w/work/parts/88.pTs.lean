/-! PURE: text(): the twin's clause: its end; a text's start and end -/
theorem cl_end_F {s x w r : Int} {T : St} {K : Int → St → Prop} (hr : r ≠ 0) (hK : K r T) : clE s x w K r T := by
  intro _
  unfold j_M_clause_128
  exact ⟨fun z => absurd z hr, fun _ => hK⟩
/-- the clause's bounds of steps -/
def clW (s x w w' : Int) (T : St) : St := if 3 ≤ s then T else aset (aset T 2 (x + 1) w) 2 (x + 2) w'
theorem clW_f (s x w w' : Int) (T : St) : fI (clW s x w w' T) = fI T := by
  unfold clW
  split <;> rfl
theorem clW_a {s x w w' : Int} {T : St} {k : Nat} (h : k ≠ 2) : aI (clW s x w w' T) k = aI T k := by
  unfold clW
  split
  · rfl
  · funext y
    rw [aI_aset_j h, aI_aset_j h]
theorem clW_o {s x w w' i : Int} {T : St} (h : s < 3 → i ≠ x + 1 ∧ i ≠ x + 2) : aI (clW s x w w' T) 2 i = aI T 2 i := by
  unfold clW
  split
  · rfl
  · have := h (by omega)
    rw [aI_aset_i this.2, aI_aset_i this.1]
theorem clW_1 {s x w w' : Int} {T : St} (h : s < 3) : aI (clW s x w w' T) 2 (x + 1) = w ∧ aI (clW s x w w' T) 2 (x + 2) = w' := by
  unfold clW
  rw [if_neg (by omega)]
  exact ⟨by rw [aI_aset_i (by omega), aI_aset_s], aI_aset_s _ _ _ _⟩
theorem cl_165 {s x w w' : Int} {T : St} {K : Int → St → Prop} (hx : 0 ≤ x ∧ x + 2 < 2800) (h14 : fI T 14 = w') (h : j_M_clause_165 (clW s x w w' T) K) : clE s x w K 0 T := by
  intro _
  unfold j_M_clause_128
  unfold clW at h
  refine ⟨fun _ => ⟨fun c => ?_, fun c => ⟨by omega, by omega, ?_⟩⟩, fun z => absurd rfl z⟩
  · rw [if_pos c] at h
    exact h
  · rintro _ rfl
    rw [fI_aset, h14]
    refine ⟨by omega, fun _ => ⟨by omega, ?_⟩⟩
    rintro _ rfl
    rw [if_neg c] at h
    exact h
theorem cl_end_ok {b : Int → Int} {n lim p o w w' c s x : Int} {T : St} (hi : exS b n lim T p o w') (hc : aI T 2 (fI T 12) = c) (hc2 : 0 ≤ c ∧ c < 24) (hx : x = fI T 12 + 1 + 4 * c) (ht : tk b n p = 59) :
    ∃ T4, exS b n lim T4 (te b n p) o w' ∧ p < te b n p ∧ (∀ k, ¬ (7 ≤ k ∧ k ≤ 11) → fI T4 k = fI T k) ∧ (∀ k, k ≠ 2 → aI T4 k = aI T k) ∧ aI T4 2 (fI T 12) = c + 1 ∧ (s < 3 → aI T4 2 (x + 1) = w ∧ aI T4 2 (x + 2) = w') ∧ (∀ i, i ≠ fI T 12 → (s < 3 → i ≠ x + 1 ∧ i ≠ x + 2) → aI T4 2 i = aI T 2 i) ∧ ∀ K : Int → St → Prop, K 0 T4 → clE s x w K 0 T := by
  have x12 := hi.2.2.2.2.2.1
  have h3 := hi.2.2.1
  have tg := te_gt (b := b) (n := n) (p := p) hi.2.1.2 (by omega)
  have ecl : aI (clW s x w w' T) 2 (fI T 12) = c := by rw [clW_o (fun _ => by omega)]; exact hc
  obtain ⟨T4, u1, u2, u3, u4⟩ := hi.nxH (T1 := aset (clW s x w w' T) 2 (fI T 12) (c + 1)) (by rw [fI_aset, clW_f]) (fun k hk => by
    funext y
    rw [aI_aset_j hk, clW_a hk]) (by omega)
  refine ⟨T4, u1, tg.1, u2, fun k hk => by rw [u3]; funext y; rw [aI_aset_j hk, clW_a hk], by rw [u3, aI_aset_s], fun hs => ?_, fun i i0 i1 => by rw [u3, aI_aset_i i0, clW_o i1], fun K hK => cl_165 (by omega) hi.2.2.2.2.1.1 ?_⟩
  · rw [u3, aI_aset_i (by omega), aI_aset_i (by omega)]
    exact clW_1 hs
  · unfold j_M_clause_165
    rw [clW_f, ecl]
    refine fun _ => ⟨by omega, fun _ => ⟨by omega, by omega, ?_⟩⟩
    rintro _ rfl
    rw [fI_aset, clW_f, h3.2.2.1]
    exact fun _ => ⟨fun _ => u4 _ hK, fun z => absurd ht z⟩
theorem cl_end_f {b : Int → Int} {n lim p o w w' c s x : Int} {T : St} (hi : exS b n lim T p o w') (hc : aI T 2 (fI T 12) = c) (hc2 : 0 ≤ c ∧ c < 24) (hx : x = fI T 12 + 1 + 4 * c) (ht : tk b n p ≠ 59) :
    ∃ T4, fI T4 = fI T ∧ (∀ k, k ≠ 2 → aI T4 k = aI T k) ∧ (∀ i, i ≠ fI T 12 → i ≠ x + 1 → i ≠ x + 2 → aI T4 2 i = aI T 2 i) ∧ ∀ K : Int → St → Prop, K 1 T4 → clE s x w K 0 T := by
  have x12 := hi.2.2.2.2.2.1
  have h3 := hi.2.2.1
  have ecl : aI (clW s x w w' T) 2 (fI T 12) = c := by rw [clW_o (fun _ => by omega)]; exact hc
  refine ⟨aset (clW s x w w' T) 2 (fI T 12) (c + 1), by rw [fI_aset, clW_f], fun k hk => by funext y; rw [aI_aset_j hk, clW_a hk], fun i i0 i1 i2 => by rw [aI_aset_i i0, clW_o (fun _ => ⟨i1, i2⟩)], fun K hK => cl_165 (by omega) hi.2.2.2.2.1.1 ?_⟩
  unfold j_M_clause_165
  rw [clW_f, ecl]
  refine fun _ => ⟨by omega, fun _ => ⟨by omega, by omega, ?_⟩⟩
  rintro _ rfl
  rw [fI_aset, clW_f, h3.2.2.1]
  exact fun _ => ⟨fun z => absurd z ht, fun _ => hK⟩
/-- a text's start -/
theorem rd_in {T : St} {b : Int → Int} {n N : Int} (ht : tpM T b n) (hN : aI T 0 3 = N) (hN2 : 0 ≤ N ∧ N ≤ 3) : ∃ (T1 : St) (lim : Int), exS b n lim T1 0 0 0 ∧ fI T1 12 = 700 * N ∧ fI T1 21 = 0 ∧ aI T1 2 (700 * N) = 0 ∧ (∀ k, ¬ (7 ≤ k ∧ k ≤ 11) → k ≠ 12 → k ≠ 14 → k ≠ 18 → k ≠ 21 → fI T1 k = fI T k) ∧ (∀ k, k ≠ 2 → aI T1 k = aI T k) ∧ (∀ i, i ≠ 700 * N → aI T1 2 i = aI T 2 i) ∧ ∀ K : Int → St → Prop, (∃ m, l_M_readText_48 K m T1) → w_M_readText T K := by
  have hn := ht.2.1
  have e0 : ∀ k, k ≠ 12 → k ≠ 14 → k ≠ 18 → k ≠ 21 → k ≠ 7 → fI (fset (fset (fset (fset (aset (fset T 12 (700 * N)) 2 (700 * N) 0) 14 0) 18 0) 21 0) 7 0) k = fI T k := fun k k0 k1 k2 k3 k4 => by rw [fI_fset_n k4, fI_fset_n k3, fI_fset_n k2, fI_fset_n k1, fI_aset, fI_fset_n k0]
  have tp1 : tpM (fset (fset (fset (fset (aset (fset T 12 (700 * N)) 2 (700 * N) 0) 14 0) 18 0) 21 0) 7 0) b n := ht.kept (e0 4 (by omega) (by omega) (by omega) (by omega) (by omega)) (by
    funext y
    show aI (aset (fset T 12 (700 * N)) 2 (700 * N) 0) 3 y = _
    rw [aI_aset_j (by omega)]
    rfl)
  obtain ⟨T1, v1, v2, v3⟩ := pM_next (p := 0) tp1 (fI_fset_s _ _ _) (by omega)
  refine ⟨T1, if fI T 20 = 2 then 8 else 5, ⟨tp1.kept (v2.1 4 (by omega)) (by rw [v2.2]), by omega, v1, ⟨?_, by omega, by omega⟩, ⟨?_, by omega⟩, ?_, ?_⟩, ?_, ?_, ?_, fun k k0 k1 k2 k3 k4 => by rw [v2.1 k k0, e0 k k1 k2 k3 k4 (by omega)], fun k hk => ?_, fun i hi => ?_, ?_⟩
  · rw [v2.1 18 (by omega), fI_fset_n (by omega), fI_fset_n (by omega), fI_fset_s]
  · rw [v2.1 14 (by omega), fI_fset_n (by omega), fI_fset_n (by omega), fI_fset_n (by omega), fI_fset_s]
  · rw [v2.1 12 (by omega), fI_fset_n (by omega), fI_fset_n (by omega), fI_fset_n (by omega), fI_fset_n (by omega), fI_aset, fI_fset_s]
    omega
  · rw [v2.1 20 (by omega), e0 20 (by omega) (by omega) (by omega) (by omega) (by omega)]
    by_cases c2 : fI T 20 = 2
    · exact Or.inl ⟨c2, by rw [if_pos c2]⟩
    · exact Or.inr ⟨c2, by rw [if_neg c2]⟩
  · rw [v2.1 12 (by omega), fI_fset_n (by omega), fI_fset_n (by omega), fI_fset_n (by omega), fI_fset_n (by omega), fI_aset, fI_fset_s]
  · rw [v2.1 21 (by omega), fI_fset_n (by omega), fI_fset_s]
  · rw [v2.2]
    show aI (aset (fset T 12 (700 * N)) 2 (700 * N) 0) 2 (700 * N) = 0
    exact aI_aset_s _ _ _ _
  · rw [v2.2]
    funext y
    show aI (aset (fset T 12 (700 * N)) 2 (700 * N) 0) k y = _
    rw [aI_aset_j hk]
    rfl
  · rw [v2.2]
    show aI (aset (fset T 12 (700 * N)) 2 (700 * N) 0) 2 i = _
    rw [aI_aset_i hi]
    rfl
  · intro K hK
    unfold w_M_readText
    rw [hN]
    refine fun _ => ⟨by omega, ?_⟩
    rintro _ rfl
    rw [fI_fset_s]
    refine fun _ => ⟨by omega, ?_⟩
    rintro _ rfl _ rfl _ rfl _ rfl _ rfl
    exact v3 _ hK
/-- the loop over the clauses -/
theorem rd_stop {b : Int → Int} {n lim p o w : Int} {T : St} {K : Int → St → Prop} (hi : exS b n lim T p o w) (ht : tk b n p = 0) (hK : K 0 T) : ∃ m, l_M_readText_48 K m T := by
  refine ⟨1, ?_⟩
  unfold l_M_readText_48
  rw [hi.2.2.1.2.2.1]
  exact fun _ => ⟨fun _ => hK, fun z => absurd ht z⟩
theorem rd_go {b : Int → Int} {n lim p o w : Int} {T T2 : St} {K : Int → St → Prop} (hi : exS b n lim T p o w) (ht : tk b n p ≠ 0) (h : ∀ Kc : Int → St → Prop, Kc 0 T2 → w_M_clause T Kc) (hK : ∃ m, l_M_readText_48 K m T2) : ∃ m, l_M_readText_48 K m T := by
  obtain ⟨m, hm⟩ := hK
  refine ⟨m + 1, ?_⟩
  unfold l_M_readText_48
  rw [hi.2.2.1.2.2.1]
  exact fun _ => ⟨fun z => absurd z ht, fun _ => h _ (fun _ => ⟨fun _ => hm, fun z => absurd rfl z⟩)⟩
theorem rd_fault {b : Int → Int} {n lim p o w f : Int} {T T2 : St} {K : Int → St → Prop} (hi : exS b n lim T p o w) (ht : tk b n p ≠ 0) (hf : f ≠ 0) (h : ∀ Kc : Int → St → Prop, Kc f T2 → w_M_clause T Kc) (hK : K f T2) : ∃ m, l_M_readText_48 K m T := by
  refine ⟨1, ?_⟩
  unfold l_M_readText_48
  rw [hi.2.2.1.2.2.1]
  exact fun _ => ⟨fun z => absurd z ht, fun _ => h _ (fun _ => ⟨fun z => absurd z hf, fun _ => hK⟩)⟩
