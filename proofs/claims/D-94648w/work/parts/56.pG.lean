/-! PURE: of, pilgrims -/
variable {tB : Int}
theorem REL.alike {S S' T T' : St} (h : REL tB S T) (hA : ∀ k, k ≤ 8 ∨ (15 ≤ k ∧ k < 79) → aI S' k = aI S k) (hF : ∀ k, 3 ≤ k → k ≤ 5 → fI S' k = fI S k) (hR : rI S' = rI S) (hG : extP (gI S) (gI S')) (hT : ∀ k, k ≤ 3 → aI T' k = aI T k) (hU : ∀ k, 4 ≤ k → k ≤ 6 → fI T' k = fI T k) : REL tB S' T' := by
  have hN := h.1
  refine h.same ?_ ⟨hF, hR, hG, fun k hk => hA k (by omega), by rw [hA 0 (by omega)]⟩ ⟨hU, fun k _ k3 => hT k k3, by rw [hT 0 (by omega)]⟩
  unfold nowA at hN ⊢
  rw [hT 0 (by omega), hA 0 (by omega), hA 1 (by omega), hA 2 (by omega), hA 3 (by omega)]
  obtain ⟨⟨a0, a1, a2⟩, ⟨b0, b1, b2⟩, cy, ⟨d0, d1, d2⟩, ⟨e0, e1, e2⟩, ⟨g0, g1, g2⟩, ⟨i0, i1, i2⟩, -⟩ := hN.1
  refine RA.eqr hN a2 b2 g2 i2 (fun _ _ _ => rfl) (fun _ _ _ => rfl) (fun _ _ _ => rfl) (fun k j _ _ _ _ => ?_) (fun k j _ _ _ _ => ?_)
  · rw [hA _ (by omega)]
  · rw [hA _ (by omega)]
theorem aw_hi (T : St) (v5 v6 v7 : Int → Int) {k : Nat} (h : k ≠ 5) (h6 : k ≠ 6) (h7 : k ≠ 7) : aI (aw T v5 v6 v7) k = aI T k := by
  unfold aw
  funext y
  rw [aI_aput_n h7, aI_aput_n h6, aI_aput_n h]
theorem aput_hi (S : St) (j : Nat) (v : Int → Int) {k : Nat} (h : k ≠ j) : aI (aput S j v) k = aI S k := by
  funext y
  exact aI_aput_n h
theorem REL.names {S T : St} (h : REL tB S T) (v v5 v6 v7 : Int → Int) : REL tB (aput S 9 v) (aw T v5 v6 v7) :=
  h.alike (fun k hk => aput_hi S 9 v (by omega)) (fun _ _ _ => rfl) rfl (extP.refl _) (fun k hk => aw_hi T v5 v6 v7 (by omega) (by omega) (by omega)) (fun _ _ _ => rfl)
theorem law_of {S T : St} {b w : Int} {K : Int → St → Prop} (h : REL tB S T) (hK : ∀ r S', PostF tB (w_M_of b w T) r S' → K r S') : w_X_of b w S K := by
  have hn := h.1
  obtain ⟨⟨a0, a1, a2⟩, ⟨b0, b1, b2⟩, -⟩ := h.1.nums
  obtain ⟨H, H01, HX, HM⟩ := holy_fn h.1 h.2.2.2
  unfold w_X_of
  refine pX_isBone (by omega) (fun x0 x1 => br1 ?_) (fun c => br0 (hK _ _ (fun K' hk => ?_)))
  · refine p_in (fun w0 w1 => br1r ⟨fun c5 => ⟨fun n5 => HX S b _ (coreX.refl S) ⟨x0, x1⟩ (fun v r01 => ?_), fun e5 => pX_proofsOf (by omega) (by omega) (fun _ => hK _ _ (fun K' hk => ?_))⟩, fun c5 => pX_bone_2 (by omega) (by omega) (fun _ => hK _ _ (fun K' hk => ?_))⟩) (fun c => br0r (hK _ _ (fun K' hk => ?_)))
    · have six : ∀ K' : Int → St → Prop, (∀ v5 v6 v7, (H b = 0 → K' 0 (aw T v5 v6 v7)) ∧ (¬ H b = 0 → K' 1 (aw T v5 v6 v7))) → w_M_of b w T K' := by
        intro K' hk
        unfold w_M_of
        refine p_isBone (by omega) (fun _ _ => br1r ?_) (fun c => absurd (by omega) c)
        obtain ⟨v5, v6, v7, hw⟩ := HM T b (coreM.refl T) ⟨x0, x1⟩
        exact ⟨fun c => absurd c (by omega), fun c => absurd c (by omega), fun c => absurd c (by omega), fun c => absurd c (by omega), fun c => absurd c (by omega), fun c => absurd c (by omega), fun _ => hw _ (fun _ => hk v5 v6 v7), fun c => absurd (by omega) c⟩
      exact ⟨fun c0 => hK _ _ (fun K' hk => six K' (fun v5 v6 v7 => ⟨fun _ => hk _ (h.names _ _ _ _), fun z => absurd c0 z⟩)), fun c0 => hK _ _ (fun K' hk => six K' (fun v5 v6 v7 => ⟨fun z => absurd z c0, fun _ => hk _ (h.names _ _ _ _)⟩))⟩
    · unfold w_M_of
      refine p_isBone (by omega) (fun _ _ => br1r ?_) (fun c => absurd (by omega) c)
      refine ⟨fun c => absurd c (by omega), fun c => absurd c (by omega), fun c => absurd c (by omega), fun c => absurd c (by omega), fun c => absurd c (by omega), fun _ => p_boneAt (by omega) (fun _ => ⟨by omega, by omega, fun _ => p_bits (fun _ => ?_)⟩), fun c => absurd c (by omega), fun c => absurd (by omega) c⟩
      rw [show 30 + 6 * b + 5 = 35 + 6 * b by omega, hn.count x0 x1]
      exact hk _ h
    · have hb := hn.bone (e := w) x0 x1 w0 (by omega)
      have fin : w_M_boneAt b (fun (r5 : Int) => InR r5 → InR (r5 + w) ∧ (((0 : Int) ≤ r5 + w ∧ r5 + w < 1814) ∧ ((InR (aI T 0 (r5 + w)) → K' (aI T 0 (r5 + w)) T)))) := by
        refine p_boneAt (by omega) (fun _ => ⟨by omega, by omega, fun _ => ?_⟩)
        rw [hb]
        exact hk _ h
      unfold w_M_of
      refine p_isBone (by omega) (fun _ _ => br1r ?_) (fun c => absurd (by omega) c)
      exact ⟨fun _ => fin, fun _ => fin, fun _ => fin, fun _ => fin, fun _ => fin, fun c => absurd c (by omega), fun c => absurd c (by omega), fun c => absurd (by omega) c⟩
    · unfold w_M_of
      refine p_isBone (by omega) (fun _ _ => br1r ?_) (fun c => absurd (by omega) c)
      exact ⟨fun z => absurd (by omega) c, fun z => absurd (by omega) c, fun z => absurd (by omega) c, fun z => absurd (by omega) c, fun z => absurd (by omega) c, fun z => absurd (by omega) c, fun z => absurd (by omega) c, fun _ => hk _ h⟩
  · unfold w_M_of
    exact p_isBone (by omega) (fun _ _ => absurd (by omega) c) (fun _ => br0r (hk _ h))
/-- whether a town has a holy bone -/
def hTown (S : St) (H : Int → Int) (t : Int) (n : Int) : Prop := ∃ b, 0 ≤ b ∧ b < n ∧ aI S 3 (5 * b + 3) = t ∧ H b = 1
theorem pX_hasHoly_in {S S' : St} {H : Int → Int} {t r : Int} {K : Int → St → Prop} (hb : 0 ≤ aI S 0 1 ∧ aI S 0 1 ≤ 16) (h01 : ∀ b, H b = 0 ∨ H b = 1) (hc : coreX S S')
    (HX : ∀ (S' : St) (b : Int) (K : Int → St → Prop), coreX S S' → (0 ≤ b ∧ b < aI S 0 1) → (∀ v, K (H b) (aput S' 9 v)) → w_X_isHoly b S' K)
    (hr : (r = 1 ∧ hTown S H t (aI S 0 1)) ∨ (r = 0 ∧ ¬ hTown S H t (aI S 0 1))) (hK : ∀ u, K r (aput S' 9 u)) :
    ∀ (m : Nat) (k : Int) (u : Int → Int), 0 ≤ k → k ≤ aI S 0 1 → aI S 0 1 - k < m → ¬ hTown S H t k → l_X_hasHoly_2 t K m k (aput S' 9 u) := by
  intro m
  induction m with
  | zero => intro k u k0 k1 k2; omega
  | succ m ih =>
    intro k u k0 k1 k2 hno
    have hcu := hc.names u
    have c0 : aI (aput S' 9 u) 0 = aI S 0 := hcu.1 0 (by omega)
    have c3 : aI (aput S' 9 u) 3 = aI S 3 := hcu.1 3 (by omega)
    unfold l_X_hasHoly_2 j_X_hasHoly_35
    rw [c0]
    refine fun _ => ⟨fun c => ?_, fun c => pX_bone_2 (by omega) (by omega) (fun _ => ?_)⟩
    · have ek : k = aI S 0 1 := by omega
      rw [ek] at hno
      rcases hr with ⟨-, z⟩ | ⟨rfl, -⟩
      · exact absurd z hno
      · exact hK u
    · rw [c3]
      have nx : ¬ (aI S 3 (5 * k + 3) = t ∧ H k = 1) → ¬ hTown S H t (k + 1) := by
        rintro z ⟨b, q0, q1, q2, q3⟩
        by_cases e : b = k
        · rw [e] at q2 q3
          exact z ⟨q2, q3⟩
        · exact hno ⟨b, q0, by omega, q2, q3⟩
      refine ⟨fun ne => ⟨by omega, ih (k + 1) u (by omega) (by omega) (by omega) (nx (fun z => ne z.1))⟩, fun e => HX _ k _ hcu (by omega) (fun v r01 => ⟨fun z => ?_, fun z => ?_⟩)⟩
      · rw [aput_aput]
        exact ⟨by omega, ih (k + 1) v (by omega) (by omega) (by omega) (nx (fun q => by omega))⟩
      · have h1 : H k = 1 := by rcases h01 k with q | q <;> omega
        rw [aput_aput]
        rcases hr with ⟨rfl, -⟩ | ⟨-, z2⟩
        · exact hK v
        · exact absurd ⟨k, k0, by omega, e, h1⟩ z2
theorem pM_hasHoly_in {S T T' : St} {H : Int → Int} {t r : Int} (hn : nowA S T) (hb : 0 ≤ aI S 0 1 ∧ aI S 0 1 ≤ 16) (h01 : ∀ b, H b = 0 ∨ H b = 1) (hc : coreM T T')
    (HM : ∀ (T' : St) (b : Int), coreM T T' → (0 ≤ b ∧ b < aI S 0 1) → ∃ v5 v6 v7, ∀ K : Int → St → Prop, K (H b) (aw T' v5 v6 v7) → w_M_isHoly b T' K)
    (hr : (r = 1 ∧ hTown S H t (aI S 0 1)) ∨ (r = 0 ∧ ¬ hTown S H t (aI S 0 1))) :
    ∀ (m : Nat) (k : Int) (u5 u6 u7 : Int → Int), 0 ≤ k → k ≤ aI S 0 1 → aI S 0 1 - k < m → ¬ hTown S H t k → ∃ w5 w6 w7, ∀ K : Int → St → Prop, K r (aw T' w5 w6 w7) → l_M_isHolyTown_2 t K m k (aw T' u5 u6 u7) := by
  intro m
  induction m with
  | zero => intro k u5 u6 u7 k0 k1 k2; omega
  | succ m ih =>
    intro k u5 u6 u7 k0 k1 k2 hno
    have hcu := hc.awk u5 u6 u7
    have c0 : aI (aw T' u5 u6 u7) 0 = aI T 0 := hcu.1
    have e1 : aI T 0 1 = aI S 0 1 := hn.nums.2.1.1
    by_cases ck : k = aI S 0 1
    · refine ⟨u5, u6, u7, fun K hK => ?_⟩
      unfold l_M_isHolyTown_2
      rw [c0, e1]
      rw [ck] at hno
      rcases hr with ⟨-, z⟩ | ⟨rfl, -⟩
      · exact absurd z hno
      · exact fun _ => ⟨fun _ => hK, fun c => absurd (by omega) c⟩
    · have q3 := hn.bone (e := 3) k0 (by omega) (by omega) (by omega)
      have nx : ¬ (aI S 3 (5 * k + 3) = t ∧ H k = 1) → ¬ hTown S H t (k + 1) := by
        rintro z ⟨b, q0, q1, q2, q3⟩
        by_cases e : b = k
        · rw [e] at q2 q3
          exact z ⟨q2, q3⟩
        · exact hno ⟨b, q0, by omega, q2, q3⟩
      by_cases e : aI S 3 (5 * k + 3) = t
      · obtain ⟨v5, v6, v7, hw⟩ := HM (aw T' u5 u6 u7) k hcu (by omega)
        rw [aw_aw] at hw
        rcases h01 k with z | z
        · obtain ⟨w5, w6, w7, hw2⟩ := ih (k + 1) v5 v6 v7 (by omega) (by omega) (by omega) (nx (fun q => by omega))
          refine ⟨w5, w6, w7, fun K hK => ?_⟩
          unfold l_M_isHolyTown_2 j_M_isHolyTown_37
          rw [c0, e1]
          refine fun _ => ⟨fun c => absurd c (by omega), fun _ => p_boneAt (by omega) (fun _ => ⟨by omega, by omega, fun _ => ?_⟩)⟩
          rw [q3]
          refine ⟨fun ne => absurd e ne, fun _ => hw _ (fun _ => ?_)⟩
          rw [z]
          exact ⟨fun _ => ⟨by omega, hw2 K hK⟩, fun n => absurd rfl n⟩
        · refine ⟨v5, v6, v7, fun K hK => ?_⟩
          unfold l_M_isHolyTown_2 j_M_isHolyTown_37
          rw [c0, e1]
          refine fun _ => ⟨fun c => absurd c (by omega), fun _ => p_boneAt (by omega) (fun _ => ⟨by omega, by omega, fun _ => ?_⟩)⟩
          rw [q3]
          refine ⟨fun ne => absurd e ne, fun _ => hw _ (fun _ => ?_)⟩
          rw [z]
          refine ⟨fun n => absurd n (by decide), fun _ => ?_⟩
          rcases hr with ⟨rfl, -⟩ | ⟨-, z2⟩
          · exact hK
          · exact absurd ⟨k, k0, by omega, e, z⟩ z2
      · obtain ⟨w5, w6, w7, hw2⟩ := ih (k + 1) u5 u6 u7 (by omega) (by omega) (by omega) (nx (fun q => e q.1))
        refine ⟨w5, w6, w7, fun K hK => ?_⟩
        unfold l_M_isHolyTown_2 j_M_isHolyTown_37
        rw [c0, e1]
        refine fun _ => ⟨fun c => absurd c (by omega), fun _ => p_boneAt (by omega) (fun _ => ⟨by omega, by omega, fun _ => ?_⟩)⟩
        rw [q3]
        exact ⟨fun _ => ⟨by omega, hw2 K hK⟩, fun z => absurd z e⟩
theorem fset_fset (S : St) (k : Nat) (a b : Int) : fset (fset S k a) k b = fset S k b := by
  unfold fset
  congr 1
  funext x
  by_cases c : x = k <;> simp [c]
theorem pX_draw {S : St} {m v : Int} {K : Int → St → Prop} (hv : fI S 20 = v) (hv2 : 0 ≤ v ∧ v ≤ 100000) (hm : 0 < m ∧ m ≤ 1000) (hK : K (v % m) (fset S 20 ((v * 173 + 41) % 30103))) : w_X_draw m S K := by
  unfold w_X_draw
  rw [hv]
  have e1 : Int.tmod v m = v % m := Int.tmod_eq_emod_of_nonneg hv2.1
  have e2 : Int.tmod (v * 173 + 41) 30103 = (v * 173 + 41) % 30103 := Int.tmod_eq_emod_of_nonneg (by omega)
  have b1 := Int.emod_nonneg v (show m ≠ 0 by omega)
  have b2 := Int.emod_lt_of_pos v hm.1
  rw [e1, e2]
  refine fun _ => ⟨by omega, by omega, ?_⟩
  rintro _ rfl
  refine fun _ => ⟨by omega, by omega, by omega, ?_⟩
  rintro _ rfl
  exact hK
theorem pM_draw {S : St} {m v : Int} {K : Int → St → Prop} (hv : fI S 35 = v) (hv2 : 0 ≤ v ∧ v ≤ 100000) (hm : 0 < m ∧ m ≤ 1000) (hK : K (v % m) (fset S 35 ((v * 173 + 41) % 30103))) : w_M_draw m S K := by
  unfold w_M_draw
  rw [hv]
  have e1 : Int.tmod v m = v % m := Int.tmod_eq_emod_of_nonneg hv2.1
  have e2 : Int.tmod (v * 173 + 41) 30103 = (v * 173 + 41) % 30103 := Int.tmod_eq_emod_of_nonneg (by omega)
  have b1 := Int.emod_nonneg v (show m ≠ 0 by omega)
  have b2 := Int.emod_lt_of_pos v hm.1
  rw [e1, e2]
  refine fun _ => ⟨by omega, by omega, ?_⟩
  rintro _ rfl
  refine fun _ => ⟨by omega, by omega, by omega, by omega, ?_⟩
  rintro _ rfl
  exact hK
theorem law_pilgrims_in {S T : St} {H : Int → Int} {n c t : Int} (h : REL tB S T) (h01 : ∀ b, H b = 0 ∨ H b = 1)
    (HX : ∀ (S' : St) (b : Int) (K : Int → St → Prop), coreX S S' → (0 ≤ b ∧ b < aI S 0 1) → (∀ v, K (H b) (aput S' 9 v)) → w_X_isHoly b S' K)
    (HM : ∀ (T' : St) (b : Int), coreM T T' → (0 ≤ b ∧ b < aI S 0 1) → ∃ v5 v6 v7, ∀ K : Int → St → Prop, K (H b) (aw T' v5 v6 v7) → w_M_isHoly b T' K)
    (hn : 0 ≤ n ∧ n ≤ 99) (ht : 0 < aI S 0 0) (K : Int → St → Prop) :
    ∀ (m : Nat) (k e v : Int) (u u5 u6 u7 : Int → Int), 0 ≤ k → k ≤ n → n - k < m → (0 ≤ v ∧ v ≤ 100000) → (0 ≤ e ∧ e ≤ k) →
    (∀ r S2, PostF tB (l_M_pilgrims_59 n c t · m e k (aw (fset T 35 v) u5 u6 u7)) r S2 → K r S2) → l_X_pilgrims_59 n c t K m e k (aput (fset S 20 v) 9 u) := by
  obtain ⟨⟨a0, a1, a2⟩, ⟨b0, b1, b2⟩, -⟩ := h.1.nums
  intro m
  induction m with
  | zero => intro k e v u u5 u6 u7 k0 k1 k2; omega
  | succ m ih =>
    intro k e v u u5 u6 u7 k0 k1 k2 hv he hK
    have rel : ∀ v u u5 u6 u7, REL tB (aput (fset S 20 v) 9 u) (aw (fset T 35 v) u5 u6 u7) := fun v u u5 u6 u7 => h.alike (fun k hk => aput_hi _ 9 u (by omega)) (fun k k0 k1 => by show fI (fset S 20 v) k = _; rw [fI_fset_n (by omega)]) rfl (extP.refl _) (fun k hk => aw_hi _ u5 u6 u7 (by omega) (by omega) (by omega)) (fun k k0 k1 => by show fI (fset T 35 v) k = _; rw [fI_fset_n (by omega)])
    have cX : ∀ v u, coreX S (aput (fset S 20 v) 9 u) := fun v u => ⟨fun k hk => aput_hi _ 9 u (by omega), rfl, rfl⟩
    have cM : ∀ v u5 u6 u7, coreM T (aw (fset T 35 v) u5 u6 u7) := fun v u5 u6 u7 => ⟨aw_hi _ u5 u6 u7 (by omega) (by omega) (by omega), aw_hi _ u5 u6 u7 (by omega) (by omega) (by omega)⟩
    have x00 : ∀ v u, aI (aput (fset S 20 v) 9 u) 0 0 = aI S 0 0 := fun v u => by rw [(cX v u).1 0 (by omega)]
    have m00 : ∀ v u5 u6 u7, aI (aw (fset T 35 v) u5 u6 u7) 0 0 = aI S 0 0 := fun v u5 u6 u7 => by rw [(cM v u5 u6 u7).1, a0]
    have f20 : ∀ v u, fI (aput (fset S 20 v) 9 u) 20 = v := fun v u => fI_fset_s S 20 v
    have f35 : ∀ v u5 u6 u7, fI (aw (fset T 35 v) u5 u6 u7) 35 = v := fun v u5 u6 u7 => fI_fset_s T 35 v
    have xs : ∀ v u w, fset (aput (fset S 20 v) 9 u) 20 w = aput (fset S 20 w) 9 u := fun v u w => by
      show aput (fset (fset S 20 v) 20 w) 9 u = _
      rw [fset_fset]
    have ms : ∀ v u5 u6 u7 w, fset (aw (fset T 35 v) u5 u6 u7) 35 w = aw (fset T 35 w) u5 u6 u7 := fun v u5 u6 u7 w => by
      show aw (fset (fset T 35 v) 35 w) u5 u6 u7 = _
      rw [fset_fset]
    unfold l_X_pilgrims_59 j_X_pilgrims_109
    refine ⟨fun ce => ?_, fun ce => ?_⟩
    · refine hK _ _ (fun K' hk => ?_)
      show l_M_pilgrims_59 n c t K' (m + 1) e k (aw (fset T 35 v) u5 u6 u7)
      unfold l_M_pilgrims_59
      exact ⟨fun _ => hk _ (rel _ _ _ _ _), fun z => absurd ce z⟩
    · have hv1 := Int.emod_nonneg (v * 173 + 41) (show (30103 : Int) ≠ 0 by decide)
      have hv2 := Int.emod_lt_of_pos (v * 173 + 41) (show (0 : Int) < 30103 by decide)
      rw [x00]
      refine fun _ => pX_draw (f20 v u) hv ⟨ht, by omega⟩ (fun _ => ?_)
      rw [xs]
      have tail : ∀ (d : Int → St → Prop) (r : Int), (r = 1 ∧ hTown S H (v % aI S 0 0) (aI S 0 1)) ∨ (r = 0 ∧ ¬ hTown S H (v % aI S 0 0) (aI S 0 1)) → (∀ u, d r (aput (fset S 20 ((v * 173 + 41) % 30103)) 9 u)) → w_X_hasHoly (v % aI S 0 0) (aput (fset S 20 ((v * 173 + 41) % 30103)) 9 u) d := by
        intro d r hr hd
        refine ⟨18, ?_⟩
        exact pX_hasHoly_in (S := S) (S' := fset S 20 ((v * 173 + 41) % 30103)) ⟨b1, b2⟩ h01 ⟨fun _ _ => rfl, rfl, rfl⟩ HX hr hd 18 0 u (by omega) (by omega) (by omega) (fun ⟨b, q0, q1, _⟩ => by omega)
      have mtail : ∀ (r : Int), (r = 1 ∧ hTown S H (v % aI S 0 0) (aI S 0 1)) ∨ (r = 0 ∧ ¬ hTown S H (v % aI S 0 0) (aI S 0 1)) → ∃ w5 w6 w7, ∀ K' : Int → St → Prop, K' r (aw (fset T 35 ((v * 173 + 41) % 30103)) w5 w6 w7) → w_M_isHolyTown (v % aI S 0 0) (aw (fset T 35 ((v * 173 + 41) % 30103)) u5 u6 u7) K' := by
        intro r hr
        obtain ⟨w5, w6, w7, hw⟩ := pM_hasHoly_in (T' := fset T 35 ((v * 173 + 41) % 30103)) h.1 ⟨b1, b2⟩ h01 ⟨rfl, rfl⟩ HM hr 18 0 u5 u6 u7 (by omega) (by omega) (by omega) (fun ⟨b, q0, q1, _⟩ => by omega)
        exact ⟨w5, w6, w7, fun K' hk => ⟨18, hw K' hk⟩⟩
      by_cases hh : hTown S H (v % aI S 0 0) (aI S 0 1)
      · obtain ⟨w5, w6, w7, hw⟩ := mtail 1 (Or.inl ⟨rfl, hh⟩)
        refine tail _ 1 (Or.inl ⟨rfl, hh⟩) (fun u2 _ => ⟨fun z => absurd z (by decide), fun _ => pX_draw (f20 _ u2) (by omega) (by omega) (fun _ => ?_)⟩)
        rw [xs]
        have hv3 := Int.emod_nonneg ((v * 173 + 41) % 30103 * 173 + 41) (show (30103 : Int) ≠ 0 by decide)
        have hv4 := Int.emod_lt_of_pos ((v * 173 + 41) % 30103 * 173 + 41) (show (0 : Int) < 30103 by decide)
        have go : ∀ (e2 : Int), (0 ≤ e2 ∧ e2 ≤ k + 1) → (∀ (K' : Int → St → Prop), l_M_pilgrims_59 n c t K' m e2 (k + 1) (aw (fset T 35 (((v * 173 + 41) % 30103 * 173 + 41) % 30103)) w5 w6 w7) → l_M_pilgrims_59 n c t K' (m + 1) e k (aw (fset T 35 v) u5 u6 u7)) → l_X_pilgrims_59 n c t K m e2 (k + 1) (aput (fset S 20 (((v * 173 + 41) % 30103 * 173 + 41) % 30103)) 9 u2) := by
          intro e2 he2 hm
          exact ih (k + 1) e2 _ u2 w5 w6 w7 (by omega) (by omega) (by omega) (by omega) he2 (fun r S2 hp => hK r S2 (fun K' hk => hm K' (hp K' hk)))
        have mh : ∀ (K' : Int → St → Prop) (Q : Prop), Q → ((∀ r6 : Int, r6 = (v * 173 + 41) % 30103 % 6 → Q → (c ≤ r6 → InR (k + 1) ∧ l_M_pilgrims_59 n c t K' m e (k + 1) (aw (fset T 35 (((v * 173 + 41) % 30103 * 173 + 41) % 30103)) w5 w6 w7)) ∧ (¬ (c ≤ r6) → (¬ v % aI S 0 0 = t → InR (k + 1) ∧ l_M_pilgrims_59 n c t K' m e (k + 1) (aw (fset T 35 (((v * 173 + 41) % 30103 * 173 + 41) % 30103)) w5 w6 w7)) ∧ (v % aI S 0 0 = t → InR (e + 1) ∧ (InR (k + 1) ∧ l_M_pilgrims_59 n c t K' m (e + 1) (k + 1) (aw (fset T 35 (((v * 173 + 41) % 30103 * 173 + 41) % 30103)) w5 w6 w7))))) → l_M_pilgrims_59 n c t K' (m + 1) e k (aw (fset T 35 v) u5 u6 u7)) := by
          intro K' Q hQ hc
          unfold l_M_pilgrims_59 j_M_pilgrims_106
          refine ⟨fun z => absurd z ce, fun _ => ?_⟩
          rw [m00]
          refine fun _ => pM_draw (f35 v u5 u6 u7) hv ⟨ht, by omega⟩ (fun _ => ?_)
          rw [ms]
          refine hw _ (fun _ => ⟨fun z => absurd z (by decide), fun _ => pM_draw (f35 _ w5 w6 w7) (by omega) (by omega) (fun _ => ?_)⟩)
          rw [ms]
          exact hc _ rfl hQ
        refine ⟨fun c6 => ⟨by omega, go e (by omega) (fun K' hk => mh K' True trivial (fun r6 hr _ => ⟨fun _ => ⟨by omega, hk⟩, fun z => absurd (by omega) z⟩))⟩, fun c6 => ⟨fun ne => ⟨by omega, go e (by omega) (fun K' hk => mh K' True trivial (fun r6 hr _ => ⟨fun z => absurd z (by omega), fun _ => ⟨fun _ => ⟨by omega, hk⟩, fun z => absurd z ne⟩⟩))⟩, fun eq => ⟨by omega, by omega, go (e + 1) (by omega) (fun K' hk => mh K' True trivial (fun r6 hr _ => ⟨fun z => absurd z (by omega), fun _ => ⟨fun z => absurd eq z, fun _ => ⟨by omega, by omega, hk⟩⟩⟩))⟩⟩⟩
      · obtain ⟨w5, w6, w7, hw⟩ := mtail 0 (Or.inr ⟨rfl, hh⟩)
        refine tail _ 0 (Or.inr ⟨rfl, hh⟩) (fun u2 _ => ⟨fun _ => ⟨by omega, ih (k + 1) e _ u2 w5 w6 w7 (by omega) (by omega) (by omega) (by omega) (by omega) (fun r S2 hp => hK r S2 (fun K' hk => ?_))⟩, fun z => absurd rfl z⟩)
        show l_M_pilgrims_59 n c t K' (m + 1) e k (aw (fset T 35 v) u5 u6 u7)
        unfold l_M_pilgrims_59 j_M_pilgrims_106
        refine ⟨fun z => absurd z ce, fun _ => ?_⟩
        rw [m00]
        refine fun _ => pM_draw (f35 v u5 u6 u7) hv ⟨ht, by omega⟩ (fun _ => ?_)
        rw [ms]
        exact hw _ (fun _ => ⟨fun _ => ⟨by omega, hp K' hk⟩, fun z => absurd rfl z⟩)
theorem law_pilgrims {S T : St} {s n c t : Int} {K : Int → St → Prop} (h : REL tB S T) (hK : ∀ r S', PostF tB (w_M_pilgrims s n c t T) r S' → K r S') : w_X_pilgrims s n c t S K := by
  obtain ⟨⟨a0, a1, a2⟩, ⟨b0, b1, b2⟩, -⟩ := h.1.nums
  obtain ⟨H, H01, HX, HM⟩ := holy_fn h.1 h.2.2.2
  have no : ¬ ((0 ≤ s ∧ s ≤ 9999) ∧ (1 ≤ n ∧ n ≤ 99) ∧ (0 ≤ c ∧ c ≤ 6) ∧ (0 ≤ t ∧ t < aI S 0 0)) → K (-1) S := by
    intro hc
    refine hK _ _ (fun K' hk => ?_)
    unfold w_M_pilgrims
    refine p_isIn (fun _ _ => br1 ?_) (fun _ => br0 (hk T h))
    refine p_isIn (fun _ _ => br1 ?_) (fun _ => br0 (hk T h))
    refine p_isIn (fun _ _ => br1 ?_) (fun _ => br0 (hk T h))
    exact p_isTown (by omega) (fun _ _ => absurd (by omega) hc) (fun _ => br0r (hk T h))
  unfold w_X_pilgrims
  refine p_in (fun s0 s1 => br1 ?_) (fun c => br0 (no (by omega)))
  refine p_in (fun n0 n1 => br1 ?_) (fun c => br0 (no (by omega)))
  refine p_in (fun c0 c1 => br1 ?_) (fun c => br0 (no (by omega)))
  refine pX_isTown (by omega) (fun t0 t1 => br1r ?_) (fun c => br0r (no (by omega)))
  refine ⟨by omega, by omega, ?_⟩
  rintro _ rfl
  have e9 : fset S 20 (s * 7 + 15) = aput (fset S 20 (s * 7 + 15)) 9 (aI S 9) := (aput_self (fset S 20 (s * 7 + 15)) 9).symm
  rw [e9]
  refine ⟨n.toNat + 1, law_pilgrims_in h H01 HX HM (by omega) (by omega) K (n.toNat + 1) 0 0 (s * 7 + 15) _ (aI T 5) (aI T 6) (aI T 7) (by omega) (by omega) (by omega) (by omega) (by omega) (fun r S2 hp => hK _ _ (fun K' hk => ?_))⟩
  have z := hp K' hk
  have e5 : aw (fset T 35 (s * 7 + 15)) (aI T 5) (aI T 6) (aI T 7) = fset T 35 (s * 7 + 15) := aw_self (fset T 35 (s * 7 + 15))
  rw [e5] at z
  unfold w_M_pilgrims
  refine p_isIn (fun _ _ => br1 ?_) (fun c => absurd (by omega) c)
  refine p_isIn (fun _ _ => br1 ?_) (fun c => absurd (by omega) c)
  refine p_isIn (fun _ _ => br1 ?_) (fun c => absurd (by omega) c)
  refine p_isTown (by omega) (fun _ _ => br1r ?_) (fun c => absurd (by omega) c)
  refine ⟨by omega, by omega, ?_⟩
  rintro _ rfl
  exact ⟨_, z⟩
