/-! PURE: holy, unlike, worn, many: as functions of the bones -/
theorem TX.now {S T : St} (h : nowA S T) (hx : TX S T) (c : aI S 0 3 ≠ -1) : ∃ q, (0 ≤ aI S 0 3 ∧ aI S 0 3 ≤ 3) ∧ rI S 140 (aI S 0 3) = some q ∧ txt (gI S) q (aI T 2) (700 * aI S 0 3) := by
  obtain ⟨-, -, -, ⟨d0, d1, d2⟩, ⟨e0, e1, e2⟩, -⟩ := h.nums
  obtain ⟨q, q1, q2⟩ := hx.1 (aI S 0 3) (by omega) (by omega)
  exact ⟨q, by omega, q1, q2⟩
theorem holy_fn {S T : St} (h : nowA S T) (hx : TX S T) : ∃ H : Int → Int, (∀ b, H b = 0 ∨ H b = 1) ∧
    (∀ (S' : St) (b : Int) (K : Int → St → Prop), coreX S S' → (0 ≤ b ∧ b < aI S 0 1) → (∀ v, K (H b) (aput S' 9 v)) → w_X_isHoly b S' K) ∧
    (∀ (T' : St) (b : Int), coreM T T' → (0 ≤ b ∧ b < aI S 0 1) → ∃ v5 v6 v7, ∀ K : Int → St → Prop, K (H b) (aw T' v5 v6 v7) → w_M_isHoly b T' K) := by
  obtain ⟨⟨a0, a1, a2⟩, ⟨b0, b1, b2⟩, cy, ⟨d0, d1, d2⟩, ⟨e0, e1, e2⟩, -⟩ := h.nums
  by_cases c : aI S 0 3 = -1
  · refine ⟨fun _ => 1, fun _ => Or.inr rfl, fun S' b K hc hb hK => ?_, fun T' b hc hb => ?_⟩
    · have c3 : aI S' 0 3 = aI S 0 3 := by rw [hc.1 0 (by omega)]
      unfold w_X_isHoly
      refine pX_rules (by omega) (fun _ => ⟨fun _ => ?_, fun q hq => absurd hq (by simp)⟩) (fun c2 => absurd c2 (by omega))
      have := hK (aI S' 9)
      rw [aput_self] at this
      exact this
    · have c4 : aI T' 0 4 = aI T 0 4 := by rw [hc.1]
      refine ⟨aI T' 5, aI T' 6, aI T' 7, fun K hK => ?_⟩
      rw [aw_self] at hK
      unfold w_M_isHoly
      exact p_clauseOf0 (by omega) (fun _ => ⟨fun z => absurd z (by decide), fun _ => hK⟩)
  · obtain ⟨q, hr, hq, w, ho, u, m, l, cc, pm, t1, t2, t3, t4, t5, t6, t7, t8, t9⟩ := hx.now h c
    rcases t5 with ⟨rfl, no⟩ | ⟨qh, d, k, ψ, rfl, hd, hk, hs, hlt, okb, xa, ca⟩
    · refine ⟨fun _ => 1, fun _ => Or.inr rfl, fun S' b K hc hb hK => ?_, fun T' b hc hb => ?_⟩
      · have c3 : aI S' 0 3 = aI S 0 3 := by rw [hc.1 0 (by omega)]
        have cr : rI S' 140 (aI S' 0 3) = some q := by rw [c3, hc.2.1]; exact hq
        unfold w_X_isHoly
        refine pX_rules (by omega) (fun z => absurd z (by omega)) (fun _ => ?_)
        rw [cr]
        refine ⟨fun z => absurd z (by simp), ?_⟩
        rintro q4 z
        cases z
        refine ⟨_, _, by rw [hc.2.2]; exact t1, rfl, fun _ => ?_, fun q hq => absurd hq (by simp)⟩
        have := hK (aI S' 9)
        rw [aput_self] at this
        exact this
      · have c4 : aI T' 0 4 = aI S 0 3 := by rw [hc.1]; exact e0
        refine ⟨aI T' 5, aI T' 6, aI T' 7, fun K hK => ?_⟩
        rw [aw_self] at hK
        unfold w_M_isHoly
        refine p_clauseOf (by omega) (by rw [c4, hc.2]; exact t2) (fun k k0 k1 k2 _ => ?_) (fun _ => fun _ => ⟨fun z => absurd z (by decide), fun _ => hK⟩)
        rw [c4, hc.2] at k1 k2
        exact absurd k2 (no k k0 k1)
    · refine ⟨fun b => ψ (fun i => if i = 0 then aI S 3 (5 * b) else if i = 1 then aI S 3 (5 * b + 1) else if i = 2 then aI S 3 (5 * b + 3) else if i = 3 then ssum (fun t => bt (aI S 3 (80 + t)) b) (aI S 0 0).toNat else aI S 3 90), fun b => okb.2 _, fun S' b K hc hb hK => ?_, fun T' b hc hb => ?_⟩
      · have c3 : aI S' 0 3 = aI S 0 3 := by rw [hc.1 0 (by omega)]
        have c0 : aI S' 0 = aI S 0 := hc.1 0 (by omega)
        have cr : rI S' 140 (aI S' 0 3) = some q := by rw [c3, hc.2.1]; exact hq
        unfold w_X_isHoly
        refine pX_rules (by omega) (fun z => absurd z (by omega)) (fun _ => ?_)
        rw [cr]
        refine ⟨fun z => absurd z (by simp), ?_⟩
        rintro q4 z
        cases z
        refine ⟨_, _, by rw [hc.2.2]; exact t1, rfl, fun z => absurd z (by simp), ?_⟩
        rintro q10 z
        cases z
        refine pX_names (by omega) (by rw [c0]; omega) (fun v hv => ?_)
        have hv2 : nmsX S b v := by
          unfold nmsX at hv ⊢
          rw [hc.1 3 (by omega), c0] at hv
          exact hv
        refine ⟨_, _, by rw [gI_aput, hc.2.2]; exact t1, rfl, qh, rfl, d, hd, ?_⟩
        refine xa _ _ (by rw [gI_aput, hc.2.2]; exact extP.refl _) ?_ (fun _ => ?_)
        · have e : aI (aput S' 9 v) 9 = v := by funext y; exact aI_aput_s _ _ _ _
          rw [e]
          exact nms_NB h hb hv2
        · have e : aI (aput S' 9 v) 9 = v := by funext y; exact aI_aput_s _ _ _ _
          rw [e]
          have z := hK v
          dsimp only at z
          rw [okb.1 _ v] at z
          · exact z
          · obtain ⟨x0, x1, x2, x3, x4⟩ := hv2
            intro i i0 i1
            have : i = 0 ∨ i = 1 ∨ i = 2 ∨ i = 3 ∨ i = 4 := by omega
            rcases this with rfl | rfl | rfl | rfl | rfl
            · rw [if_pos rfl, x0]
            · rw [if_neg (by omega), if_pos rfl, x1]
            · rw [if_neg (by omega), if_neg (by omega), if_pos rfl, x2]
            · rw [if_neg (by omega), if_neg (by omega), if_neg (by omega), if_pos rfl, x3]
            · rw [if_neg (by omega), if_neg (by omega), if_neg (by omega), if_neg (by omega), x4]
      · have c4 : aI T' 0 4 = aI S 0 3 := by rw [hc.1]; exact e0
        have hv := nmV_is T' b 0
        rw [hc.1] at hv
        have hv0 : nmsX S b (fun i => if i = 0 then aI S 3 (5 * b) else if i = 1 then aI S 3 (5 * b + 1) else if i = 2 then aI S 3 (5 * b + 3) else if i = 3 then ssum (fun t => bt (aI S 3 (80 + t)) b) (aI S 0 0).toNat else aI S 3 90) := by
          unfold nmsX
          simp
        have ev := nms_eq h hb hv0 hv
        have e5 : aI (aput T' 5 (nmV T' b 0)) 5 = nmV T' b 0 := by funext y; exact aI_aput_s _ _ _ _
        have e0' : aI (aput T' 5 (nmV T' b 0)) 0 = aI T' 0 := by funext y; exact aI_aput_n (by omega)
        have e2' : aI (aput T' 5 (nmV T' b 0)) 2 = aI T' 2 := by funext y; exact aI_aput_n (by omega)
        obtain ⟨V, B, hB, hw⟩ := p_work_ask (T := aput T' 5 (nmV T' b 0)) (k := k) (lim := 5) (ψ := ψ) (by rw [e0']; omega) (by omega) (by rw [e0', e2', c4, hc.2]; exact ca) (by
          rw [e5]
          have z := nms_NB h hb hv0
          intro i i0 i1
          rw [← ev i i0 i1]
          exact z i i0 i1)
        rw [e5] at hB
        refine ⟨nmV T' b 0, V, B, fun K hK => ?_⟩
        unfold w_M_isHoly
        refine p_clauseOf (by omega) (by rw [c4, hc.2]; exact t2) (fun j j0 j1 j2 j3 => ?_) (fun z => ?_)
        · rw [c4, hc.2] at j1 j2
          have ej : j = k := by
            by_cases g1 : j < k
            · exact absurd j2 (hlt j j0 g1)
            · by_cases g2 : k < j
              · have := j3 k hk.1 g2
                rw [c4, hc.2] at this
                exact absurd hs this
              · omega
          subst ej
          refine fun _ => ⟨fun _ => p_name (by omega) (by omega) (hw _ ?_), fun z => absurd j0 z⟩
          rw [aw_5, aw_67]
          have e7 : aI (aw T' (nmV T' b 0) V B) 7 0 = B 0 := aI_aput_s _ _ _ _
          rw [e7, hB, ← okb.1 _ _ ev]
          exact fun _ _ => hK
        · exfalso
          rw [c4, hc.2] at z
          exact z k hk.1 hk.2 hs
