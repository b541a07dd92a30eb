/-! PURE: unlike, many -/
def nms8 (S : St) (a b : Int) : Int → Int := fun i => if i = 0 then aI S 3 (5 * a) else if i = 1 then aI S 3 (5 * a + 1) else if i = 2 then aI S 3 (5 * a + 3) else if i = 3 then ssum (fun t => bt (aI S 3 (80 + t)) a) (aI S 0 0).toNat else if i = 4 then aI S 3 90 else if i = 5 then aI S 3 (5 * b) else if i = 6 then aI S 3 (5 * b + 1) else aI S 3 (5 * b + 3)
theorem nms8_X (S : St) (a b : Int) : nmsX S a (nms8 S a b) := by
  unfold nmsX nms8
  simp
theorem nms8_eq {S T : St} (h : nowA S T) {a b : Int} {v' : Int → Int} (ha : 0 ≤ a ∧ a < aI S 0 1) (hb : 0 ≤ b ∧ b < aI S 0 1) (hv' : nmsM (aI T 0) a b v') : ∀ i, 0 ≤ i → i < 8 → nms8 S a b i = v' i := by
  intro i i0 i1
  by_cases c : i < 5
  · exact nms_eq h ha (nms8_X S a b) hv' i i0 c
  · obtain ⟨-, -, -, -, -, y5, y6, y7⟩ := hv'
    have z0 := h.bone (e := 0) hb.1 hb.2 (by omega) (by omega)
    have z1 := h.bone (e := 1) hb.1 hb.2 (by omega) (by omega)
    have z3 := h.bone (e := 3) hb.1 hb.2 (by omega) (by omega)
    rw [Int.add_zero, Int.add_zero] at z0
    rw [show 30 + 6 * b + 1 = 31 + 6 * b by omega] at z1
    rw [show 30 + 6 * b + 3 = 33 + 6 * b by omega] at z3
    have : i = 5 ∨ i = 6 ∨ i = 7 := by omega
    rcases this with rfl | rfl | rfl
    · rw [y5, z0]; rfl
    · rw [y6, z1]; rfl
    · rw [y7, z3]; rfl
theorem nms8_NB {S T : St} (h : nowA S T) {a b : Int} (ha : 0 ≤ a ∧ a < aI S 0 1) (hb : 0 ≤ b ∧ b < aI S 0 1) : NB 8 (nms8 S a b) := by
  obtain ⟨⟨a0, a1, a2⟩, -⟩ := h.nums
  have gb := h.2.2.1.2.2.2.1 b hb.1 hb.2
  intro i i0 i1
  by_cases c : i < 5
  · exact nms_NB h ha (nms8_X S a b) i i0 c
  · have : i = 5 ∨ i = 6 ∨ i = 7 := by omega
    rcases this with rfl | rfl | rfl
    · show 0 ≤ aI S 3 (5 * b) ∧ aI S 3 (5 * b) ≤ 1000
      omega
    · show 0 ≤ aI S 3 (5 * b + 1) ∧ aI S 3 (5 * b + 1) ≤ 1000
      omega
    · show 0 ≤ aI S 3 (5 * b + 3) ∧ aI S 3 (5 * b + 3) ≤ 1000
      omega
theorem unlike_fn {S T : St} (h : nowA S T) (hx : TX S T) : ∃ U : Int → Int → Int, (∀ a b, U a b = 0 ∨ U a b = 1) ∧
    (∀ (S' : St) (a b : Int) (K : Int → St → Prop), coreX S S' → (0 ≤ a ∧ a < aI S 0 1) → (0 ≤ b ∧ b < aI S 0 1) → (∀ v, K (U a b) (aput S' 9 v)) → w_X_areUnlike a b S' K) ∧
    (∀ (T' : St) (a b : Int), coreM T T' → (0 ≤ a ∧ a < aI S 0 1) → (0 ≤ b ∧ b < aI S 0 1) → ∃ v5 v6 v7, ∀ K : Int → St → Prop, K (if U a b = 0 then U b a else 1) (aw T' v5 v6 v7) → w_M_isUnlike a b T' K) := by
  obtain ⟨⟨a0, a1, a2⟩, ⟨b0, b1, b2⟩, cy, ⟨d0, d1, d2⟩, ⟨e0, e1, e2⟩, -⟩ := h.nums
  by_cases c : aI S 0 3 = -1
  · refine ⟨fun _ _ => 0, fun _ _ => Or.inl rfl, fun S' a b K hc ha hb hK => ?_, fun T' a b hc ha hb => ?_⟩
    · have c3 : aI S' 0 3 = aI S 0 3 := by rw [hc.1 0 (by omega)]
      unfold w_X_areUnlike
      refine pX_rules (by omega) (fun _ => ⟨fun _ => ?_, fun q hq => absurd hq (by simp)⟩) (fun c2 => absurd c2 (by omega))
      have := hK (aI S' 9)
      rw [aput_self] at this
      exact this
    · have c4 : aI T' 0 4 = aI T 0 4 := by rw [hc.1]
      refine ⟨aI T' 5, aI T' 6, aI T' 7, fun K hK => ?_⟩
      rw [aw_self, if_pos rfl] at hK
      unfold w_M_isUnlike
      exact p_clauseOf0 (by omega) (fun _ => ⟨fun z => absurd z (by decide), fun _ => hK⟩)
  · obtain ⟨q, hr, hq, w, ho, u, m, l, cc, pm, t1, t2, t3, t4, t5, t6, t7, t8, t9⟩ := hx.now h c
    rcases t6 with ⟨rfl, no⟩ | ⟨qh, d, k, ψ, rfl, hd, hk, hs, hlt, okb, xa, ca⟩
    · refine ⟨fun _ _ => 0, fun _ _ => Or.inl rfl, fun S' a b K hc ha hb hK => ?_, fun T' a b hc ha hb => ?_⟩
      · have c3 : aI S' 0 3 = aI S 0 3 := by rw [hc.1 0 (by omega)]
        have cr : rI S' 140 (aI S' 0 3) = some q := by rw [c3, hc.2.1]; exact hq
        unfold w_X_areUnlike
        refine pX_rules (by omega) (fun z => absurd z (by omega)) (fun _ => ?_)
        rw [cr]
        refine ⟨fun z => absurd z (by simp), ?_⟩
        rintro q4 z
        cases z
        refine ⟨_, _, by rw [hc.2.2]; exact t1, rfl, fun _ => ?_, fun q hq => absurd hq (by simp)⟩
        have := hK (aI S' 9)
        rw [aput_self] at this
        exact this
      · have c4 : aI T' 0 4 = aI S 0 3 := by rw [hc.1]; exact e0
        refine ⟨aI T' 5, aI T' 6, aI T' 7, fun K hK => ?_⟩
        rw [aw_self, if_pos rfl] at hK
        unfold w_M_isUnlike
        refine p_clauseOf (by omega) (by rw [c4, hc.2]; exact t2) (fun k k0 k1 k2 _ => ?_) (fun _ => fun _ => ⟨fun z => absurd z (by decide), fun _ => hK⟩)
        rw [c4, hc.2] at k1 k2
        exact absurd k2 (no k k0 k1)
    · refine ⟨fun a b => ψ (nms8 S a b), fun a b => okb.2 _, fun S' a b K hc ha hb hK => ?_, fun T' a b hc ha hb => ?_⟩
      · have c3 : aI S' 0 3 = aI S 0 3 := by rw [hc.1 0 (by omega)]
        have c0 : aI S' 0 = aI S 0 := hc.1 0 (by omega)
        have cr : rI S' 140 (aI S' 0 3) = some q := by rw [c3, hc.2.1]; exact hq
        unfold w_X_areUnlike
        refine pX_rules (by omega) (fun z => absurd z (by omega)) (fun _ => ?_)
        rw [cr]
        refine ⟨fun z => absurd z (by simp), ?_⟩
        rintro q4 z
        cases z
        refine ⟨_, _, by rw [hc.2.2]; exact t1, rfl, fun z => absurd z (by simp), ?_⟩
        rintro q10 z
        cases z
        refine pX_names (by omega) (by rw [c0]; omega) (fun v hv => ?_)
        have hv2 : nmsX S a v := by
          unfold nmsX at hv ⊢
          rw [hc.1 3 (by omega), c0] at hv
          exact hv
        have e3 : ∀ (f : Int → Int) (y : Int), aI (aput S' 9 f) 3 y = aI S 3 y := fun f y => by rw [aI_aput_n (by omega), hc.1 3 (by omega)]
        refine pX_bone_2 (by omega) (by omega) (fun _ => ?_)
        rw [Int.add_zero, e3]
        rintro _ rfl
        rw [aset_aput]
        refine pX_bone_2 (by omega) (by omega) (fun _ => ?_)
        rw [e3]
        rintro _ rfl
        rw [aset_aput]
        refine pX_bone_2 (by omega) (by omega) (fun _ => ?_)
        rw [e3]
        rintro _ rfl
        rw [aset_aput]
        refine ⟨_, _, by rw [gI_aput, hc.2.2]; exact t1, rfl, qh, rfl, d, hd, ?_⟩
        obtain ⟨x0, x1, x2, x3, x4⟩ := hv2
        have e : aI (aput S' 9 (fun y => if y = 7 then aI S 3 (5 * b + 3) else if y = 6 then aI S 3 (5 * b + 1) else if y = 5 then aI S 3 (5 * b) else v y)) 9 = (fun y => if y = 7 then aI S 3 (5 * b + 3) else if y = 6 then aI S 3 (5 * b + 1) else if y = 5 then aI S 3 (5 * b) else v y) := by funext y; exact aI_aput_s _ _ _ _
        have ag : ∀ i, 0 ≤ i → i < 8 → nms8 S a b i = (fun y => if y = 7 then aI S 3 (5 * b + 3) else if y = 6 then aI S 3 (5 * b + 1) else if y = 5 then aI S 3 (5 * b) else v y) i := by
          intro i i0 i1
          have : i = 0 ∨ i = 1 ∨ i = 2 ∨ i = 3 ∨ i = 4 ∨ i = 5 ∨ i = 6 ∨ i = 7 := by omega
          unfold nms8
          rcases this with rfl | rfl | rfl | rfl | rfl | rfl | rfl | rfl
          · simp [x0]
          · simp [x1]
          · simp [x2]
          · simp [x3]
          · simp [x4]
          · simp
          · simp
          · simp
        refine xa _ _ (by rw [gI_aput, hc.2.2]; exact extP.refl _) ?_ (fun _ => ?_)
        · have z := nms8_NB h ha hb
          intro i i0 i1
          have z2 := z i i0 i1
          rw [ag i i0 i1] at z2
          show 0 ≤ aI (aput S' 9 _) 9 i ∧ aI (aput S' 9 _) 9 i ≤ 1000
          rw [aI_aput_s]
          exact z2
        · have z := hK (fun y => if y = 7 then aI S 3 (5 * b + 3) else if y = 6 then aI S 3 (5 * b + 1) else if y = 5 then aI S 3 (5 * b) else v y)
          dsimp only at z
          rw [okb.1 _ _ ag] at z
          show K (ψ (aI (aput S' 9 (fun y => if y = 7 then aI S 3 (5 * b + 3) else if y = 6 then aI S 3 (5 * b + 1) else if y = 5 then aI S 3 (5 * b) else v y)) 9)) _
          rw [e]
          exact z
      · have c4 : aI T' 0 4 = aI S 0 3 := by rw [hc.1]; exact e0
        have step : ∀ (T' : St) (a b : Int), coreM T T' → (0 ≤ a ∧ a < aI S 0 1) → (0 ≤ b ∧ b < aI S 0 1) → ∃ V B : Int → Int, B 0 = ψ (nms8 S a b) ∧ ∀ K : St → Prop, K (aw T' (nmV T' a b) V B) → w_M_name a b T' (fun S5 => w_M_work k S5 K) := by
          intro T' a b hc ha hb
          have c4 : aI T' 0 4 = aI S 0 3 := by rw [hc.1]; exact e0
          have hv := nmV_is T' a b
          rw [hc.1] at hv
          have ev := nms8_eq h ha hb hv
          have e5 : aI (aput T' 5 (nmV T' a b)) 5 = nmV T' a b := by funext y; exact aI_aput_s _ _ _ _
          have e0' : aI (aput T' 5 (nmV T' a b)) 0 = aI T' 0 := by funext y; exact aI_aput_n (by omega)
          have e2' : aI (aput T' 5 (nmV T' a b)) 2 = aI T' 2 := by funext y; exact aI_aput_n (by omega)
          obtain ⟨V, B, hB, hw⟩ := p_work_ask (T := aput T' 5 (nmV T' a b)) (k := k) (lim := 8) (ψ := ψ) (by rw [e0']; omega) (by omega) (by rw [e0', e2', c4, hc.2]; exact ca) (by
            rw [e5]
            have z := nms8_NB h ha hb
            intro i i0 i1
            rw [← ev i i0 i1]
            exact z i i0 i1)
          rw [e5] at hB
          refine ⟨V, B, by rw [hB, ← okb.1 _ _ ev], fun K hK => p_name (by omega) (by omega) (hw _ ?_)⟩
          rw [aw_5, aw_67]
          exact hK
        have one : ∀ (K : Int → Prop), K k → w_M_clauseOf 2 T' K := by
          intro K hK
          refine p_clauseOf (by omega) (by rw [c4, hc.2]; exact t2) (fun j j0 j1 j2 j3 => ?_) (fun z => ?_)
          · rw [c4, hc.2] at j1 j2
            have ej : j = k := by
              by_cases g1 : j < k
              · exact absurd j2 (hlt j j0 g1)
              · by_cases g2 : k < j
                · have := j3 k hk.1 g2
                  rw [c4, hc.2] at this
                  exact absurd hs this
                · omega
            rw [ej]
            exact hK
          · exfalso
            rw [c4, hc.2] at z
            exact z k hk.1 hk.2 hs
        obtain ⟨V, B, hB, hw⟩ := step T' a b hc ha hb
        have e7 : ∀ v V B, aI (aw T' v V B) 7 0 = B 0 := fun v V B => aI_aput_s _ _ _ _
        by_cases cz : ψ (nms8 S a b) = 0
        · obtain ⟨V2, B2, hB2, hw2⟩ := step (aw T' (nmV T' a b) V B) b a (hc.awk _ _ _) hb ha
          refine ⟨nmV (aw T' (nmV T' a b) V B) b a, V2, B2, fun K hK => ?_⟩
          dsimp only at hK
          rw [if_pos cz] at hK
          unfold w_M_isUnlike
          refine one _ (fun _ => ⟨fun _ => hw _ ?_, fun z => absurd hk.1 z⟩)
          rw [e7, hB]
          refine fun _ _ => ⟨fun _ => hw2 _ ?_, fun z => absurd cz z⟩
          rw [aw_aw, e7, hB2]
          exact fun _ _ => hK
        · refine ⟨nmV T' a b, V, B, fun K hK => ?_⟩
          dsimp only at hK
          rw [if_neg cz] at hK
          unfold w_M_isUnlike
          refine one _ (fun _ => ⟨fun _ => hw _ ?_, fun z => absurd hk.1 z⟩)
          rw [e7, hB]
          exact fun _ _ => ⟨fun z => absurd z cz, fun _ => hK⟩
theorem p_manyOf_in {T : St} {s : Int} {K : Int → Prop} (ha : 0 ≤ aI T 0 4 ∧ aI T 0 4 ≤ 3) (hc : 0 ≤ aI T 2 (700 * aI T 0 4) ∧ aI T 2 (700 * aI T 0 4) ≤ 24)
    (h1 : ∀ k, 0 ≤ k → k < aI T 2 (700 * aI T 0 4) → aI T 2 (700 * aI T 0 4 + 1 + 4 * k) = 3 → aI T 2 (700 * aI T 0 4 + 2 + 4 * k) = s → (∀ i, 0 ≤ i → i < k → ¬ (aI T 2 (700 * aI T 0 4 + 1 + 4 * i) = 3 ∧ aI T 2 (700 * aI T 0 4 + 2 + 4 * i) = s)) → K (aI T 2 (700 * aI T 0 4 + 3 + 4 * k))) (h0 : (∀ k, 0 ≤ k → k < aI T 2 (700 * aI T 0 4) → ¬ (aI T 2 (700 * aI T 0 4 + 1 + 4 * k) = 3 ∧ aI T 2 (700 * aI T 0 4 + 2 + 4 * k) = s)) → K 1) :
    ∀ (n : Nat) (j : Int), 0 ≤ j → j ≤ aI T 2 (700 * aI T 0 4) → aI T 2 (700 * aI T 0 4) - j < n → (∀ i, 0 ≤ i → i < j → ¬ (aI T 2 (700 * aI T 0 4 + 1 + 4 * i) = 3 ∧ aI T 2 (700 * aI T 0 4 + 2 + 4 * i) = s)) → l_M_manyOf_2 s T K n j := by
  intro n
  induction n with
  | zero => intro j p0 p1 p2; omega
  | succ n ih =>
    intro j p0 p1 p2 p3
    have nx : ¬ (aI T 2 (700 * aI T 0 4) ≤ j) → ¬ (aI T 2 (700 * aI T 0 4 + 1 + 4 * j) = 3 ∧ aI T 2 (700 * aI T 0 4 + 2 + 4 * j) = s) → InR (j + 1) ∧ l_M_manyOf_2 s T K n (j + 1) := by
      intro c c2
      refine ⟨by omega, ih (j + 1) (by omega) (by omega) (by omega) (fun i i0 i1 => ?_)⟩
      by_cases e : i = j
      · rw [e]
        exact c2
      · exact p3 i i0 (by omega)
    have e1 : 700 * aI T 0 4 + 1 + 4 * j + 1 = 700 * aI T 0 4 + 2 + 4 * j := by omega
    have e2 : 700 * aI T 0 4 + 1 + 4 * j + 2 = 700 * aI T 0 4 + 3 + 4 * j := by omega
    unfold l_M_manyOf_2 j_M_manyOf_78
    refine fun _ => ⟨fun c => absurd c (by omega), fun _ => ⟨by omega, by omega, fun _ => ⟨fun c => h0 (fun k k0 k1 => p3 k k0 (by omega)), fun c => ⟨by omega, by omega, by omega, ?_⟩⟩⟩⟩
    rintro _ rfl
    rw [e1, e2]
    refine fun _ => ⟨by omega, fun _ => ⟨fun c2 => nx c (fun z => c2 z.1), fun c2 => ⟨by omega, by omega, fun _ => ⟨fun c3 => nx c (fun z => c3 z.2), fun c3 => ⟨by omega, by omega, fun _ => h1 j p0 (by omega) c2 c3 p3⟩⟩⟩⟩⟩
theorem many_fn {S T : St} (h : nowA S T) (hx : TX S T) : ∃ M : Int → Int, (∀ k, 0 ≤ k → k ≤ 19 → 1 ≤ M k ∧ M k ≤ 9) ∧
    (∀ (S' : St) (k : Int) (K : Int → Prop), coreX S S' → (0 ≤ k ∧ k ≤ 19) → K (M k) → w_X_manyOf k S' K) ∧
    (∀ (T' : St) (k : Int) (K : Int → Prop), coreM T T' → (0 ≤ k ∧ k ≤ 19) → K (M k) → w_M_manyOf k T' K) := by
  obtain ⟨⟨a0, a1, a2⟩, ⟨b0, b1, b2⟩, cy, ⟨d0, d1, d2⟩, ⟨e0, e1, e2⟩, -⟩ := h.nums
  by_cases c : aI S 0 3 = -1
  · refine ⟨fun _ => 1, fun _ _ _ => ⟨Int.le_refl 1, (by decide : (1 : Int) ≤ 9)⟩, fun S' k K hc hk hK => ?_, fun T' k K hc hk hK => ?_⟩
    · have c3 : aI S' 0 3 = aI S 0 3 := by rw [hc.1 0 (by omega)]
      unfold w_X_manyOf
      exact pX_rules (by omega) (fun _ => ⟨fun _ => hK, fun q hq => absurd hq (by simp)⟩) (fun c2 => absurd c2 (by omega))
    · have c4 : aI T' 0 4 = aI T 0 4 := by rw [hc.1]
      exact ⟨1, fun _ => ⟨fun _ => hK, fun c => absurd (by omega) c⟩⟩
  · obtain ⟨q, hr, hq, w, ho, u, m, l, cc, pm, t1, t2, t3, t4, t5, t6, t7, t8, t9⟩ := hx.now h c
    refine ⟨fun k => if pm k = 0 then 1 else pm k, fun k k0 k1 => ?_, fun S' k K hc hk hK => ?_, fun T' k K hc hk hK => ?_⟩
    · rcases t8 k k0 k1 with ⟨z, -⟩ | ⟨z, -⟩
      · show 1 ≤ (if pm k = 0 then 1 else pm k) ∧ (if pm k = 0 then 1 else pm k) ≤ 9
        rw [if_pos z]
        omega
      · show 1 ≤ (if pm k = 0 then 1 else pm k) ∧ (if pm k = 0 then 1 else pm k) ≤ 9
        rw [if_neg (by omega)]
        omega
    · have c3 : aI S' 0 3 = aI S 0 3 := by rw [hc.1 0 (by omega)]
      have cr : rI S' 140 (aI S' 0 3) = some q := by rw [c3, hc.2.1]; exact hq
      dsimp only at hK
      unfold w_X_manyOf
      refine pX_rules (by omega) (fun z => absurd z (by omega)) (fun _ => ?_)
      rw [cr]
      refine ⟨fun z => absurd z (by simp), ?_⟩
      rintro q4 z
      cases z
      refine ⟨_, _, by rw [hc.2.2]; exact t1, rfl, 20, pm, by rw [hc.2.2]; exact t7, by omega, fun _ => ⟨fun z => ?_, fun z => ?_⟩⟩
      · rw [if_neg z] at hK
        exact ⟨_, _, by rw [hc.2.2]; exact t1, rfl, 20, pm, by rw [hc.2.2]; exact t7, by omega, fun _ => hK⟩
      · rw [if_pos z] at hK
        exact hK
    · have c4 : aI T' 0 4 = aI S 0 3 := by rw [hc.1]; exact e0
      dsimp only at hK
      refine ⟨25, p_manyOf_in (by omega) (by rw [c4, hc.2]; exact t2) (fun j j0 j1 j2 j3 j4 => ?_) (fun z => ?_) 25 0 (by omega) (by rw [c4, hc.2]; omega) (by rw [c4, hc.2]; omega) (fun i i0 i1 => by omega)⟩
      · rw [c4, hc.2] at j1 j2 j3 ⊢
        rcases t8 k hk.1 hk.2 with ⟨z, no⟩ | ⟨z, i, i0, i1, i2, i3, i4⟩
        · exact absurd ⟨j2, j3⟩ (no j j0 j1)
        · have ej : j = i := by
            by_cases g1 : j < i
            · exact absurd ⟨j2, j3⟩ (i4 j j0 g1)
            · by_cases g2 : i < j
              · have := j4 i i0.1 g2
                rw [c4, hc.2] at this
                exact absurd ⟨i1, i2⟩ this
              · omega
          rw [ej, i3]
          rw [if_neg (by omega)] at hK
          exact hK
      · rw [c4, hc.2] at z
        rcases t8 k hk.1 hk.2 with ⟨z1, no⟩ | ⟨z1, i, i0, i1, i2, i3, i4⟩
        · rw [if_pos z1] at hK
          exact hK
        · exact absurd ⟨i1, i2⟩ (z i i0.1 i0.2)
