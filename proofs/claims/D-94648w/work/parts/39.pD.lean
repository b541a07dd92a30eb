/-! PURE: miles -/
def dist (x y : Int → Int) (a b : Int) : Int := (max (x a - x b) (-(x a - x b))) + (max (y a - y b) (-(y a - y b)))
theorem pX_miles {S T : St} {a b : Int} {K : Int → Prop} (h : nowA S T) (ha : 0 ≤ a ∧ a < aI S 0 0) (hb : 0 ≤ b ∧ b < aI S 0 0) (hK : 0 ≤ dist (aI S 1) (aI S 2) a b → dist (aI S 1) (aI S 2) a b ≤ 198 → K (dist (aI S 1) (aI S 2) a b)) : w_X_miles a b S K := by
  obtain ⟨⟨a0, a1, a2⟩, -⟩ := h.nums
  have t1 := h.2.1 a ha.1 ha.2
  have t2 := h.2.1 b hb.1 hb.2
  unfold dist at hK
  unfold w_X_miles
  exact ⟨by omega, fun _ => ⟨by omega, fun _ => ⟨by omega, by omega, by omega, fun _ => ⟨by omega, fun _ => ⟨by omega, by omega, by omega, hK (by omega) (by omega)⟩⟩⟩⟩⟩
theorem pM_miles {S T : St} {a b : Int} {K : Int → Prop} (h : nowA S T) (ha : 0 ≤ a ∧ a < aI S 0 0) (hb : 0 ≤ b ∧ b < aI S 0 0) (hK : K (dist (aI S 1) (aI S 2) a b)) : w_M_miles a b T K := by
  obtain ⟨⟨a0, a1, a2⟩, -⟩ := h.nums
  have t1 := h.2.1 a ha.1 ha.2
  have t2 := h.2.1 b hb.1 hb.2
  have q1 : 10 + 2 * a + 1 = 11 + 2 * a := by omega
  have q2 : 10 + 2 * b + 1 = 11 + 2 * b := by omega
  have ap : ∀ (u v : Int) (L : Int → Prop), (0 ≤ u ∧ u ≤ 99) → (0 ≤ v ∧ v ≤ 99) → L (max (u - v) (-(u - v))) → w_M_apart u v L := by
    intro u v L hu hv hL
    unfold w_M_apart
    refine ⟨fun c => ⟨by omega, ?_⟩, fun c => ⟨by omega, ?_⟩⟩
    · rw [show u - v = max (u - v) (-(u - v)) by omega]
      exact hL
    · rw [show v - u = max (u - v) (-(u - v)) by omega]
      exact hL
  unfold dist at hK
  unfold w_M_miles
  rw [q1, q2, t1.1, t1.2.1, t2.1, t2.2.1]
  refine ⟨by omega, by omega, by omega, fun _ => ⟨by omega, by omega, by omega, fun _ => ap _ _ _ (by omega) (by omega) (fun _ => ?_)⟩⟩
  exact ⟨by omega, by omega, fun _ => ⟨by omega, by omega, fun _ => ap _ _ _ (by omega) (by omega) (fun _ => ⟨by omega, hK⟩)⟩⟩
