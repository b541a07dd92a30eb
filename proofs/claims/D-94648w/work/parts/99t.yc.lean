/-! PURE: text(): the end of a clause, the twin -/
/-- what the body of a clause leaves alone -/
def bF (T2 T3 : St) (base c w : Int) : Prop := (∀ k, ¬ (7 ≤ k ∧ k ≤ 11) → k ≠ 14 → k ≠ 17 → k ≠ 18 → k ≠ 19 → fI T3 k = fI T2 k) ∧ (∀ k, k ≠ 2 → k ≠ 4 → aI T3 k = aI T2 k) ∧ ∀ i, ((i < base + 100 + 2 * w ∧ ¬ (base + 2 + 4 * c ≤ i ∧ i ≤ base + 4 + 4 * c)) ∨ base + 700 ≤ i) → aI T3 2 i = aI T2 2 i
theorem frS.bF {T2 T3 : St} {w c : Int} (h : frS T2 T3 w) : bF T2 T3 (fI T2 12) c w := ⟨h.1, h.2.1, fun i hi => h.2.2 i (by omega)⟩
theorem frH.bF {T2 T3 : St} {base c w : Int} (h : frH T2 T3 (base + 1 + 4 * c)) (hc : 0 ≤ c ∧ c < 24) (hw : 0 ≤ w) : bF T2 T3 base c w := ⟨fun k k1 _ _ _ _ => h.1 k k1, fun k k1 _ => by rw [h.2.1 k k1], fun i hi => h.2.2 i (by omega)⟩
section CLEND
variable {T0 T T2 T3 : St} {b : Int → Int} {n p N c w s p1 p' w' lim lim2 : Int}
/-- what cl_pre leaves behind -/
def preT (T T2 : St) (N c s : Int) : Prop := ((0 ≤ fI T2 21 ∧ fI T2 21 < 8) ∧ ∀ i, 0 ≤ i → i < 3 → bt (fI T2 21) i = if i = s then 1 else bt (fI T 21) i) ∧ (∀ k, ¬ (7 ≤ k ∧ k ≤ 11) → k ≠ 20 → k ≠ 21 → fI T2 k = fI T k) ∧ (∀ k, k ≠ 2 → aI T2 k = aI T k) ∧ aI T2 2 (700 * N + 1 + 4 * c) = s ∧ (∀ i, i ≠ 700 * N + 1 + 4 * c → aI T2 2 i = aI T 2 i)
theorem twF_pre (h : twF T0 T N) (hp : preT T T2 N c s) (hN : 0 ≤ N ∧ N ≤ 3) (hc : 0 ≤ c ∧ c < 24) : twF T0 T2 N := by
  obtain ⟨-, q2, q3, -, q5⟩ := hp
  exact ⟨fun k k1 k2 k3 => by rw [q2 k (by omega) (by omega) (by omega), h.1 k k1 k2 k3], fun k k1 k2 => by rw [q3 k k1, h.2.1 k k1 k2], fun i hi => by rw [q5 i (by omega), h.2.2 i hi]⟩
theorem twF_b (h : twF T0 T2 N) (hb : bF T2 T3 (700 * N) c w) (hc : 0 ≤ c ∧ c < 24) (hw : 0 ≤ w) : twF T0 T3 N :=
  ⟨fun k k1 k2 k3 => by rw [hb.1 k (by omega) k2 (by omega) (by omega) (by omega), h.1 k k1 k2 k3], fun k k1 k2 => by rw [hb.2.1 k k1 k2, h.2.1 k k1 k2], fun i hi => by rw [hb.2.2 i (by omega), h.2.2 i hi]⟩
theorem cl_done (h : TW T0 T b n p N c w) (hc : 0 ≤ c ∧ c < 24) (hp : preT T T2 N c s) (hs : 0 ≤ s ∧ s ≤ 8) (hb : bF T2 T3 (700 * N) c w) (h3 : exS b n lim2 T3 p' 0 w') (hw : w ≤ w' ∧ w' ≤ p') (ht : tk b n p' = 59) :
    ∃ T4, TW T0 T4 b n (te b n p') N (c + 1) w' ∧ p' < te b n p' ∧ agT (aI T 2) (aI T4 2) (700 * N) c w ∧ aI T4 2 (700 * N + 1 + 4 * c) = s ∧ (s < 3 → aI T4 2 (700 * N + 2 + 4 * c) = w ∧ aI T4 2 (700 * N + 3 + 4 * c) = w') ∧ (3 ≤ s → ∀ e, 2 ≤ e → e ≤ 4 → aI T4 2 (700 * N + e + 4 * c) = aI T3 2 (700 * N + e + 4 * c)) ∧ (∀ i, 700 * N + 100 ≤ i → aI T4 2 i = aI T3 2 i) ∧ ∀ K : Int → St → Prop, K 0 T4 → clE s (700 * N + 1 + 4 * c) w K 0 T3 := by
  obtain ⟨-, e2, e3, e4, e5, e6⟩ := h
  have t2 := twF_pre e6 hp e2.2 hc
  have t3 := twF_b t2 hb hc e4.1
  obtain ⟨q1, q2, q3, q4, q5⟩ := hp
  have b12 : fI T3 12 = 700 * N := by rw [hb.1 12 (by omega) (by omega) (by omega) (by omega) (by omega), q2 12 (by omega) (by omega) (by omega), e2.1]
  have b21 : fI T3 21 = fI T2 21 := hb.1 21 (by omega) (by omega) (by omega) (by omega) (by omega)
  have bc : aI T3 2 (fI T3 12) = c := by rw [b12, hb.2.2 _ (by omega), q5 _ (by omega), e3]
  obtain ⟨T4, z1, z2, z3, z4, z5, z6, z7, z8⟩ := cl_end_ok (s := s) (w := w) h3 bc hc (x := 700 * N + 1 + 4 * c) (by rw [b12]) ht
  rw [b12] at z5 z7
  have so : ∀ k, 0 ≤ k → k < c → ∀ e, 1 ≤ e → e ≤ 4 → aI T4 2 (700 * N + e + 4 * k) = aI T 2 (700 * N + e + 4 * k) := fun k k0 k1 e e1 e9 => by
    rw [z7 _ (by omega) (fun _ => by omega), hb.2.2 _ (by omega), q5 _ (by omega)]
  have soc : aI T4 2 (700 * N + 1 + 4 * c) = s := by rw [z7 _ (by omega) (fun _ => by omega), hb.2.2 _ (by omega), q4]
  refine ⟨T4, ⟨⟨_, z1⟩, ⟨by rw [z3 12 (by omega), b12], e2.2⟩, z5, ⟨by omega, by omega⟩, ⟨by rw [z3 21 (by omega), b21]; exact q1.1, fun i i0 i3 => ?_⟩, ⟨fun k k1 k2 k3 => by rw [z3 k (by omega), t3.1 k k1 k2 k3], fun k k1 k2 => by rw [z4 k k1, t3.2.1 k k1 k2], fun i hi => by rw [z7 i (by omega) (fun _ => by omega), t3.2.2 i hi]⟩⟩, z2, ⟨so, fun i i0 i1 => by rw [z7 i (by omega) (fun _ => by omega), hb.2.2 i (by omega), q5 i (by omega)]⟩, soc, fun z => ?_, fun z e e2' e4' => z7 _ (by omega) (fun _ => by omega), fun i i0 => z7 i (by omega) (fun _ => by omega), z8⟩
  · have hi := e5.2 i i0 i3
    rw [z3 21 (by omega), b21, q1.2 i i0 i3]
    by_cases ci : i = s
    · rw [if_pos ci]
      exact ⟨Or.inr rfl, fun _ => ⟨c, hc.1, by omega, by rw [soc, ci]⟩, fun _ => rfl⟩
    · rw [if_neg ci]
      refine ⟨hi.1, fun z => ?_, fun z => ?_⟩
      · obtain ⟨k, k0, k1, k2⟩ := hi.2.mp z
        exact ⟨k, k0, by omega, by rw [so k k0 k1 1 (by omega) (by omega)]; exact k2⟩
      · obtain ⟨k, k0, k1, k2⟩ := z
        by_cases ck : k = c
        · rw [ck, soc] at k2
          exact absurd k2.symm ci
        · exact hi.2.mpr ⟨k, k0, by omega, by rw [← so k k0 (by omega) 1 (by omega) (by omega)]; exact k2⟩
  · have := z6 z
    rw [show 700 * N + 2 + 4 * c = 700 * N + 1 + 4 * c + 1 by omega, show 700 * N + 3 + 4 * c = 700 * N + 1 + 4 * c + 2 by omega]
    exact this
end CLEND
