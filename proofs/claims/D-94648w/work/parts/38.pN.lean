/-! PURE: rules, by, forget, lend: numbers alone -/
theorem RA.nums {f f' n n' x y r : Int → Int} {st se : Int → Int → Int} (h : RA f n x y r st se) (hf : ∀ j, ¬ (3 ≤ j ∧ j ≤ 8 ∧ j ≠ 5) → f' j = f j) (hn : ∀ j, ¬ (2 ≤ j ∧ j ≤ 7 ∧ j ≠ 4) → n' j = n j) (h5 : n' 5 ≤ n 5) (hN' : RN f' n' r) : RA f' n' x y r st se := by
  obtain ⟨hN, hT, hB, hS, hE⟩ := h
  obtain ⟨⟨a0, a1, a2⟩, ⟨b0, b1, b2⟩, cy, ⟨d0, d1, d2⟩, ⟨e0, e1, e2⟩, ⟨g0, g1, g2⟩, ⟨i0, i1, i2⟩, -⟩ := hN
  have n0 := hn 0 (by omega)
  have n1 := hn 1 (by omega)
  have n4 := hn 4 (by omega)
  refine ⟨hN', hT.congr a2 n0 (fun j _ _ => hf j (by omega)) (fun _ _ _ => rfl) (fun _ _ _ => rfl), hB.congr a2 b2 n0 n1 (fun j _ _ => hf j (by omega)) (fun _ _ _ => rfl), ?_, ?_⟩
  · intro k p0 p1
    rw [n4] at p1 ⊢
    exact (hS k p0 p1).congr a2 b2 n0 n1 (fun j _ _ => hf _ (by omega)) (fun _ _ _ => rfl) (fun _ _ _ => rfl) (fun _ _ _ => rfl)
  · intro i p0 p1
    have := hE i p0 (by omega)
    rw [n0]
    refine ⟨fun j q0 q1 => ?_, this.2⟩
    rw [hf _ (by omega)]
    exact this.1 j q0 q1
theorem rel_rules {S T : St} {a b : Int} {K : Int → St → Prop} (h : nowA S T) (hK : ∀ r S', Post S T Eq (w_M_rules a b T) r S' → K r S') : w_X_rules_2 a b S K := by
  have hN := h.nums
  unfold w_X_rules_2
  refine p_in (fun x0 x1 => br1 ?_) (fun c => br0 (hK _ _ (Post.stay h rfl fun K' hk => by
    unfold w_M_rules
    exact p_isIn (fun _ _ => absurd (by omega) c) (fun _ => br0 hk))))
  refine p_in (fun y0 y1 => ?_) (fun c => ?_)
  · refine fun _ => ⟨fun _ => ?_, fun c => absurd c (by decide)⟩
    rintro _ rfl _ rfl
    refine hK _ _ ⟨1, aset (aset T 0 7 a) 0 8 b, rfl, ?_, ?_, ?_, fun K' hk => ?_⟩
    · refine RA.eqs (RA.nums h (f' := aI (aset (aset T 0 7 a) 0 8 b) 0) (n' := aI (aset (aset S 0 6 a) 0 7 b) 0) ?_ ?_ ?_ ?_) (fun _ => rfl) (fun k j => ?_) (fun k j => ?_)
      · intro j hj
        simp only [aI_aset]
        rw [if_neg (by omega), if_neg (by omega)]
      · intro j hj
        simp only [aI_aset]
        rw [if_neg (by omega), if_neg (by omega)]
      · simp only [aI_aset]
        grind
      · unfold RN at hN ⊢
        simp only [aI_aset]
        grind
      · simp only [aI_aset]
        rw [if_neg (by omega), if_neg (by omega)]
      · simp only [aI_aset]
        rw [if_neg (by omega), if_neg (by omega)]
    · refine ⟨fun _ _ _ => rfl, rfl, fun _ _ q => q, fun k hk => ?_, ?_⟩
      · funext j
        simp only [aI_aset]
        rw [if_neg (by omega), if_neg (by omega)]
      · simp only [aI_aset]
        grind
    · refine ⟨fun _ _ _ => rfl, fun k _ _ => ?_, ?_⟩
      · funext j
        simp only [aI_aset]
        rw [if_neg (by omega), if_neg (by omega)]
      · simp only [aI_aset]
        grind
    · unfold w_M_rules
      refine p_isIn (fun _ _ => br1 ?_) (fun c => absurd (by omega) c)
      refine p_isIn (fun _ _ => fun _ => ⟨fun _ => ?_, fun c => absurd c (by decide)⟩) (fun c => absurd (by omega) c)
      rintro _ rfl _ rfl
      exact hk
  · refine fun _ => ⟨fun n => absurd rfl n, fun _ => hK _ _ (Post.stay h rfl fun K' hk => ?_)⟩
    unfold w_M_rules
    refine p_isIn (fun _ _ => br1 ?_) (fun c => absurd (by omega) c)
    exact p_isIn (fun _ _ => absurd (by omega) c) (fun _ => fun _ => ⟨fun n => absurd rfl n, fun _ => hk⟩)
theorem rel_forget {S T : St} {K : Int → St → Prop} (h : nowA S T) (hK : ∀ r S', Post S T Eq (w_M_forget T) r S' → K r S') : w_X_forget S K := by
  have hN := h.nums
  unfold w_X_forget
  intro _
  rintro _ rfl
  intro _
  rintro _ rfl
  refine hK _ _ ⟨aI T 0 6, aset T 0 6 0, hN.2.2.2.2.2.2.1.1.symm, ?_, ?_, ?_, fun K' hk => ?_⟩
  · refine RA.eqs (RA.nums h (f' := aI (aset T 0 6 0) 0) (n' := aI (aset S 0 5 0) 0) ?_ ?_ ?_ ?_) (fun _ => rfl) (fun k j => ?_) (fun k j => ?_)
    · intro j hj
      simp only [aI_aset]
      rw [if_neg (by omega)]
    · intro j hj
      simp only [aI_aset]
      rw [if_neg (by omega)]
    · unfold RN at hN
      simp only [aI_aset]
      grind
    · unfold RN at hN ⊢
      simp only [aI_aset]
      grind
    · simp only [aI_aset]
      rw [if_neg (by omega)]
    · simp only [aI_aset]
      rw [if_neg (by omega)]
  · refine ⟨fun _ _ _ => rfl, rfl, fun _ _ q => q, fun k hk => ?_, ?_⟩
    · funext j
      simp only [aI_aset]
      rw [if_neg (by omega)]
    · simp only [aI_aset]
      grind
  · refine ⟨fun _ _ _ => rfl, fun k _ _ => ?_, ?_⟩
    · funext j
      simp only [aI_aset]
      rw [if_neg (by omega)]
    · simp only [aI_aset]
      grind
  · unfold w_M_forget
    intro _
    rintro _ rfl
    intro _
    rintro _ rfl
    exact hk
theorem rel_lend {S T : St} {b t y : Int} {K : Int → St → Prop} (h : nowA S T) (hK : ∀ r S', Post S T Eq (w_M_lend b t y T) r S' → K r S') : w_X_lend b t y S K := by
  unfold w_X_lend
  refine rel_lends h (fun r S' hp => ?_)
  obtain ⟨r', T', he, hn, hx, hm, hw⟩ := hp
  rcases he with ⟨rfl, c1, c2, c3, c4⟩ | ⟨rfl, rfl⟩
  · refine fun _ => ⟨fun c => absurd c (by decide), fun _ => pX_bone_2 (by omega) (by omega) (fun _ => ?_)⟩
    exact hK _ _ ⟨r', T', c2.symm, hn, hx, hm, hw⟩
  · exact fun _ => ⟨fun _ => hK _ _ ⟨-1, T', rfl, hn, hx, hm, hw⟩, fun n => absurd rfl n⟩
theorem by_ok {S T : St} {x : Int} {K : Int → St → Prop} (h : nowA S T) (hx : -1 ≤ x ∧ x < aI S 0 2) (hK : ∀ r S', Post S T Eq (w_M_by x T) r S' → K r S') : K 1 (aset S 0 3 x) := by
  have hN := h.nums
  refine hK _ _ ⟨1, aset T 0 4 x, rfl, ?_, ?_, ?_, fun K' hk => ?_⟩
  · refine RA.eqs (RA.nums h (f' := aI (aset T 0 4 x) 0) (n' := aI (aset S 0 3 x) 0) ?_ ?_ ?_ ?_) (fun _ => rfl) (fun k j => ?_) (fun k j => ?_)
    · intro j hj
      simp only [aI_aset]
      rw [if_neg (by omega)]
    · intro j hj
      simp only [aI_aset]
      rw [if_neg (by omega)]
    · simp only [aI_aset]
      grind
    · unfold RN at hN ⊢
      simp only [aI_aset]
      grind
    · simp only [aI_aset]
      rw [if_neg (by omega)]
    · simp only [aI_aset]
      rw [if_neg (by omega)]
  · refine ⟨fun _ _ _ => rfl, rfl, fun _ _ q => q, fun k hk => ?_, ?_⟩
    · funext j
      simp only [aI_aset]
      rw [if_neg (by omega)]
    · simp only [aI_aset]
      grind
  · refine ⟨fun _ _ _ => rfl, fun k _ _ => ?_, ?_⟩
    · funext j
      simp only [aI_aset]
      rw [if_neg (by omega)]
    · simp only [aI_aset]
      grind
  · obtain ⟨-, -, -, ⟨d0, d1, d2⟩, -⟩ := hN
    unfold w_M_by
    refine fun _ => ⟨by omega, p_isIn (fun _ _ => fun _ => ⟨fun _ => ?_, fun c => absurd c (by decide)⟩) (fun c => absurd (by omega) c)⟩
    rintro _ rfl
    exact hk
theorem rel_by {S T : St} {x : Int} {K : Int → St → Prop} (h : nowA S T) (hK : ∀ r S', Post S T Eq (w_M_by x T) r S' → K r S') : w_X_by x S K := by
  obtain ⟨-, -, -, ⟨d0, d1, d2⟩, -⟩ := h.nums
  unfold w_X_by
  refine ⟨fun c => ?_, fun c => ?_⟩
  · rintro _ rfl
    exact by_ok h (by omega) hK
  · unfold w_X_isText
    refine fun _ => ⟨by omega, p_in (fun _ _ => fun _ => fun _ => ⟨fun _ => ?_, fun c => absurd c (by decide)⟩) (fun c2 => fun _ => fun _ => ⟨fun n => absurd rfl n, fun _ => ?_⟩)⟩
    · rintro _ rfl
      exact by_ok h (by omega) hK
    · refine hK _ _ (Post.stay h rfl fun K' hk => ?_)
      unfold w_M_by
      exact fun _ => ⟨by omega, p_isIn (fun _ _ => absurd (by omega) c2) (fun _ => fun _ => ⟨fun n => absurd rfl n, fun _ => hk⟩)⟩
