/-! PURE: text(): whole, settle, goesOn of the twin -/
/-- steps laid from a cell on -/
def cel (f : Int → Int) : Int → List Int → Prop
  | _, [] => True
  | c, a :: r => f c = a ∧ f (c + 1) = 0 ∧ cel f (c + 2) r
theorem cel_congr {f g : Int → Int} : ∀ (l : List Int) (c : Int), (∀ i : Int, c ≤ i → i < c + 2 * l.length → g i = f i) → cel f c l → cel g c l := by
  intro l
  induction l with
  | nil => intro _ _ _; trivial
  | cons a r ih =>
    intro c h hp
    have hl : ((a :: r).length : Int) = r.length + 1 := by
      show ((r.length + 1 : Nat) : Int) = _
      omega
    exact ⟨by rw [h _ (by omega) (by omega)]; exact hp.1, by rw [h _ (by omega) (by omega)]; exact hp.2.1, ih (c + 2) (fun i i0 i1 => h i (by omega) (by omega)) hp.2.2⟩
theorem cel_app {f : Int → Int} : ∀ (l r : List Int) (c : Int), cel f c l → cel f (c + 2 * l.length) r → cel f c (l ++ r) := by
  intro l
  induction l with
  | nil =>
    intro r c _ h
    have e : c + 2 * (([] : List Int).length : Int) = c := by
      show c + 2 * ((0 : Nat) : Int) = c
      omega
    rw [e] at h
    exact h
  | cons a l ih =>
    intro r c h h2
    have hl : ((a :: l).length : Int) = l.length + 1 := by
      show ((l.length + 1 : Nat) : Int) = _
      omega
    refine ⟨h.1, h.2.1, ih r (c + 2) h.2.2 ?_⟩
    rw [show c + 2 + 2 * (l.length : Int) = c + 2 * ((a :: l).length : Int) by omega]
    exact h2
/-- steps written, and what waits changed: nothing else -/
def wrS (T T' : St) (l : List Int) : Prop := fI T' 14 = fI T 14 + l.length ∧ cel (aI T' 2) (fI T 12 + 100 + 2 * fI T 14) l ∧ (∀ i, (i < fI T 12 + 100 + 2 * fI T 14 ∨ fI T 12 + 100 + 2 * (fI T 14 + l.length) ≤ i) → aI T' 2 i = aI T 2 i) ∧ (∀ k, k ≠ 2 → aI T' k = aI T k) ∧ ∀ k, k ≠ 14 → k ≠ 17 → k ≠ 18 → k ≠ 19 → fI T' k = fI T k
theorem wrS.rf (T : St) : wrS T T [] := ⟨by show _ = _ + ((0 : Nat) : Int); omega, trivial, fun _ _ => rfl, fun _ _ => rfl, fun _ _ _ _ _ => rfl⟩
theorem wrS.step {T T1 T' : St} {a : Int} {l : List Int} (h1 : fI T1 14 = fI T 14) (h2 : aI T1 = aI T) (h3 : ∀ k, k ≠ 17 → k ≠ 18 → k ≠ 19 → fI T1 k = fI T k) (h : wrS (emS T1 a 0) T' l) : wrS T T' (a :: l) := by
  obtain ⟨q1, q2, q3, q4, q5⟩ := h
  have hl : ((a :: l).length : Int) = l.length + 1 := by
    show ((l.length + 1 : Nat) : Int) = _
    omega
  have e12 : fI (emS T1 a 0) 12 = fI T 12 := by rw [emS_f (by omega), h3 12 (by omega) (by omega) (by omega)]
  have e14 : fI (emS T1 a 0) 14 = fI T 14 + 1 := by rw [emS_14, h1]
  have h12 : fI T1 12 = fI T 12 := h3 12 (by omega) (by omega) (by omega)
  rw [e12, e14] at q2 q3
  rw [e14] at q1
  refine ⟨by omega, ⟨?_, ?_, ?_⟩, fun i hi => ?_, fun k hk => ?_, fun k k0 k1 k2 k3 => ?_⟩
  · rw [q3 _ (Or.inl (by omega)), emS_2, h1, h12, if_neg (by omega), if_pos rfl]
  · rw [q3 _ (Or.inl (by omega)), emS_2, h1, h12, if_pos rfl]
  · rw [show fI T 12 + 100 + 2 * fI T 14 + 2 = fI T 12 + 100 + 2 * (fI T 14 + 1) by omega]
    exact q2
  · rw [q3 i (by omega), emS_2, h1, h12, if_neg (by omega), if_neg (by omega), h2]
  · rw [q4 k hk, emS_a hk, h2]
  · rw [q5 k k0 k1 k2 k3, emS_f k0, h3 k k1 k2 k3]
theorem pM_whole_in {r : List Int} (hr : ∀ a t, r = a :: t → a ≠ 2) : ∀ (j : Nat) (T : St), pl (aI T 4) (List.replicate j 2 ++ r) → fI T 17 = j + r.length → (j + r.length : Int) ≤ 160 → (0 ≤ fI T 12 ∧ fI T 12 ≤ 2100) → (0 ≤ fI T 14 ∧ fI T 14 + j ≤ 300) → (j ≤ fI T 18 ∧ fI T 18 ≤ 100) →
    ∃ T', wrS T T' (List.replicate j 2) ∧ fI T' 17 = r.length ∧ fI T' 18 = fI T 18 - j ∧ fI T' 19 = fI T 19 ∧ ∀ K : St → Prop, K T' → l_M_whole_5 K (j + 1) T := by
  intro j
  induction j with
  | zero =>
    intro T hp h17 hb h12 h14 h18
    refine ⟨T, wrS.rf T, by omega, by omega, rfl, fun K hK => ?_⟩
    unfold l_M_whole_5
    rw [h17]
    refine fun _ => ⟨fun _ => hK, fun c => ⟨by omega, by omega, fun _ => ⟨fun _ => hK, fun e => ?_⟩⟩⟩
    cases r with
    | nil => exact absurd c (by show ¬ ¬ ((0 : Nat) : Int) + ((0 : Nat) : Int) ≤ 0; omega)
    | cons a t =>
      have hl : ((a :: t).length : Int) = t.length + 1 := by
        show ((t.length + 1 : Nat) : Int) = _
        omega
      rw [hl, show ((0 : Nat) : Int) + ((t.length : Int) + 1) - 1 = t.length by omega] at e
      have e2 : aI T 4 t.length = a := hp.1
      exact absurd (e2.symm.trans e) (hr a t rfl)
  | succ j ih =>
    intro T hp h17 hb h12 h14 h18
    have hl : ((List.replicate j (2 : Int) ++ r).length : Int) = j + r.length := by rw [List.length_append, List.length_replicate]; omega
    have hp1 : aI T 4 ((List.replicate j (2 : Int) ++ r).length : Int) = 2 ∧ pl (aI T 4) (List.replicate j 2 ++ r) := hp
    obtain ⟨T', u1, u2, u3, u4, u5⟩ := ih (emS (fset (fset T 17 (fI T 17 - 1)) 18 (fI T 18 - 1)) 2 0) (by rw [emS_a (by omega)]; exact hp1.2) (by rw [emS_f (by omega), fI_fset_n (by omega), fI_fset_s]; omega) (by omega) (by rw [emS_f (by omega)]; exact h12) (by rw [emS_14, fI_fset_n (by omega), fI_fset_n (by omega)]; omega) (by rw [emS_f (by omega), fI_fset_s]; omega)
    refine ⟨T', ?_, u2, by rw [u3, emS_f (by omega), fI_fset_s]; omega, by rw [u4, emS_f (by omega), fI_fset_n (by omega), fI_fset_n (by omega)], fun K hK => ?_⟩
    · exact wrS.step (T1 := fset (fset T 17 (fI T 17 - 1)) 18 (fI T 18 - 1)) (by rw [fI_fset_n (by omega), fI_fset_n (by omega)]) rfl (fun k k0 k1 _ => by rw [fI_fset_n k1, fI_fset_n k0]) u1
    · unfold l_M_whole_5
      have et : aI T 4 (fI T 17 - 1) = 2 := by
        rw [show fI T 17 - 1 = ((List.replicate j (2 : Int) ++ r).length : Int) by omega]
        exact hp1.1
      rw [et]
      refine fun _ => ⟨fun c => absurd c (by omega), fun _ => ⟨by omega, by omega, fun _ => ⟨fun z => absurd rfl z, fun _ => ?_⟩⟩⟩
      rintro _ rfl
      rw [fI_fset_n (by omega)]
      refine fun _ => ⟨by omega, ?_⟩
      rintro _ rfl
      exact pM_emit (by rw [fI_fset_n (by omega), fI_fset_n (by omega)]; exact h12) (by rw [fI_fset_n (by omega), fI_fset_n (by omega)]; omega) (u5 K hK)
theorem pM_whole {T : St} {r : List Int} {j : Nat} (hr : ∀ a t, r = a :: t → a ≠ 2) (hp : pl (aI T 4) (List.replicate j 2 ++ r)) (h17 : fI T 17 = j + r.length) (hb : (j + r.length : Int) ≤ 160) (h12 : 0 ≤ fI T 12 ∧ fI T 12 ≤ 2100) (h14 : 0 ≤ fI T 14 ∧ fI T 14 + j ≤ 300) (h18 : j ≤ fI T 18 ∧ fI T 18 ≤ 100) :
    ∃ T', wrS T T' (List.replicate j 2) ∧ fI T' 17 = r.length ∧ fI T' 18 = fI T 18 - j ∧ fI T' 19 = 1 ∧ ∀ K : St → Prop, K T' → w_M_whole T K := by
  obtain ⟨T', u1, u2, u3, u4, u5⟩ := pM_whole_in hr j (fset T 19 1) hp (by rw [fI_fset_n (by omega)]; exact h17) hb (by rw [fI_fset_n (by omega)]; exact h12) (by rw [fI_fset_n (by omega)]; exact h14) (by rw [fI_fset_n (by omega)]; exact h18)
  obtain ⟨q1, q2, q3, q4, q5⟩ := u1
  rw [fI_fset_n (by omega), fI_fset_n (by omega)] at q2
  rw [fI_fset_n (by omega), fI_fset_n (by omega)] at q3
  rw [fI_fset_n (by omega)] at q1 u3
  refine ⟨T', ⟨q1, q2, q3, q4, fun k k0 k1 k2 k3 => by rw [q5 k k0 k1 k2 k3, fI_fset_n k3]⟩, u2, u3, by rw [u4, fI_fset_s], fun K hK => ?_⟩
  unfold w_M_whole
  rintro _ rfl
  exact ⟨j + 1, u5 K hK⟩
theorem pM_settle {r : List Int} {least : Int} (hr : ∀ a t, r = a :: t → ¬ (least ≤ a ∧ a < 40)) : ∀ (l : List Int) (T : St), (∀ a, a ∈ l → least ≤ a ∧ a < 40) → pl (aI T 4) (l ++ r) → fI T 17 = l.length + r.length → (l.length + r.length : Int) ≤ 160 → (0 ≤ fI T 12 ∧ fI T 12 ≤ 2100) → (0 ≤ fI T 14 ∧ fI T 14 + l.length ≤ 300) →
    ∃ T', wrS T T' l ∧ fI T' 17 = r.length ∧ fI T' 18 = fI T 18 ∧ fI T' 19 = fI T 19 ∧ ∀ K : St → Prop, K T' → l_M_settle_0 least K (l.length + 1) T := by
  intro l
  induction l with
  | nil =>
    intro T hl hp h17 hb h12 h14
    have l0 : (([] : List Int).length : Int) = 0 := rfl
    refine ⟨T, wrS.rf T, by omega, rfl, rfl, fun K hK => ?_⟩
    unfold l_M_settle_0
    rw [h17]
    refine fun _ => ⟨fun _ => hK, fun c => ⟨by omega, by omega, fun _ => ⟨fun _ => hK, fun c2 => ⟨by omega, fun _ => hK, fun c3 => ?_⟩⟩⟩⟩
    cases r with
    | nil => exact absurd c (by show ¬ ¬ ((0 : Nat) : Int) + ((0 : Nat) : Int) ≤ 0; omega)
    | cons a t =>
      have hl : ((a :: t).length : Int) = t.length + 1 := by
        show ((t.length + 1 : Nat) : Int) = _
        omega
      rw [hl, l0, show (0 : Int) + ((t.length : Int) + 1) - 1 = t.length by omega] at c2 c3
      have e2 : aI T 4 t.length = a := hp.1
      rw [e2] at c2 c3
      exact absurd ⟨by omega, by omega⟩ (hr a t rfl)
  | cons a l ih =>
    intro T hl hp h17 hb h12 h14
    have hll : ((a :: l).length : Int) = l.length + 1 := by
      show ((l.length + 1 : Nat) : Int) = _
      omega
    have ha := hl a List.mem_cons_self
    have hlr : ((l ++ r).length : Int) = l.length + r.length := by rw [List.length_append]; omega
    have hp1 : aI T 4 ((l ++ r).length : Int) = a ∧ pl (aI T 4) (l ++ r) := hp
    obtain ⟨T', u1, u2, u3, u4, u5⟩ := ih (emS (fset T 17 (fI T 17 - 1)) a 0) (fun x hx => hl x (List.mem_cons_of_mem _ hx)) (by rw [emS_a (by omega)]; exact hp1.2) (by rw [emS_f (by omega), fI_fset_s]; omega) (by omega) (by rw [emS_f (by omega)]; exact h12) (by rw [emS_14, fI_fset_n (by omega)]; omega)
    have et : aI T 4 (fI T 17 - 1) = a := by
      rw [show fI T 17 - 1 = ((l ++ r).length : Int) by omega]
      exact hp1.1
    refine ⟨T', wrS.step (T1 := fset T 17 (fI T 17 - 1)) (by rw [fI_fset_n (by omega)]) rfl (fun k k0 _ _ => by rw [fI_fset_n k0]) u1, u2, by rw [u3, emS_f (by omega), fI_fset_n (by omega)], by rw [u4, emS_f (by omega), fI_fset_n (by omega)], fun K hK => ?_⟩
    show l_M_settle_0 least K (l.length + 1 + 1) T
    unfold l_M_settle_0
    rw [et]
    refine fun _ => ⟨fun c => absurd c (by omega), fun _ => ⟨by omega, by omega, fun _ => ⟨fun z => absurd z (by omega), fun _ => ⟨by omega, fun z => absurd z (by omega), fun _ => ?_⟩⟩⟩⟩
    rintro _ rfl
    rw [fI_fset_s]
    have et2 : aI (fset T 17 (fI T 17 - 1)) 4 (fI T 17 - 1) = a := et
    rw [et2]
    exact fun _ => ⟨by omega, fun _ => pM_emit (by rw [fI_fset_n (by omega)]; exact h12) (by rw [fI_fset_n (by omega)]; omega) (u5 K hK)⟩
theorem pl_mem {f : Int → Int} {x : Int} : ∀ (l : List Int), pl f l → (x ∈ l ↔ ∃ i : Int, 0 ≤ i ∧ i < l.length ∧ f i = x) := by
  intro l
  induction l with
  | nil =>
    intro _
    constructor
    · intro h; exact absurd h (List.not_mem_nil)
    · rintro ⟨i, i0, i1, -⟩
      have l0 : (([] : List Int).length : Int) = 0 := rfl
      omega
  | cons a r ih =>
    intro h
    have hl : ((a :: r).length : Int) = r.length + 1 := by
      show ((r.length + 1 : Nat) : Int) = _
      omega
    have ih' := ih h.2
    constructor
    · intro hm
      rcases List.mem_cons.mp hm with e | hm
      · exact ⟨r.length, by omega, by omega, by rw [h.1, e]⟩
      · obtain ⟨i, i0, i1, i2⟩ := ih'.mp hm
        exact ⟨i, i0, by omega, i2⟩
    · rintro ⟨i, i0, i1, i2⟩
      by_cases e : i = r.length
      · rw [e, h.1] at i2
        rw [i2]
        exact List.mem_cons_self
      · exact List.mem_cons_of_mem _ (ih'.mpr ⟨i, i0, by omega, i2⟩)
theorem pM_hasParen {T : St} {l : List Int} {K : Int → Prop} (hp : pl (aI T 4) l) (h17 : fI T 17 = l.length) (hb : (l.length : Int) ≤ 160) (h1 : 40 ∈ l → K 1) (h0 : ¬ 40 ∈ l → K 0) : w_M_hasParen T K := by
  have go : ∀ (m : Nat) (i : Int), 0 ≤ i → i ≤ l.length → l.length - i < m → (∀ j, 0 ≤ j → j < i → aI T 4 j ≠ 40) → l_M_hasParen_2 T K m i := by
    intro m
    induction m with
    | zero => intro i i0 i1 i2; omega
    | succ m ih =>
      intro i i0 i1 i2 hi
      unfold l_M_hasParen_2
      rw [h17]
      refine fun _ => ⟨fun c => h0 (fun hm => ?_), fun c => ⟨by omega, fun _ => ⟨fun ne => ⟨by omega, ih (i + 1) (by omega) (by omega) (by omega) (fun j j0 j1 => ?_)⟩, fun e => h1 ((pl_mem l hp).mpr ⟨i, i0, by omega, e⟩)⟩⟩⟩
      · obtain ⟨j, j0, j1, j2⟩ := (pl_mem l hp).mp hm
        exact hi j j0 (by omega) j2
      · by_cases e : j = i
        · rw [e]; exact ne
        · exact hi j j0 (by omega)
  exact ⟨l.length + 1, go (l.length + 1) 0 (by omega) (by omega) (by omega) (fun j j0 j1 => by omega)⟩
theorem pM_goesOn {T : St} {l : List Int} {K : Int → Prop} (hp : pl (aI T 4) l) (h17 : fI T 17 = l.length) (hb : (l.length : Int) ≤ 160) (h1 : (fI T 9 = 43 ∨ fI T 9 = 45 ∨ fI T 9 = 42 ∨ fI T 9 = 47 ∨ (fI T 9 = 41 ∧ 40 ∈ l)) → K 1) (h0 : ¬ (fI T 9 = 43 ∨ fI T 9 = 45 ∨ fI T 9 = 42 ∨ fI T 9 = 47 ∨ (fI T 9 = 41 ∧ 40 ∈ l)) → K 0) : w_M_goesOn T K := by
  unfold w_M_goesOn
  refine fun _ => ⟨fun c => h1 (Or.inl c), fun c1 => ⟨fun c => h1 (Or.inr (Or.inl c)), fun c2 => ⟨fun c => h1 (Or.inr (Or.inr (Or.inl c))), fun c3 => ⟨fun c => h1 (Or.inr (Or.inr (Or.inr (Or.inl c)))), fun c4 => ⟨fun c5 => h0 (fun q => ?_), fun c => ?_⟩⟩⟩⟩⟩
  · rcases q with q | q | q | q | q
    · exact c1 q
    · exact c2 q
    · exact c3 q
    · exact c4 q
    · exact c5 q.1
  · refine pM_hasParen hp h17 hb (fun hm => fun _ => ⟨fun z => absurd z (by decide), fun _ => h1 (Or.inr (Or.inr (Or.inr (Or.inr ⟨c, hm⟩))))⟩) (fun hm => fun _ => ⟨fun _ => h0 (fun q => ?_), fun z => absurd rfl z⟩)
    rcases q with q | q | q | q | q
    · exact c1 q
    · exact c2 q
    · exact c3 q
    · exact c4 q
    · exact hm q.2
