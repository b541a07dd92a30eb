/-! PURE: text(): sorts of tokens; want, number, opens of the component -/
theorem tk_all (b : Int → Int) (n p : Int) : (0 ≤ tk b n p ∧ tk b n p ≤ 5) ∨ sgn (tk b n p) := by
  by_cases h : n ≤ tq b n p
  · have := (t_end h).2; omega
  · by_cases h1 : isDg (b (tq b n p))
    · have := (t_dig h h1).2; omega
    · by_cases h2 : isLt (b (tq b n p))
      · have := (t_let h h2).2; omega
      · by_cases h3 : (b (tq b n p) = 60 ∨ b (tq b n p) = 62) ∧ tq b n p + 1 < n ∧ b (tq b n p + 1) = 61
        · have := (t_two h h1 h2 h3).2
          left; rw [this]; split <;> decide
        · have := (t_one h h1 h2 h3).2
          by_cases s : sgn (b (tq b n p))
          · rw [if_pos s] at this; right; rw [this]; exact s
          · rw [if_neg s] at this; left; omega
theorem wsF_bd (w : Int) : wsF w 24 = 302 ∨ (200 ≤ wsF w 24 ∧ wsF w 24 ≤ 223) := by
  rcases w_cases w with ⟨i, hi, -, e, -⟩ | ⟨-, e, -⟩
  · right; omega
  · exact Or.inl e
/-- sort and kind of a token -/
theorem sX_all (b : Int → Int) (n p : Int) : (tk b n p = 0 ∧ sX b n p = 301) ∨ (tk b n p = 1 ∧ sX b n p = 300) ∨ (tk b n p = 2 ∧ sX b n p = wsF (tw b n p) 24 ∧ (sX b n p = 302 ∨ (200 ≤ sX b n p ∧ sX b n p ≤ 223))) ∨ (tk b n p = 3 ∧ sX b n p = 302) ∨ (tk b n p = 4 ∧ sX b n p = 303) ∨ (tk b n p = 5 ∧ sX b n p = 304) ∨ (sgn (tk b n p) ∧ sX b n p = tk b n p ∧ 35 ≤ tk b n p ∧ tk b n p ≤ 62) := by
  rcases tk_all b n p with h | h
  · have hc : tk b n p = 0 ∨ tk b n p = 1 ∨ tk b n p = 2 ∨ tk b n p = 3 ∨ tk b n p = 4 ∨ tk b n p = 5 := by omega
    rcases hc with c | c | c | c | c | c
    · exact Or.inl ⟨c, sX_0 c⟩
    · exact Or.inr (Or.inl ⟨c, sX_1 c⟩)
    · exact Or.inr (Or.inr (Or.inl ⟨c, sX_2 c, by rw [sX_2 c]; exact wsF_bd _⟩))
    · exact Or.inr (Or.inr (Or.inr (Or.inl ⟨c, sX_3 c⟩)))
    · exact Or.inr (Or.inr (Or.inr (Or.inr (Or.inl ⟨c, sX_4 c⟩))))
    · exact Or.inr (Or.inr (Or.inr (Or.inr (Or.inr (Or.inl ⟨c, sX_5 c⟩)))))
  · have h2 := h
    unfold sgn at h2
    exact Or.inr (Or.inr (Or.inr (Or.inr (Or.inr (Or.inr ⟨h, sX_s (by omega), by omega, by omega⟩)))))
theorem sX_300 {b : Int → Int} {n p : Int} : sX b n p = 300 ↔ tk b n p = 1 := by
  rcases sX_all b n p with ⟨a, c⟩ | ⟨a, c⟩ | ⟨a, c, d⟩ | ⟨a, c⟩ | ⟨a, c⟩ | ⟨a, c⟩ | ⟨-, a, c, d⟩ <;> omega
theorem sX_301 {b : Int → Int} {n p : Int} : sX b n p = 301 ↔ tk b n p = 0 := by
  rcases sX_all b n p with ⟨a, c⟩ | ⟨a, c⟩ | ⟨a, c, d⟩ | ⟨a, c⟩ | ⟨a, c⟩ | ⟨a, c⟩ | ⟨-, a, c, d⟩ <;> omega
theorem sX_sg {b : Int → Int} {n p s : Int} (hs : 35 ≤ s ∧ s ≤ 62) : sX b n p = s ↔ tk b n p = s := by
  rcases sX_all b n p with ⟨a, c⟩ | ⟨a, c⟩ | ⟨a, c, d⟩ | ⟨a, c⟩ | ⟨a, c⟩ | ⟨a, c⟩ | ⟨-, a, c, d⟩ <;> omega
theorem sX_w {b : Int → Int} {n p : Int} {i : Nat} (hi : i < 24) : sX b n p = 200 + (i : Int) ↔ (tk b n p = 2 ∧ tw b n p = pw i) := by
  rcases sX_all b n p with ⟨a, c⟩ | ⟨a, c⟩ | ⟨a, c, d⟩ | ⟨a, c⟩ | ⟨a, c⟩ | ⟨a, c⟩ | ⟨-, a, c, d⟩
  · constructor <;> (intro z; omega)
  · constructor <;> (intro z; omega)
  · rcases w_cases (tw b n p) with ⟨j, hj, e1, e2, -⟩ | ⟨e1, e2, -⟩
    · constructor
      · intro z
        have : j = i := by omega
        subst this
        exact ⟨a, e1⟩
      · intro z
        have : j = i := pw_inj j hj i hi (e1.symm.trans z.2)
        subst this
        omega
    · constructor
      · intro z; omega
      · intro z; exact absurd z.2 (e1 i hi)
  · constructor <;> (intro z; omega)
  · constructor <;> (intro z; omega)
  · constructor <;> (intro z; omega)
  · constructor <;> (intro z; omega)
section XLAW2
variable {S : St} {x0 : Nat} {b : Int → Int} {n p o kd : Int}
theorem wantB {s : Int} {G : St → Prop} {X : Nat → St → Prop} (h : xtk S x0 b n p o kd) (hB : 1 ≤ fI S 200 ∧ 8 ≤ fI S 201)
    (hG : sX b n p = s → ∀ S', frX S S' x0 → (fI S' 200 = fI S 200 - 1 ∧ fI S' 201 = fI S 201 - 8) → xtk S' x0 b n (te b n p) o kd → G S') (hX : sX b n p ≠ s → ∀ q S', frX S S' x0 → eW S' q 1 (tq b n p) → X q S') :
    ∃ c d : Int, ((0 ≤ c ∧ c ≤ fI S 200) ∧ 0 ≤ d ∧ d ≤ fI S 201) ∧ w_X3_want x0 s (bset S c d) (fun e S1 => ∀ S2 : St, S2 = bset S1 (fI S 200 - c) (fI S 201 - d) → ((∀ q : Nat, e = some q → X q S2) ∧ (e = none → G S2))) := by
  refine ⟨1, 8, ⟨⟨by omega, hB.1⟩, by omega, hB.2⟩, ?_⟩
  have h' : xtk (bset S 1 8) x0 b n p o kd := h.bs
  obtain ⟨hp, tp, num, h1, h2, h3⟩ := h
  have e0 : fI (bset S 1 8) 200 = 1 := bset_200 _ _ _
  have e1 : fI (bset S 1 8) 201 = 8 := bset_201 _ _ _
  refine ⟨_, _, h2, rfl, fun _ => ⟨fun c => ⟨⟨_, h2⟩, nxB h' (by omega) (fun S1 f1 _ t1 S2 e2 => ?_)⟩, fun c => ⟨⟨_, h2⟩, wrB h' (by omega) (fun q S1 f1 w1 S2 e2 => ?_)⟩⟩⟩
  · subst e2
    exact ⟨(fun q z => by cases z), fun _ => hG c _ f1.bs (by rw [bset_200, bset_201]; exact ⟨rfl, rfl⟩) t1.bs⟩
  · subst e2
    exact ⟨fun q' z => by cases z; exact hX c q _ f1.bs w1, fun z => by cases z⟩
theorem numB {lo hi : Int} {G : Int → St → Prop} {X : Nat → St → Prop} (h : xtk S x0 b n p o kd) (hB : 1 ≤ fI S 200 ∧ 8 ≤ fI S 201) (hh : 0 ≤ lo ∧ hi ≤ 9999)
    (hG : nuP b n p lo hi → ∀ S', frX S S' x0 → (fI S' 200 = fI S 200 - 1 ∧ fI S' 201 = fI S 201 - 8) → xtk S' x0 b n (te b n p) o kd → G (tm b n p) S') (hX : ¬ nuP b n p lo hi → ∀ q S', frX S S' x0 → eW S' q (nuF b n p) (tq b n p) → X q S') :
    ∃ c d : Int, ((0 ≤ c ∧ c ≤ fI S 200) ∧ 0 ≤ d ∧ d ≤ fI S 201) ∧ w_X3_number x0 lo hi (bset S c d) (fun e r S1 => ∀ S2 : St, S2 = bset S1 (fI S 200 - c) (fI S 201 - d) → ((∀ q : Nat, e = some q → X q S2) ∧ (e = none → InR r → G r S2))) := by
  refine ⟨1, 8, ⟨⟨by omega, hB.1⟩, by omega, hB.2⟩, ?_⟩
  have h' : xtk (bset S 1 8) x0 b n p o kd := h.bs
  obtain ⟨hp, tp, num, h1, h2, h3⟩ := h
  have e0 : fI (bset S 1 8) 200 = 1 := bset_200 _ _ _
  have e1 : fI (bset S 1 8) 201 = 8 := bset_201 _ _ _
  have wr : ∀ f : Int, (¬ nuP b n p lo hi) → f = nuF b n p → ∃ c d : Int, ((0 ≤ c ∧ c ≤ fI (bset S 1 8) 200) ∧ 0 ≤ d ∧ d ≤ fI (bset S 1 8) 201) ∧ w_X3_wrong x0 f (bset (bset S 1 8) c d) (fun r S1 => ∀ S2 : St, S2 = bset S1 (fI (bset S 1 8) 200 - c) (fI (bset S 1 8) 201 - d) → ∃ q : Nat, r = some q ∧ ((∃ fs : List PV, gI S2 q = some (.inr (.inl (5, fs)))) ∧ ∀ S3 : St, S3 = bset S2 (fI S 200 - 1) (fI S 201 - 8) → ((∀ q9 : Nat, some q = some q9 → X q9 S3) ∧ (some q = none → InR 0 → G 0 S3)))) := fun f hn ef => by
    refine wrB (E := fun q S2 => ∀ S3 : St, S3 = bset S2 (fI S 200 - 1) (fI S 201 - 8) → ((∀ q9 : Nat, some q = some q9 → X q9 S3) ∧ (some q = none → InR 0 → G 0 S3))) h' (by omega) (fun q S1 f1 w1 S2 e2 => ?_)
    subst e2
    exact ⟨fun q' z => by cases z; exact hX hn q _ f1.bs (by rw [← ef]; exact w1), fun z => by cases z⟩
  refine ⟨_, _, h2, rfl, fun _ => ⟨fun c => ?_, fun c => ⟨⟨_, h2⟩, ?_⟩⟩⟩
  · have ht := sX_300.mp c
    have hv := h3 ht
    have ef : (2 : Int) = nuF b n p := by unfold nuF; rw [if_pos ht]
    refine ⟨_, _, h2, rfl, fun _ => ⟨fun c1 => ⟨⟨_, h2⟩, wr 2 (fun z => by have c1a : num < lo := c1; have := z.2; omega) ef⟩, fun c1 => ⟨_, _, h2, rfl, fun _ => ⟨fun c2 => ⟨_, _, h2, rfl, fun r9 => ⟨⟨_, h2⟩, nxB h' (by omega) (fun S1 f1 _ t1 S2 e2 => ?_)⟩⟩, fun c2 => ⟨⟨_, h2⟩, wr 2 (fun z => by have c2a : ¬ num ≤ hi := c2; have := z.2; omega) ef⟩⟩⟩⟩⟩
    subst e2
    refine ⟨(fun q z => by cases z), fun _ _ => ?_⟩
    have e9 : num = tm b n p := by omega
    rw [e9]
    exact hG ⟨ht, by omega, by omega⟩ _ f1.bs (by rw [bset_200, bset_201]; exact ⟨rfl, rfl⟩) t1.bs
  · have ht : tk b n p ≠ 1 := fun z => c (sX_300.mpr z)
    exact wr 1 (fun z => ht z.1) (by unfold nuF; rw [if_neg ht])
theorem opsB {G : St → Prop} {X : Nat → St → Prop} (h : xtk S x0 b n p o kd) (hB : 1 ≤ fI S 200 ∧ 8 ≤ fI S 201) (ho : 0 ≤ o ∧ o ≤ 8)
    (hG : o < 8 → ∀ S', frX S S' x0 → (fI S' 200 = fI S 200 - 1 ∧ fI S' 201 = fI S 201 - 8) → xtk S' x0 b n (te b n p) (o + 1) kd → G S') (hX : o = 8 → ∀ q S', frX S S' x0 → eW S' q 3 (tq b n p) → X q S') :
    ∃ c d : Int, ((0 ≤ c ∧ c ≤ fI S 200) ∧ 0 ≤ d ∧ d ≤ fI S 201) ∧ w_X3_opens x0 (bset S c d) (fun e S1 => ∀ S2 : St, S2 = bset S1 (fI S 200 - c) (fI S 201 - d) → ((∀ q : Nat, e = some q → X q S2) ∧ (e = none → G S2))) := by
  refine ⟨1, 8, ⟨⟨by omega, hB.1⟩, by omega, hB.2⟩, ?_⟩
  have h' : xtk (bset S 1 8) x0 b n p o kd := h.bs
  obtain ⟨hp, tp, num, h1, h2, h3⟩ := h
  have e0 : fI (bset S 1 8) 200 = 1 := bset_200 _ _ _
  have e1 : fI (bset S 1 8) 201 = 8 := bset_201 _ _ _
  refine ⟨_, _, h2, rfl, fun _ => ⟨fun c => ⟨_, _, h2, rfl, fun _ => ⟨by constructor <;> omega, _, h2, rfl, fun S1 e2 => ?_⟩⟩, fun c => ⟨⟨_, h2⟩, wrB h' (by omega) (fun q S1 f1 w1 S2 e2 => ?_)⟩⟩⟩
  · have hg : gI S1 x0 = some (.inr (.inl (3, [.inr (.inr (some tp)), .inl n, .inl (te b n p), .inl (tq b n p), .inl (sX b n p), .inl num, .inl (o + 1), .inl kd]))) := by
      rw [e2]
      exact gI_gset_s _ _ _
    have f0 : frX (bset S 1 8) S1 x0 := by
      subst e2
      exact ⟨fun _ _ _ => rfl, rfl, rfl, fun a f c q => by rw [gI_gset_n c]; exact q⟩
    have e3 : fI S1 = fI (bset S 1 8) := by rw [e2]; rfl
    have t0 : xtk S1 x0 b n p (o + 1) kd := ⟨hp, tp, num, by unfold hT at h1 ⊢; rw [f0.2.1, f0.2.2.1]; exact h1, hg, h3⟩
    refine ⟨⟨_, hg⟩, nxB t0 (by rw [e3]; omega) (fun S2 f1 _ t1 S3 e4 => ?_)⟩
    subst e4
    exact ⟨(fun q z => by cases z), fun _ => hG (by omega) _ (f0.trans f1).bs (by rw [bset_200, bset_201]; exact ⟨rfl, rfl⟩) t1.bs⟩
  · subst e2
    exact ⟨fun q' z => by cases z; exact hX c q _ f1.bs w1, fun z => by cases z⟩
end XLAW2
