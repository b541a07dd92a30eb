/-! PURE: pass, the twin's side -/
variable {tB : Int}
def MI (f0 n r : Int → Int) (T0 T' : St) : Prop := (∀ j, j ≠ 2 → (j < 30 ∨ 126 ≤ j) → aI T' 0 j = f0 j) ∧ aI T' 0 2 = r 90 ∧ RB (aI T' 0) n r ∧ (∀ k, 1 ≤ k → k ≤ 3 → aI T' k = aI T0 k) ∧ fI T' = fI T0
theorem pM_103 {f0 n r : Int → Int} {T0 T' : St} {b kw : Int} (h : MI f0 n r T0 T') (h0 : 0 ≤ n 0 ∧ n 0 ≤ 10) (h1 : n 1 ≤ 16) (hb : 0 ≤ b ∧ b < n 1) : ∃ T1, MI f0 n (fun j => if r (5 * b + 4) = r 90 ∧ j = 5 * b + 3 then r (5 * b + 2) else if r (5 * b + 4) = r 90 ∧ j = 5 * b + 4 then -1 else r j) T0 T1 ∧
    ∀ (K : St → Prop) (C : Int → St → Prop), C (b + 1) T1 → j_M_passOne_103 kw b (30 + 6 * b) T' K C := by
  obtain ⟨i1, i2, i3, i4, i5⟩ := h
  have z4 := i3.bone (e := 4) hb.1 hb.2 (by omega) (by omega)
  have z2 := i3.bone (e := 2) hb.1 hb.2 (by omega) (by omega)
  have g2 := (i3.2.2.2.1 b hb.1 hb.2).2.2.1
  by_cases e : r (5 * b + 4) = r 90
  · refine ⟨aset (aset T' 0 (30 + 6 * b + 3) (r (5 * b + 2))) 0 (30 + 6 * b + 4) (-1), ⟨fun j j2 j3 => ?_, ?_, ?_, fun k k0 k1 => ?_, i5⟩, fun K C hC => ?_⟩
    · rw [aI_aset_i (by omega), aI_aset_i (by omega)]
      exact i1 j j2 j3
    · dsimp only
      rw [aI_aset_i (by omega), aI_aset_i (by omega), if_neg (by omega), if_neg (by omega)]
      exact i2
    · have p1 := RB.put (b := b) (e := 2) (v := r (5 * b + 2)) i3 h1 hb (by omega) (by omega) h0.2 (fun _ => rfl) (fun _ => rfl)
      refine RB.put (b := b) (e := 3) (v := -1) p1 h1 hb (by omega) (by omega) h0.2 (fun j => ?_) (fun j => ?_)
      · simp only [aI_aset, true_and]
        grind
      · grind
    · rw [← i4 k k0 k1]
      funext y
      rw [aI_aset_j (by omega), aI_aset_j (by omega)]
    · unfold j_M_passOne_103
      refine ⟨by omega, by omega, fun _ => fun _ => ⟨fun _ => ⟨by omega, by omega, by omega, fun _ => ⟨by omega, ?_⟩⟩, fun c => absurd (by rw [z4, i2, e]) c⟩⟩
      rintro _ rfl
      refine ⟨by omega, ?_⟩
      rintro _ rfl
      rw [z2]
      exact ⟨by omega, hC⟩
  · refine ⟨T', ⟨i1, ?_, ?_, i4, i5⟩, fun K C hC => ?_⟩
    · dsimp only
      rw [if_neg (fun q => e q.1), if_neg (fun q => e q.1)]
      exact i2
    · have er : (fun j => if r (5 * b + 4) = r 90 ∧ j = 5 * b + 3 then r (5 * b + 2) else if r (5 * b + 4) = r 90 ∧ j = 5 * b + 4 then -1 else r j) = r := by
        funext j
        rw [if_neg (fun q => e q.1), if_neg (fun q => e q.1)]
      rw [er]
      exact i3
    · unfold j_M_passOne_103
      refine ⟨by omega, by omega, fun _ => fun _ => ⟨fun c => absurd (by rw [z4, i2] at c; exact c) e, fun _ => ⟨by omega, hC⟩⟩⟩
theorem pM_passOne_18 {f0 n : Int → Int} {T0 : St} {W : (Int → Int) → Int} {kw : Int} (hW : okW W) (hkw : kw = -1 ∨ 0 ≤ kw ∧ kw < 24) (hz : kw = -1 → ∀ v, W v = 0)
    (hwork : 0 ≤ kw → ∀ (T' : St), aI T' 2 = aI T0 2 → aI T' 0 4 = f0 4 → NB 5 (aI T' 5) → ∃ V : Int → Int, max 0 (V 0) = W (aI T' 5) ∧ (-1000000 ≤ V 0 ∧ V 0 ≤ 1000000) ∧ ∀ K : St → Prop, K (aput T' 6 V) → w_M_work kw T' K)
    (h0 : 0 ≤ n 0 ∧ n 0 ≤ 10) (h1 : 0 ≤ n 1 ∧ n 1 ≤ 16) (hf1 : f0 1 = n 1) {r0 : Int → Int} (hg : ∀ k : Nat, (k : Int) ≤ n 1 → rGood (n 0) (n 1) (pBs (n 0) W k r0)) :
    ∀ (m : Nat) (k : Nat) (T' : St), (k : Int) ≤ n 1 → n 1 - k < m → MI f0 n (pBs (n 0) W k r0) T0 T' → ∃ T2, MI f0 n (pBs (n 0) W (n 1).toNat r0) T0 T2 ∧ ∀ K : St → Prop, K T2 → l_M_passOne_18 kw K m k T' := by
  intro m
  induction m with
  | zero => intro k T' k1 k2; omega
  | succ m ih =>
    intro k T' k1 k2 hI
    have hI0 := hI
    obtain ⟨i1, i2, i3, i4, i5⟩ := hI
    have c1 : aI T' 0 1 = n 1 := by rw [i1 1 (by omega) (by omega), hf1]
    by_cases ce : (k : Int) = n 1
    · refine ⟨T', ?_, fun K hK => ?_⟩
      · rw [show (n 1).toNat = k by omega]
        exact hI0
      · unfold l_M_passOne_18
        rw [c1]
        exact fun _ => ⟨fun _ => hK, fun c => absurd c (by omega)⟩
    · have gk := hg k k1
      obtain ⟨nb, gk1⟩ := pB_good hW h0 (b := (k : Int)) (by omega) h1.2 gk
      have wb := hW.2 _ nb
      have gb := gk.2.1 (k : Int) (by omega) (by omega)
      have z1 := i3.bone (b := (k : Int)) (e := 1) (by omega) (by omega) (by omega) (by omega)
      rcases hkw with hk | hk
      · have w0 := hz hk (nmR (n 0) (pBs (n 0) W k r0) k)
        obtain ⟨T1, hT1, hw1⟩ := pM_103 (kw := kw) (b := (k : Int)) hI0 h0 h1.2 (by omega)
        have er : (fun j => if pBs (n 0) W k r0 (5 * (k : Int) + 4) = pBs (n 0) W k r0 90 ∧ j = 5 * (k : Int) + 3 then pBs (n 0) W k r0 (5 * (k : Int) + 2) else if pBs (n 0) W k r0 (5 * (k : Int) + 4) = pBs (n 0) W k r0 90 ∧ j = 5 * (k : Int) + 4 then -1 else pBs (n 0) W k r0 j) = pBs (n 0) W (k + 1) r0 := by
          funext j
          show _ = pB (n 0) W k (pBs (n 0) W k r0) j
          unfold pB
          by_cases z : j = 5 * (k : Int) + 1
          · rw [if_pos z, if_neg (by omega), if_neg (by omega), w0, z]
            omega
          · rw [if_neg z]
        rw [er] at hT1
        obtain ⟨T2, hT2, hw2⟩ := ih (k + 1) T1 (by omega) (by omega) hT1
        refine ⟨T2, hT2, fun K hK => ?_⟩
        unfold l_M_passOne_18
        rw [c1]
        exact fun _ => ⟨fun c => absurd c (by omega), fun _ => p_boneAt (by omega) (fun _ => ⟨fun _ => hw1 _ _ (hw2 K hK), fun c => absurd (by omega) c⟩)⟩
      · have hv := nmV_is T' (k : Int) 0
        have ev := i3.names h0 i2 (by omega) (by omega) hv
        have e5 : aI (aput T' 5 (nmV T' k 0)) 5 = nmV T' k 0 := by funext y; exact aI_aput_s _ _ _ _
        have e0 : ∀ y, aI (aput T' 5 (nmV T' k 0)) 0 y = aI T' 0 y := fun y => aI_aput_n (by omega)
        have e2 : aI (aput T' 5 (nmV T' k 0)) 2 = aI T' 2 := by funext y; exact aI_aput_n (by omega)
        obtain ⟨V, hV, hVb, hw⟩ := hwork hk.1 (aput T' 5 (nmV T' k 0)) (by rw [e2]; exact i4 2 (by omega) (by omega)) (by rw [e0]; exact i1 4 (by omega) (by omega)) (by
          rw [e5]
          intro i i0 i1
          rw [← ev i i0 i1]
          exact nb i i0 i1)
        rw [e5, ← hW.1 _ _ ev] at hV
        have eA : ∀ y, aI (aput (aput T' 5 (nmV T' k 0)) 6 V) 0 y = aI T' 0 y := fun y => by rw [aI_aput_n (by omega), e0]
        have e6 : aI (aput (aput T' 5 (nmV T' k 0)) 6 V) 6 0 = V 0 := aI_aput_s _ _ _ _
        have hTw : MI f0 n (fun j => if j = 5 * (k : Int) + 1 then max 1 (pBs (n 0) W k r0 (5 * (k : Int) + 1) - W (nmR (n 0) (pBs (n 0) W k r0) k)) else pBs (n 0) W k r0 j) T0 (aset (aput (aput T' 5 (nmV T' k 0)) 6 V) 0 (30 + 6 * (k : Int) + 1) (max 1 (pBs (n 0) W k r0 (5 * (k : Int) + 1) - W (nmR (n 0) (pBs (n 0) W k r0) k)))) := by
          refine ⟨fun j j2 j3 => ?_, ?_, ?_, fun j j0 j1 => ?_, i5⟩
          · rw [aI_aset_i (by omega), eA]
            exact i1 j j2 j3
          · dsimp only
            rw [aI_aset_i (by omega), eA, if_neg (by omega)]
            exact i2
          · refine RB.put (b := (k : Int)) (e := 0) (v := max 1 (pBs (n 0) W k r0 (5 * (k : Int) + 1) - W (nmR (n 0) (pBs (n 0) W k r0) k))) i3 h1.2 (by omega) (by omega) (by omega) h0.2 (fun j => ?_) (fun j => ?_)
            · rw [aI_aset, eA]
              by_cases z : j = 30 + 6 * (k : Int) + 1
              · rw [if_pos ⟨rfl, z⟩, if_pos (by omega)]
              · rw [if_neg (fun q => z q.2), if_neg (by omega)]
            · by_cases z : j = 5 * (k : Int) + 1
              · rw [if_pos z, if_pos (by omega)]
              · rw [if_neg z, if_neg (by omega)]
          · rw [← i4 j j0 j1]
            funext y
            rw [aI_aset_j (by omega), aI_aput_n (by omega), aI_aput_n (by omega)]
        obtain ⟨T1, hT1, hw1⟩ := pM_103 (kw := kw) (b := (k : Int)) hTw h0 h1.2 (by omega)
        rw [if_neg (by omega), if_neg (by omega), if_neg (by omega)] at hT1
        have er : (fun j => if pBs (n 0) W k r0 (5 * (k : Int) + 4) = pBs (n 0) W k r0 90 ∧ j = 5 * (k : Int) + 3 then pBs (n 0) W k r0 (5 * (k : Int) + 2) else if pBs (n 0) W k r0 (5 * (k : Int) + 4) = pBs (n 0) W k r0 90 ∧ j = 5 * (k : Int) + 4 then -1 else if j = 5 * (k : Int) + 1 then max 1 (pBs (n 0) W k r0 (5 * (k : Int) + 1) - W (nmR (n 0) (pBs (n 0) W k r0) k)) else pBs (n 0) W k r0 j) = pBs (n 0) W (k + 1) r0 := by
          funext j
          show _ = pB (n 0) W k (pBs (n 0) W k r0) j
          unfold pB
          by_cases z : j = 5 * (k : Int) + 1
          · rw [if_pos z, if_neg (by omega), if_neg (by omega), if_pos z]
          · rw [if_neg z, if_neg z]
        rw [er] at hT1
        obtain ⟨T2, hT2, hw2⟩ := ih (k + 1) T1 (by omega) (by omega) hT1
        refine ⟨T2, hT2, fun K hK => ?_⟩
        unfold l_M_passOne_18
        rw [c1]
        refine fun _ => ⟨fun c => absurd c (by omega), fun _ => p_boneAt (by omega) (fun _ => ⟨fun c => absurd c (by omega), fun _ => p_name (by omega) (by omega) (hw _ ⟨by omega, by omega, ?_⟩)⟩)⟩
        rw [eA, z1, e6]
        have fin : ∀ y1 : Int, y1 = W (nmR (n 0) (pBs (n 0) W k r0) k) → j_M_passOne_78 kw k (30 + 6 * (k : Int)) (pBs (n 0) W k r0 (5 * (k : Int) + 1)) y1 (aput (aput T' 5 (nmV T' k 0)) 6 V) K (l_M_passOne_18 kw K m) := by
          intro y1 hy1
          unfold j_M_passOne_78
          refine ⟨by omega, ?_⟩
          rintro v hv
          refine fun _ => ⟨by omega, fun c => ⟨by omega, ?_⟩, fun c => ?_⟩
          · unfold j_M_passOne_102
            refine ⟨by omega, ?_⟩
            rintro _ rfl
            have ev2 : v = max 1 (pBs (n 0) W k r0 (5 * (k : Int) + 1) - W (nmR (n 0) (pBs (n 0) W k r0) k)) := by omega
            rw [ev2]
            exact hw1 _ _ (hw2 K hK)
          · unfold j_M_passOne_102
            refine ⟨by omega, ?_⟩
            rintro _ rfl
            have ev2 : (1 : Int) = max 1 (pBs (n 0) W k r0 (5 * (k : Int) + 1) - W (nmR (n 0) (pBs (n 0) W k r0) k)) := by omega
            have z := hw1 K _ (hw2 K hK)
            rw [← ev2] at z
            exact z
        exact fun _ _ => ⟨fun c => fin _ (by omega), fun c => fin _ (by omega)⟩
theorem RB.year {f f' n r : Int → Int} (h : RB f n r) (h0 : n 0 ≤ 10) (h1 : n 1 ≤ 16) (hy : r 90 < 999) (hf : ∀ j, 30 ≤ j → f' j = f j) : RB f' n (fun j => if j = 90 then r 90 + 1 else r j) := by
  obtain ⟨c1, c2, c3⟩ := h
  refine ⟨fun b b0 b1 => ?_, fun b b0 b1 => ?_, c3.year h1 hy⟩
  · dsimp only
    rw [hf _ (by omega), if_neg (by omega)]
    exact c1 b b0 b1
  · obtain ⟨d1, d2, d3, d4⟩ := c2 b b0 b1
    refine ⟨fun e e0 e1 => ?_, ?_, ?_, fun t t0 t1 => ?_⟩
    · show f' (31 + 6 * b + e) = if 5 * b + 1 + e = 90 then r 90 + 1 else r (5 * b + 1 + e)
      rw [hf _ (by omega), if_neg (by omega)]
      exact d1 e e0 e1
    · show 0 ≤ f' (31 + 6 * b + 4)
      rw [hf _ (by omega)]
      exact d2
    · show f' (31 + 6 * b + 4) < _
      rw [hf _ (by omega)]
      exact d3
    · show bt (f' (31 + 6 * b + 4)) t = bt (if 80 + t = 90 then r 90 + 1 else r (80 + t)) b
      have t2 : t < 10 ∨ 10 ≤ t := by omega
      rw [hf _ (by omega), if_neg (by omega)]
      exact d4 t t0 t1
theorem pM_pass_32 {f0 n : Int → Int} {T0 : St} {W : (Int → Int) → Int} {kw x1 : Int} (hW : okW W) (hkw : kw = -1 ∨ 0 ≤ kw ∧ kw < 24) (hz : kw = -1 → ∀ v, W v = 0)
    (hwork : 0 ≤ kw → ∀ (T' : St), aI T' 2 = aI T0 2 → aI T' 0 4 = f0 4 → NB 5 (aI T' 5) → ∃ V : Int → Int, max 0 (V 0) = W (aI T' 5) ∧ (-1000000 ≤ V 0 ∧ V 0 ≤ 1000000) ∧ ∀ K : St → Prop, K (aput T' 6 V) → w_M_work kw T' K)
    (hcl : ∀ (T' : St) (K : Int → Prop), aI T' 2 = aI T0 2 → aI T' 0 4 = f0 4 → K kw → w_M_clauseOf 0 T' K)
    (h0 : 0 ≤ n 0 ∧ n 0 ≤ 10) (h1 : 0 ≤ n 1 ∧ n 1 ≤ 16) (hf1 : f0 1 = n 1) {r0 : Int → Int} (hg : rGood (n 0) (n 1) r0) (hy : r0 90 + x1 ≤ 999) (hy0 : 0 ≤ r0 90) (hx : 0 ≤ x1 ∧ x1 ≤ 99) :
    ∀ (m : Nat) (k : Nat) (T' : St), (k : Int) ≤ x1 → x1 - k < m → MI f0 n (pYs (n 0) (n 1) W k r0) T0 T' → ∃ T2, MI f0 n (pYs (n 0) (n 1) W x1.toNat r0) T0 T2 ∧ ∀ K : Int → St → Prop, K (r0 90 + x1) T2 → l_M_pass_32 x1 K m k T' := by
  intro m
  induction m with
  | zero => intro k T' k1 k2; omega
  | succ m ih =>
    intro k T' k1 k2 hI
    have hI0 := hI
    obtain ⟨i1, i2, i3, i4, i5⟩ := hI
    have ey := pYs_90 (n0 := n 0) (W := W) (r := r0) h1 k
    by_cases ce : (k : Int) = x1
    · refine ⟨T', ?_, fun K hK => ?_⟩
      · rw [show x1.toNat = k by omega]
        exact hI0
      · unfold l_M_pass_32
        refine ⟨fun _ _ => ?_, fun c => absurd c (by omega)⟩
        rw [i2, ey, ce]
        exact hK
    · have gk := pYs_good hW h0 h1 hg k (by omega)
      have gy := gk.year h1.2 (by omega)
      have hT1 : MI f0 n (pBs (n 0) W 0 (fun j => if j = 90 then pYs (n 0) (n 1) W k r0 90 + 1 else pYs (n 0) (n 1) W k r0 j)) T0 (aset T' 0 2 (aI T' 0 2 + 1)) := by
        refine ⟨fun j j2 j3 => ?_, ?_, ?_, fun j j0 j1 => ?_, i5⟩
        · rw [aI_aset_i j2]
          exact i1 j j2 j3
        · rw [aI_aset_s, i2]
          rfl
        · have p1 := i3.year h0.2 h1.2 (by omega) (f' := aI (aset T' 0 2 (aI T' 0 2 + 1)) 0) (fun j hj => aI_aset_i (by omega))
          exact p1
        · rw [← i4 j j0 j1]
          funext y
          rw [aI_aset_j (by omega)]
      obtain ⟨T2, hT2, hw2⟩ := pM_passOne_18 hW hkw hz hwork h0 h1 hf1 (r0 := fun j => if j = 90 then pYs (n 0) (n 1) W k r0 90 + 1 else pYs (n 0) (n 1) W k r0 j) (fun j hj => pBs_good hW h0 h1.2 gy j hj) 18 0 _ (by omega) (by omega) hT1
      obtain ⟨T3, hT3, hw3⟩ := ih (k + 1) T2 (by omega) (by omega) hT2
      refine ⟨T3, hT3, fun K hK => ?_⟩
      unfold l_M_pass_32 w_M_passOne
      refine ⟨fun c => absurd c (by omega), fun _ => fun _ => ⟨by omega, ?_⟩⟩
      rintro _ rfl
      refine hcl _ _ ?_ ?_ (fun _ => ⟨18, hw2 _ ⟨by omega, hw3 K hK⟩⟩)
      · rw [← i4 2 (by omega) (by omega)]
        funext y
        rw [aI_aset_j (by omega)]
      · rw [aI_aset_i (by omega)]
        exact i1 4 (by omega) (by omega)
/-- the twin's like outcome, as it is -/
def EX (tB : Int) (S T : St) (w : (Int → St → Prop) → Prop) (r' : Int) (S' : St) : Prop := ∃ T', REL tB S' T' ∧ extP (gI S) (gI S') ∧ aI T' 2 = aI T 2 ∧ aI T' 0 3 = aI T 0 3 ∧ ∀ K' : Int → St → Prop, K' r' T' → w K'
theorem EX.stay {S T : St} {w : (Int → St → Prop) → Prop} {r' : Int} (h : REL tB S T) (hw : ∀ K' : Int → St → Prop, K' r' T → w K') : EX tB S T w r' S := ⟨T, h, extP.refl _, rfl, rfl, hw⟩
theorem EX.full {S T S' : St} {w : (Int → St → Prop) → Prop} {r : Int} (h : EX tB S T w r S') : PostF tB w r S' := by
  obtain ⟨T', h1, -, -, -, h2⟩ := h
  exact fun K' hk => h2 K' (hk T' h1)
theorem Post.ex {S T S' : St} {e : Int → Int → Prop} {w : (Int → St → Prop) → Prop} {r : Int} (h : REL tB S T) (hp : Post S T e w r S') : ∃ r', e r r' ∧ EX tB S T w r' S' := by
  obtain ⟨r', T', he, hn, hx, hm, hw⟩ := hp
  exact ⟨r', he, T', h.same hn hx hm, hx.2.2.1, hm.2.1 2 (by omega) (by omega), hm.2.2, hw⟩
theorem law_pass {S T : St} {y : Int} {K : Int → St → Prop} (h : REL tB S T) (hK : ∀ r S', (r = -1 ∨ 0 ≤ r) → EX tB S T (w_M_pass y T) r S' → K r S') : w_X_pass y S K := by
  have hN := h.1
  obtain ⟨⟨a0, a1, a2⟩, ⟨b0, b1, b2⟩, cy, ⟨d0, d1, d2⟩, ⟨e0, e1, e2⟩, ⟨g0, g1, g2⟩, ⟨i0, i1, i2⟩, -⟩ := h.1.nums
  have gr : rGood (aI S 0 0) (aI S 0 1) (aI S 3) := h.1.2.2.1.2.2
  have ry := gr.1
  obtain ⟨W, kw, hW, hkw, hwX, hcl, hz, hwork⟩ := worn_fn h.1 h.2.2.2
  unfold w_X_pass
  refine p_in (fun y0 y1 => br1 ?_) (fun c => br0 (hK _ _ (Or.inl rfl) (EX.stay h fun K' hk => ?_)))
  · refine pX_year (fun _ => ⟨by omega, fun c => ?_, fun c => hK _ _ (Or.inl rfl) (EX.stay h fun K' hk => ?_)⟩)
    · refine p_keeps (by omega) ?_
      have k0 : ∀ j, j ≠ 4 → aI (aall S (xK (aI S))) 0 j = aI S 0 j := fun j hj => by rw [aI_aall, xK_0 _ hj]
      have k3 : aI (aall S (xK (aI S))) 3 = aI S 3 := by funext j; rw [aI_aall, xK_3]
      refine ⟨y.toNat + 1, pX_pass_33 (S0 := aall S (xK (aI S))) (W := W) hW ?_ (by rw [k0 1 (by omega)]; omega) (by rw [k0 1 (by omega), k0 0 (by omega), k3]; exact gr) (by rw [k0 0 (by omega)]; omega) ⟨y0, y1⟩ (by rw [k3]; omega) ?_ (y.toNat + 1) 0 _ (by omega) (by omega) (fun _ _ _ => rfl) rfl rfl rfl rfl⟩
      · intro S' b K cr cg c0 hb nb hK
        refine hwX S' b K cr cg ?_ hb ?_ nb hK
        · rw [c0, k0 3 (by omega)]
        · rw [c0, k0 0 (by omega)]
          omega
      · intro S' s1 s2 s3 s4 s5
        rw [k0 1 (by omega), k0 0 (by omega), k3] at s5
        rw [k3]
        have kA4 : kA (aI T 0) 4 = aI T 0 4 := kA_lo _ (by omega) (by omega) (by omega)
        have kA1 : kA (aI T 0) 1 = aI S 0 1 := by rw [kA_lo _ (by omega) (by omega) (by omega)]; exact b0
        have hT1 : MI (kA (aI T 0)) (aI S 0) (aI S 3) T (aput T 0 (kA (aI T 0))) := by
          refine ⟨fun j _ _ => aI_aput_s _ _ _ _, ?_, ?_, fun k k1 k2 => ?_, rfl⟩
          · rw [aI_aput_s, kA_lo _ (by omega) (by omega) (by omega)]
            exact cy
          · have e : aI (aput T 0 (kA (aI T 0))) 0 = kA (aI T 0) := by funext j; exact aI_aput_s _ _ _ _
            rw [e]
            exact RB.kA h.1
          · funext j
            exact aI_aput_n (by omega)
        obtain ⟨T2, ⟨j1, j2, j3, j4, j5⟩, hw⟩ := pM_pass_32 (x1 := y) hW hkw hz (fun hk T' c2 c4 nb => hwork hk T' c2 (by rw [c4, kA4]) nb) (fun T' K c2 c4 hK => hcl T' K c2 (by rw [c4, kA4]) hK) ⟨a1, a2⟩ ⟨b1, b2⟩ kA1 gr (by omega) ry.1 ⟨y0, y1⟩ (y.toNat + 1) 0 _ (by omega) (by omega) hT1
        refine hK _ _ (Or.inr (by omega)) ⟨T2, ?_, by rw [s4]; exact extP.refl _, j4 2 (by omega) (by omega), by rw [j1 3 (by omega) (by omega), kA_lo _ (by omega) (by omega) (by omega)], fun K' hk => ?_⟩
        · have hS9 : nowA (aput S' 9 (aI S 9)) T2 := by
            have e9 : ∀ k j, k ≠ 3 → aI (aput S' 9 (aI S 9)) k j = xK (aI S) k j := by
              intro k j hk
              rw [aI_aput]
              by_cases c9 : k = 9
              · rw [if_pos c9, c9, xK_o _ (by omega) (by omega) ⟨g1, g2⟩]
              · rw [if_neg c9, s1 k hk c9, aI_aall]
            have e3 : aI (aput S' 9 (aI S 9)) 3 = aI S' 3 := by funext j; exact aI_aput_n (by omega)
            refine h.1.step e9 (fun j q1 q2 => j1 j q1 q2) ?_ ?_ ?_
            · rw [e3, j2, s5]
            · intro b q0 q1
              rw [e3, s5, pYs_kd _ (by omega)]
            · rw [e3, s5]
              exact j3
          have hS : nowA S' T2 := by
            unfold nowA at hS9 ⊢
            have ek : ∀ k : Nat, k ≠ 9 → aI (aput S' 9 (aI S 9)) k = aI S' k := fun k hk => by funext j; exact aI_aput_n hk
            rw [ek 0 (by omega), ek 1 (by omega), ek 2 (by omega), ek 3 (by omega)] at hS9
            have f1 : (fun k : Int => aI (aput S' 9 (aI S 9)) (15 + k.toNat)) = fun k : Int => aI S' (15 + k.toNat) := by funext k; exact ek _ (by omega)
            have f2 : (fun k : Int => aI (aput S' 9 (aI S 9)) (55 + k.toNat)) = fun k : Int => aI S' (55 + k.toNat) := by funext k; exact ek _ (by omega)
            rw [f1, f2] at hS9
            exact hS9
          refine h.same hS ⟨fun k q1 q2 => by rw [s2]; rfl, s3, fun a e q => by rw [s4]; exact q, fun k hk => ?_, ?_⟩ ⟨fun k q1 q2 => by rw [j5], fun k q1 q2 => j4 k q1 q2, ?_⟩
          · rw [s1 k (by omega) (by omega), aI_aall, xK_o _ (by omega) (by omega) ⟨g1, g2⟩]
          · rw [s1 0 (by omega) (by omega), k0 2 (by omega)]
          · rw [j1 3 (by omega) (by omega), kA_lo _ (by omega) (by omega) (by omega)]
        · unfold w_M_pass
          refine p_isIn (fun _ _ => br1 ?_) (fun c2 => absurd (by omega) c2)
          refine fun _ => ⟨by omega, fun _ => p_keep (by omega) ⟨_, hw K' hk⟩, fun c2 => absurd (by omega) c2⟩
    · unfold w_M_pass
      refine p_isIn (fun _ _ => br1 ?_) (fun _ => br0 hk)
      exact fun _ => ⟨by omega, fun c2 => absurd (by omega) c, fun _ => hk⟩
  · unfold w_M_pass
    exact p_isIn (fun _ _ => absurd (by omega) c) (fun _ => br0 hk)
