/-! PURE: pass -/
/-- names of a bone of a row -/
def nmR (n0 : Int) (r : Int → Int) (b : Int) : Int → Int := fun i => if i = 0 then r (5 * b) else if i = 1 then r (5 * b + 1) else if i = 2 then r (5 * b + 3) else if i = 3 then ssum (fun t => bt (r (80 + t)) b) n0.toNat else r 90
/-- a bone's year -/
def pB (n0 : Int) (W : (Int → Int) → Int) (b : Int) (r : Int → Int) : Int → Int := fun j => if j = 5 * b + 1 then max 1 (r (5 * b + 1) - W (nmR n0 r b)) else if r (5 * b + 4) = r 90 ∧ j = 5 * b + 3 then r (5 * b + 2) else if r (5 * b + 4) = r 90 ∧ j = 5 * b + 4 then -1 else r j
def pBs (n0 : Int) (W : (Int → Int) → Int) : Nat → (Int → Int) → (Int → Int)
  | 0, r => r
  | k + 1, r => pB n0 W k (pBs n0 W k r)
def pY (n0 n1 : Int) (W : (Int → Int) → Int) (r : Int → Int) : Int → Int := pBs n0 W n1.toNat (fun j => if j = 90 then r 90 + 1 else r j)
def pYs (n0 n1 : Int) (W : (Int → Int) → Int) : Nat → (Int → Int) → (Int → Int)
  | 0, r => r
  | k + 1, r => pY n0 n1 W (pYs n0 n1 W k r)
theorem pB_hi {n0 b : Int} {W : (Int → Int) → Int} {r : Int → Int} (hb : 0 ≤ b ∧ b < 16) {j : Int} (hj : 80 ≤ j) : pB n0 W b r j = r j := by
  unfold pB
  rw [if_neg (by omega), if_neg (by omega), if_neg (by omega)]
theorem pBs_hi {n0 : Int} {W : (Int → Int) → Int} {r : Int → Int} : ∀ (k : Nat), k ≤ 16 → ∀ {j : Int}, 80 ≤ j → pBs n0 W k r j = r j := by
  intro k
  induction k with
  | zero => intro _ j _; rfl
  | succ k ih =>
    intro hk j hj
    show pB n0 W k (pBs n0 W k r) j = _
    rw [pB_hi (by omega) hj, ih (by omega) hj]
theorem pB_kd {n0 b : Int} {W : (Int → Int) → Int} {r : Int → Int} {i : Int} : pB n0 W b r (5 * i) = r (5 * i) := by
  unfold pB
  rw [if_neg (by omega), if_neg (by omega), if_neg (by omega)]
theorem pBs_kd {n0 : Int} {W : (Int → Int) → Int} {r : Int → Int} : ∀ (k : Nat) {i : Int}, pBs n0 W k r (5 * i) = r (5 * i) := by
  intro k
  induction k with
  | zero => intro i; rfl
  | succ k ih =>
    intro i
    show pB n0 W k (pBs n0 W k r) (5 * i) = _
    rw [pB_kd, ih]
theorem pY_kd {n0 n1 : Int} {W : (Int → Int) → Int} {r : Int → Int} {i : Int} (hi : 5 * i < 80) : pY n0 n1 W r (5 * i) = r (5 * i) := by
  unfold pY
  rw [pBs_kd, if_neg (by omega)]
theorem pY_90 {n0 n1 : Int} {W : (Int → Int) → Int} {r : Int → Int} (h1 : 0 ≤ n1 ∧ n1 ≤ 16) : pY n0 n1 W r 90 = r 90 + 1 := by
  unfold pY
  rw [pBs_hi _ (by omega) (by omega), if_pos rfl]
theorem pYs_kd {n0 n1 : Int} {W : (Int → Int) → Int} {r : Int → Int} : ∀ (k : Nat) {i : Int}, 5 * i < 80 → pYs n0 n1 W k r (5 * i) = r (5 * i) := by
  intro k
  induction k with
  | zero => intro i _; rfl
  | succ k ih =>
    intro i hi
    show pY n0 n1 W (pYs n0 n1 W k r) (5 * i) = _
    rw [pY_kd hi, ih hi]
theorem pYs_90 {n0 n1 : Int} {W : (Int → Int) → Int} {r : Int → Int} (h1 : 0 ≤ n1 ∧ n1 ≤ 16) : ∀ (k : Nat), pYs n0 n1 W k r 90 = r 90 + k := by
  intro k
  induction k with
  | zero => show r 90 = r 90 + 0; omega
  | succ k ih =>
    show pY n0 n1 W (pYs n0 n1 W k r) 90 = _
    rw [pY_90 h1, ih]
    omega
/-- worn: by the names -/
def okW (W : (Int → Int) → Int) : Prop := (∀ v v' : Int → Int, (∀ i, 0 ≤ i → i < 5 → v i = v' i) → W v = W v') ∧ ∀ v, NB 5 v → 0 ≤ W v ∧ W v ≤ 1000000
theorem worn_fn {S T : St} (h : nowA S T) (hx : TX S T) : ∃ (W : (Int → Int) → Int) (kw : Int), okW W ∧ (kw = -1 ∨ 0 ≤ kw ∧ kw < 24) ∧
    (∀ (S' : St) (b : Int) (K : Int → St → Prop), rI S' = rI S → gI S' = gI S → aI S' 0 3 = aI S 0 3 → (0 ≤ b ∧ b < 16) → (0 ≤ aI S' 0 0 ∧ aI S' 0 0 ≤ 10) → NB 5 (nmR (aI S' 0 0) (aI S' 3) b) → (∀ u, K (W (nmR (aI S' 0 0) (aI S' 3) b)) (aput S' 9 u)) → w_X_worn b S' K) ∧
    (∀ (T' : St) (K : Int → Prop), aI T' 2 = aI T 2 → aI T' 0 4 = aI T 0 4 → K kw → w_M_clauseOf 0 T' K) ∧
    (kw = -1 → ∀ v, W v = 0) ∧
    (0 ≤ kw → ∀ (T' : St), aI T' 2 = aI T 2 → aI T' 0 4 = aI T 0 4 → NB 5 (aI T' 5) → ∃ V : Int → Int, max 0 (V 0) = W (aI T' 5) ∧ (-1000000 ≤ V 0 ∧ V 0 ≤ 1000000) ∧ ∀ K : St → Prop, K (aput T' 6 V) → w_M_work kw T' K) := by
  obtain ⟨⟨a0, a1, a2⟩, ⟨b0, b1, b2⟩, cy, ⟨d0, d1, d2⟩, ⟨e0, e1, e2⟩, -⟩ := h.nums
  have okz : okW (fun _ => 0) := ⟨fun _ _ _ => rfl, fun _ _ => ⟨Int.le_refl 0, (by decide : (0 : Int) ≤ 1000000)⟩⟩
  by_cases c : aI S 0 3 = -1
  · refine ⟨fun _ => 0, -1, okz, Or.inl rfl, fun S' b K cr cg c3 hb ht nb hK => ?_, fun T' K c2 c4 hK => p_clauseOf0 (by omega) hK, fun _ _ => rfl, fun z => absurd z (by decide)⟩
    unfold w_X_worn
    refine pX_rules (by omega) (fun _ => ⟨fun _ => ?_, fun q hq => absurd hq (by simp)⟩) (fun c2 => absurd c2 (by omega))
    have := hK (aI S' 9)
    rw [aput_self] at this
    exact this
  · obtain ⟨q, hr, hq, w, ho, u, m, l, cc, pm, t1, t2, t3, t4, t5, t6, t7, t8, t9⟩ := hx.now h c
    rcases t4 with ⟨rfl, no⟩ | ⟨qh, d, k, φ, rfl, hd, hk, hs, hlt, okf, xa, ca⟩
    · refine ⟨fun _ => 0, -1, okz, Or.inl rfl, fun S' b K cr cg c3 hb ht nb hK => ?_, fun T' K c2 c4 hK => ?_, fun _ _ => rfl, fun z => absurd z (by decide)⟩
      · have cr : rI S' 140 (aI S' 0 3) = some q := by rw [c3, cr]; exact hq
        unfold w_X_worn
        refine pX_rules (by omega) (fun z => absurd z (by omega)) (fun _ => ?_)
        rw [cr]
        refine ⟨fun z => absurd z (by simp), ?_⟩
        rintro q4 z
        cases z
        refine ⟨_, _, by rw [cg]; exact t1, rfl, fun _ => ?_, fun q hq => absurd hq (by simp)⟩
        have := hK (aI S' 9)
        rw [aput_self] at this
        exact this
      · have c4' : aI T' 0 4 = aI S 0 3 := by rw [c4]; exact e0
        refine p_clauseOf (by omega) (by rw [c4', c2]; exact t2) (fun k k0 k1 k2 _ => ?_) (fun _ => hK)
        rw [c4', c2] at k1 k2
        exact absurd k2 (no k k0 k1)
    · refine ⟨fun v => max 0 (φ v), k, ⟨fun v v' z => by show max 0 (φ v) = max 0 (φ v'); rw [okf.1 v v' z], fun v nb => ?_⟩, Or.inr ⟨hk.1, by omega⟩, fun S' b K cr cg c3 hb ht nb hK => ?_, fun T' K c2 c4 hK => ?_, fun z => absurd z (by omega), fun _ T' c2 c4 nb => ?_⟩
      · have := okf.2 v nb
        show 0 ≤ max 0 (φ v) ∧ max 0 (φ v) ≤ 1000000
        omega
      · have cr : rI S' 140 (aI S' 0 3) = some q := by rw [c3, cr]; exact hq
        unfold w_X_worn
        refine pX_rules (by omega) (fun z => absurd z (by omega)) (fun _ => ?_)
        rw [cr]
        refine ⟨fun z => absurd z (by simp), ?_⟩
        rintro q4 z
        cases z
        refine ⟨_, _, by rw [cg]; exact t1, rfl, fun z => absurd z (by simp), ?_⟩
        rintro q10 z
        cases z
        refine pX_names (by omega) ht (fun v hv => ?_)
        have ag : ∀ i, 0 ≤ i → i < 5 → v i = nmR (aI S' 0 0) (aI S' 3) b i := by
          obtain ⟨x0, x1, x2, x3, x4⟩ := hv
          intro i i0 i1
          have : i = 0 ∨ i = 1 ∨ i = 2 ∨ i = 3 ∨ i = 4 := by omega
          unfold nmR
          rcases this with rfl | rfl | rfl | rfl | rfl
          · simp [x0]
          · simp [x1]
          · simp [x2]
          · simp [x3]
          · simp [x4]
        have e : aI (aput S' 9 v) 9 = v := by funext y; exact aI_aput_s _ _ _ _
        have nbv : NB 5 v := by
          intro i i0 i1
          rw [ag i i0 i1]
          exact nb i i0 i1
        have bd := okf.2 v nbv
        refine ⟨_, _, by rw [gI_aput, cg]; exact t1, rfl, qh, rfl, d, hd, ?_⟩
        refine xa _ _ (by rw [gI_aput, cg]; exact extP.refl _) (by rw [e]; exact nbv) (fun _ => ?_)
        rw [e]
        refine ⟨by omega, ?_⟩
        have z := hK v
        dsimp only at z
        rw [← okf.1 _ _ ag] at z
        exact z
      · have c4' : aI T' 0 4 = aI S 0 3 := by rw [c4]; exact e0
        refine p_clauseOf (by omega) (by rw [c4', c2]; exact t2) (fun j j0 j1 j2 j3 => ?_) (fun z => ?_)
        · rw [c4', c2] at j1 j2
          have ej : j = k := by
            by_cases g1 : j < k
            · exact absurd j2 (hlt j j0 g1)
            · by_cases g2 : k < j
              · have := j3 k hk.1 g2
                rw [c4', c2] at this
                exact absurd hs this
              · omega
          rw [ej]
          exact hK
        · exfalso
          rw [c4', c2] at z
          exact z k hk.1 hk.2 hs
      · have c4' : aI T' 0 4 = aI S 0 3 := by rw [c4]; exact e0
        obtain ⟨V, hV, hw⟩ := p_work_sum (T := T') (k := k) (lim := 5) (φ := φ) (by omega) (by omega) (by rw [c4', c2]; exact ca) nb
        have bd := okf.2 _ nb
        exact ⟨V, by rw [hV], by omega, hw⟩
/-- the component's year, by its row -/
theorem pX_pass_54 {S0 : St} {W : (Int → Int) → Int} {x1 x2 : Int} {K : Int → St → Prop} {X : St → Prop} {r0 : Int → Int} (hW : okW W)
    (hworn : ∀ (S' : St) (b : Int) (K : Int → St → Prop), rI S' = rI S0 → gI S' = gI S0 → aI S' 0 = aI S0 0 → (0 ≤ b ∧ b < 16) → NB 5 (nmR (aI S' 0 0) (aI S' 3) b) → (∀ u, K (W (nmR (aI S' 0 0) (aI S' 3) b)) (aput S' 9 u)) → w_X_worn b S' K)
    (hn : 0 ≤ aI S0 0 1 ∧ aI S0 0 1 ≤ 16) (hg : ∀ k : Nat, (k : Int) ≤ aI S0 0 1 → rGood (aI S0 0 0) (aI S0 0 1) (pBs (aI S0 0 0) W k r0)) (h0 : 0 ≤ aI S0 0 0 ∧ aI S0 0 0 ≤ 10)
    (hX : ∀ S', (∀ k, k ≠ 3 → k ≠ 9 → aI S' k = aI S0 k) → fI S' = fI S0 → rI S' = rI S0 → gI S' = gI S0 → aI S' 3 = pBs (aI S0 0 0) W (aI S0 0 1).toNat r0 → X S') :
    ∀ (n : Nat) (k : Nat) (S' : St), (k : Int) ≤ aI S0 0 1 → aI S0 0 1 - k < n → (∀ k, k ≠ 3 → k ≠ 9 → aI S' k = aI S0 k) → fI S' = fI S0 → rI S' = rI S0 → gI S' = gI S0 → aI S' 3 = pBs (aI S0 0 0) W k r0 → l_X_pass_54 x1 x2 K X n k S' := by
  intro n
  induction n with
  | zero => intro k S' h1 h2; omega
  | succ n ih =>
    intro k S' h1 h2 s1 s2 s3 s4 s5
    have c0 : aI S' 0 = aI S0 0 := s1 0 (by omega) (by omega)
    unfold l_X_pass_54
    rw [c0]
    refine fun _ => ⟨fun c => ?_, fun c => ?_⟩
    · refine hX S' s1 s2 s3 s4 ?_
      rw [s5, show k = (aI S0 0 1).toNat by omega]
    · have g := hg k h1
      have gb := g.2.1 k (by omega) (by omega)
      have nb : NB 5 (nmR (aI S0 0 0) (aI S' 3) k) := by
        rw [s5]
        have s := ssum_bd (g := fun t => bt (pBs (aI S0 0 0) W k r0 (80 + t)) k) (aI S0 0 0).toNat (fun i _ _ => bt_bd _ _)
        have gy := g.1
        intro i i0 i1
        have : i = 0 ∨ i = 1 ∨ i = 2 ∨ i = 3 ∨ i = 4 := by omega
        unfold nmR
        rcases this with rfl | rfl | rfl | rfl | rfl
        · simp only [if_true]
          omega
        · rw [if_neg (by omega), if_pos rfl]
          omega
        · rw [if_neg (by omega), if_neg (by omega), if_pos rfl]
          omega
        · rw [if_neg (by omega), if_neg (by omega), if_neg (by omega), if_pos rfl]
          omega
        · rw [if_neg (by omega), if_neg (by omega), if_neg (by omega), if_neg (by omega)]
          omega
      have wb := hW.2 _ nb
      refine pX_bone_2 (by omega) (by omega) (fun _ => ?_)
      refine hworn S' k _ s3 s4 c0 (by omega) (by rw [c0]; exact nb) (fun u => ?_)
      rw [c0]
      rw [s5] at wb ⊢
      refine fun _ => ⟨by omega, pX_puts (by omega) (by omega) ?_⟩
      have e3 : ∀ y, aI (aput S' 9 u) 3 y = pBs (aI S0 0 0) W k r0 y := fun y => by rw [aI_aput_n (by omega), s5]
      have pr : ∀ j, pBs (aI S0 0 0) W (k + 1) r0 j = pB (aI S0 0 0) W k (pBs (aI S0 0 0) W k r0) j := fun j => rfl
      have q4 : ∀ v, aI (aset (aput S' 9 u) 3 (5 * (k : Int) + 1) v) 3 (5 * (k : Int) + 4) = pBs (aI S0 0 0) W k r0 (5 * (k : Int) + 4) := fun v => by rw [aI_aset_i (by omega), e3]
      have q2 : ∀ v, aI (aset (aput S' 9 u) 3 (5 * (k : Int) + 1) v) 3 (5 * (k : Int) + 2) = pBs (aI S0 0 0) W k r0 (5 * (k : Int) + 2) := fun v => by rw [aI_aset_i (by omega), e3]
      have q90 : ∀ v, aI (aset (aput S' 9 u) 3 (5 * (k : Int) + 1) v) 3 90 = pBs (aI S0 0 0) W k r0 90 := fun v => by rw [aI_aset_i (by omega), e3]
      refine pX_bone_2 (by omega) (by omega) (fun _ => pX_year (fun _ => ?_))
      rw [q4, q90]
      unfold j_X_pass_124
      refine ⟨fun e => pX_bone_2 (by omega) (by omega) (fun _ => pX_puts (by omega) (by omega) (pX_puts (by omega) (by omega) ⟨by omega, ?_⟩)), fun e => ⟨by omega, ?_⟩⟩
      · rw [q2]
        refine ih (k + 1) _ (by omega) (by omega) (fun j hj hj2 => ?_) s2 s3 s4 ?_
        · rw [← s1 j hj hj2]
          funext y
          rw [aI_aset_j hj, aI_aset_j hj, aI_aset_j hj, aI_aput_n hj2]
        · funext j
          rw [pr]
          simp only [aI_aset, true_and, e3]
          unfold pB
          by_cases z1 : j = 5 * (k : Int) + 1
          · rw [if_neg (by omega), if_neg (by omega), if_pos z1, if_pos z1]
          · rw [if_neg z1, if_neg z1]
            by_cases z3 : j = 5 * (k : Int) + 3
            · rw [if_neg (by omega), if_pos z3, if_pos ⟨e, z3⟩]
            · by_cases z4 : j = 5 * (k : Int) + 4
              · rw [if_pos z4, if_neg (fun q => z3 q.2), if_pos ⟨e, z4⟩]
              · rw [if_neg z4, if_neg z3, if_neg (fun q => z3 q.2), if_neg (fun q => z4 q.2)]
      · refine ih (k + 1) _ (by omega) (by omega) (fun j hj hj2 => ?_) s2 s3 s4 ?_
        · rw [← s1 j hj hj2]
          funext y
          rw [aI_aset_j hj, aI_aput_n hj2]
        · funext j
          rw [pr]
          simp only [aI_aset, true_and, e3]
          unfold pB
          by_cases z1 : j = 5 * (k : Int) + 1
          · rw [if_pos z1, if_pos z1]
          · rw [if_neg z1, if_neg z1, if_neg (fun q => e q.1), if_neg (fun q => e q.1)]
/-- the good of a row is kept by a bone's year -/
theorem pB_good {n0 n1 b : Int} {W : (Int → Int) → Int} {r : Int → Int} (hW : okW W) (h0 : 0 ≤ n0 ∧ n0 ≤ 10) (hb : 0 ≤ b ∧ b < n1) (h1 : n1 ≤ 16) (g : rGood n0 n1 r) : NB 5 (nmR n0 r b) ∧ rGood n0 n1 (pB n0 W b r) := by
  have gb := g.2.1 b hb.1 hb.2
  have nb : NB 5 (nmR n0 r b) := by
    have s := ssum_bd (g := fun t => bt (r (80 + t)) b) n0.toNat (fun i _ _ => bt_bd _ _)
    have gy := g.1
    intro i i0 i1
    have : i = 0 ∨ i = 1 ∨ i = 2 ∨ i = 3 ∨ i = 4 := by omega
    unfold nmR
    rcases this with rfl | rfl | rfl | rfl | rfl
    · simp only [if_true]
      omega
    · rw [if_neg (by omega), if_pos rfl]
      omega
    · rw [if_neg (by omega), if_neg (by omega), if_pos rfl]
      omega
    · rw [if_neg (by omega), if_neg (by omega), if_neg (by omega), if_pos rfl]
      omega
    · rw [if_neg (by omega), if_neg (by omega), if_neg (by omega), if_neg (by omega)]
      omega
  have wb := hW.2 _ nb
  refine ⟨nb, ?_, fun i i0 i1 => ?_, fun t t0 t1 => ?_⟩
  · rw [pB_hi (by omega) (by omega)]
    exact g.1
  · have gi := g.2.1 i i0 i1
    rw [pB_kd]
    by_cases c : i = b
    · subst c
      have q1 : pB n0 W i r (5 * i + 1) = max 1 (r (5 * i + 1) - W (nmR n0 r i)) := by unfold pB; rw [if_pos rfl]
      have q2 : pB n0 W i r (5 * i + 2) = r (5 * i + 2) := by unfold pB; rw [if_neg (by omega), if_neg (by omega), if_neg (by omega)]
      by_cases e : r (5 * i + 4) = r 90
      · have q3 : pB n0 W i r (5 * i + 3) = r (5 * i + 2) := by unfold pB; rw [if_neg (by omega), if_pos ⟨e, rfl⟩]
        have q4 : pB n0 W i r (5 * i + 4) = -1 := by unfold pB; rw [if_neg (by omega), if_neg (by omega), if_pos ⟨e, rfl⟩]
        rw [q1, q2, q3, q4]
        omega
      · have q3 : pB n0 W i r (5 * i + 3) = r (5 * i + 3) := by unfold pB; rw [if_neg (by omega), if_neg (fun q => e q.1), if_neg (fun q => e q.1)]
        have q4 : pB n0 W i r (5 * i + 4) = r (5 * i + 4) := by unfold pB; rw [if_neg (by omega), if_neg (fun q => e q.1), if_neg (fun q => e q.1)]
        rw [q1, q2, q3, q4]
        omega
    · have q : ∀ e, 0 ≤ e → e < 5 → pB n0 W b r (5 * i + e) = r (5 * i + e) := fun e _ _ => by unfold pB; rw [if_neg (by omega), if_neg (by omega), if_neg (by omega)]
      rw [q 1 (by omega) (by omega), q 2 (by omega) (by omega), q 3 (by omega) (by omega), q 4 (by omega) (by omega)]
      exact gi
  · rw [pB_hi (by omega) (by omega)]
    exact g.2.2 t t0 t1
theorem pBs_good {n0 n1 : Int} {W : (Int → Int) → Int} {r : Int → Int} (hW : okW W) (h0 : 0 ≤ n0 ∧ n0 ≤ 10) (h1 : n1 ≤ 16) (g : rGood n0 n1 r) : ∀ (k : Nat), (k : Int) ≤ n1 → rGood n0 n1 (pBs n0 W k r) := by
  intro k
  induction k with
  | zero => intro _; exact g
  | succ k ih => intro hk; exact (pB_good hW h0 (by omega) h1 (ih (by omega))).2
theorem rGood.year {n0 n1 : Int} {r : Int → Int} (h1 : n1 ≤ 16) (g : rGood n0 n1 r) (hy : r 90 < 999) : rGood n0 n1 (fun j => if j = 90 then r 90 + 1 else r j) := by
  obtain ⟨g1, g2, g3⟩ := g
  refine ⟨?_, fun b b0 b1 => ?_, fun t t0 t1 => ?_⟩
  · dsimp only
    rw [if_pos rfl]
    omega
  · dsimp only
    rw [if_neg (by omega), if_neg (by omega), if_neg (by omega), if_neg (by omega), if_neg (by omega)]
    exact g2 b b0 b1
  · dsimp only
    rw [if_neg (by omega)]
    exact g3 t t0 t1
theorem pYs_good {n0 n1 : Int} {W : (Int → Int) → Int} {r : Int → Int} (hW : okW W) (h0 : 0 ≤ n0 ∧ n0 ≤ 10) (h1 : 0 ≤ n1 ∧ n1 ≤ 16) (g : rGood n0 n1 r) : ∀ (k : Nat), r 90 + k ≤ 999 → rGood n0 n1 (pYs n0 n1 W k r) := by
  intro k
  induction k with
  | zero => intro _; exact g
  | succ k ih =>
    intro hk
    have gi := ih (by omega)
    have ey := pYs_90 (n0 := n0) (W := W) (r := r) h1 k
    exact pBs_good hW h0 h1.2 (gi.year h1.2 (by omega)) n1.toNat (by omega)
theorem pX_pass_33 {S0 : St} {W : (Int → Int) → Int} {x1 : Int} {K : Int → St → Prop} (hW : okW W)
    (hworn : ∀ (S' : St) (b : Int) (K : Int → St → Prop), rI S' = rI S0 → gI S' = gI S0 → aI S' 0 = aI S0 0 → (0 ≤ b ∧ b < 16) → NB 5 (nmR (aI S' 0 0) (aI S' 3) b) → (∀ u, K (W (nmR (aI S' 0 0) (aI S' 3) b)) (aput S' 9 u)) → w_X_worn b S' K)
    (hn : 0 ≤ aI S0 0 1 ∧ aI S0 0 1 ≤ 16) (hg : rGood (aI S0 0 0) (aI S0 0 1) (aI S0 3)) (h0 : 0 ≤ aI S0 0 0 ∧ aI S0 0 0 ≤ 10) (hx : 0 ≤ x1 ∧ x1 ≤ 99) (hy : aI S0 3 90 + x1 ≤ 999)
    (hX : ∀ S', (∀ k, k ≠ 3 → k ≠ 9 → aI S' k = aI S0 k) → fI S' = fI S0 → rI S' = rI S0 → gI S' = gI S0 → aI S' 3 = pYs (aI S0 0 0) (aI S0 0 1) W x1.toNat (aI S0 3) → K (aI S0 3 90 + x1) S') :
    ∀ (n : Nat) (k : Nat) (S' : St), (k : Int) ≤ x1 → x1 - k < n → (∀ k, k ≠ 3 → k ≠ 9 → aI S' k = aI S0 k) → fI S' = fI S0 → rI S' = rI S0 → gI S' = gI S0 → aI S' 3 = pYs (aI S0 0 0) (aI S0 0 1) W k (aI S0 3) → l_X_pass_33 x1 K n k S' := by
  intro n
  induction n with
  | zero => intro k S' h1 h2; omega
  | succ n ih =>
    intro k S' h1 h2 s1 s2 s3 s4 s5
    have c0 : aI S' 0 = aI S0 0 := s1 0 (by omega) (by omega)
    have ey := pYs_90 (n0 := aI S0 0 0) (W := W) (r := aI S0 3) hn k
    have gk := pYs_good hW h0 hn hg k (by omega)
    unfold l_X_pass_33
    refine ⟨fun c => pX_year (fun _ => ?_), fun c => ?_⟩
    · have ek : k = x1.toNat := by omega
      rw [s5, ey, show aI S0 3 90 + (k : Int) = aI S0 3 90 + x1 by omega]
      rw [ek] at s5
      exact hX S' s1 s2 s3 s4 s5
    · rw [s5, ey]
      refine fun _ => ⟨by omega, ?_⟩
      rintro _ rfl
      have gy := gk.year hn.2 (by omega)
      have e3 : aI (aset S' 3 90 (aI S0 3 90 + (k : Int) + 1)) 3 = fun j => if j = 90 then pYs (aI S0 0 0) (aI S0 0 1) W k (aI S0 3) 90 + 1 else pYs (aI S0 0 0) (aI S0 0 1) W k (aI S0 3) j := by
        funext j
        rw [aI_aset, s5, ey]
        by_cases z : j = 90
        · rw [if_pos ⟨rfl, z⟩, if_pos z]
        · rw [if_neg (fun q => z q.2), if_neg z]
      refine ⟨18, pX_pass_54 (S0 := S0) (W := W) (r0 := fun j => if j = 90 then pYs (aI S0 0 0) (aI S0 0 1) W k (aI S0 3) 90 + 1 else pYs (aI S0 0 0) (aI S0 0 1) W k (aI S0 3) j) hW hworn hn (fun j hj => pBs_good hW h0 hn.2 gy j hj) h0 (fun S2 t1 t2 t3 t4 t5 => ?_) 18 0 _ (by omega) (by omega) ?_ s2 s3 s4 e3⟩
      · unfold j_X_pass_130
        exact ⟨by omega, ih (k + 1) S2 (by omega) (by omega) t1 t2 t3 t4 t5⟩
      · intro j hj hj2
        rw [← s1 j hj hj2]
        funext y
        rw [aI_aset_j hj]
/-- the twin's -/
theorem RB.proof {f n r : Int → Int} (h : RB f n r) {b t : Int} (b0 : 0 ≤ b) (b1 : b < n 1) (t0 : 0 ≤ t) (t1 : t < n 0) : bt (f (35 + 6 * b)) t = bt (r (80 + t)) b := by
  have e := (h.2.1 b b0 b1).2.2.2 t t0 t1
  dsimp only at e
  rw [show 31 + 6 * b + 4 = 35 + 6 * b by omega] at e
  exact e
theorem RB.count {f n r : Int → Int} (h : RB f n r) (h0 : 0 ≤ n 0 ∧ n 0 ≤ 10) {b : Int} (b0 : 0 ≤ b) (b1 : b < n 1) : ssum (bt (f (35 + 6 * b))) 16 = ssum (fun t => bt (r (80 + t)) b) (n 0).toNat := by
  have e := (h.2.1 b b0 b1).2
  dsimp only at e
  rw [show 31 + 6 * b + 4 = 35 + 6 * b by omega] at e
  rw [bsum_small e.1 e.2.1 (by omega)]
  exact ssum_congr _ (fun t t0 t1 => h.proof b0 b1 t0 (by omega))
theorem RB.bone {f n r : Int → Int} (h : RB f n r) {b e : Int} (b0 : 0 ≤ b) (b1 : b < n 1) (e0 : 0 ≤ e) (e1 : e < 5) : f (30 + 6 * b + e) = r (5 * b + e) := by
  by_cases c : e = 0
  · subst c
    rw [Int.add_zero, Int.add_zero]
    exact h.1 b b0 b1
  · have := (h.2.1 b b0 b1).1 (e - 1) (by omega) (by omega)
    rw [show 30 + 6 * b + e = 31 + 6 * b + (e - 1) by omega, show 5 * b + e = 5 * b + 1 + (e - 1) by omega]
    exact this
theorem RB.names {f n r : Int → Int} (h : RB f n r) (h0 : 0 ≤ n 0 ∧ n 0 ≤ 10) (hy : f 2 = r 90) {b o : Int} (b0 : 0 ≤ b) (b1 : b < n 1) {v : Int → Int} (hv : nmsM f b o v) : ∀ i, 0 ≤ i → i < 5 → nmR (n 0) r b i = v i := by
  obtain ⟨y0, y1, y2, y3, y4, -⟩ := hv
  have z0 := h.bone (e := 0) b0 b1 (by omega) (by omega)
  have z1 := h.bone (e := 1) b0 b1 (by omega) (by omega)
  have z3 := h.bone (e := 3) b0 b1 (by omega) (by omega)
  rw [Int.add_zero, Int.add_zero] at z0
  rw [show 30 + 6 * b + 1 = 31 + 6 * b by omega] at z1
  rw [show 30 + 6 * b + 3 = 33 + 6 * b by omega] at z3
  have z5 := h.count h0 b0 b1
  intro i i0 i1
  have : i = 0 ∨ i = 1 ∨ i = 2 ∨ i = 3 ∨ i = 4 := by omega
  unfold nmR
  rcases this with rfl | rfl | rfl | rfl | rfl
  · rw [if_pos rfl, y0, z0]
  · rw [if_neg (by omega), if_pos rfl, y1, z1]
  · rw [if_neg (by omega), if_neg (by omega), if_pos rfl, y2, z3]
  · rw [if_neg (by omega), if_neg (by omega), if_neg (by omega), if_pos rfl, y3, z5]
  · rw [if_neg (by omega), if_neg (by omega), if_neg (by omega), if_neg (by omega), y4, hy]
