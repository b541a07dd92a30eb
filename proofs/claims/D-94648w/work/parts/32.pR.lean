/-! PURE: the component's state against the twin's -/
def bt (x i : Int) : Int := (x / 2 ^ (Int.toNat i)) % 2
theorem bt_eq (x i : Int) : (x / 2 ^ (Int.toNat i)) % 2 = bt x i := rfl
theorem bt_01 (x i : Int) : bt x i = 0 ∨ bt x i = 1 := by
  unfold bt
  omega
theorem bt_small {x i n : Int} (h0 : 0 ≤ x) (h : x < 2 ^ n.toNat) (hi : n ≤ i) : bt x i = 0 := by
  unfold bt
  have h1 : (2 : Int) ^ n.toNat ≤ 2 ^ i.toNat := by
    have : n.toNat ≤ i.toNat := by omega
    exact_mod_cast Nat.pow_le_pow_right (by omega) this
  rw [Int.ediv_eq_zero_of_lt h0 (by omega)]
  rfl
theorem bt_zero (i : Int) : bt 0 i = 0 := by
  unfold bt
  simp
theorem p2_mono {m n : Int} (h : m ≤ n) : (2 : Int) ^ m.toNat ≤ 2 ^ n.toNat := by
  have : m.toNat ≤ n.toNat := by omega
  exact_mod_cast Nat.pow_le_pow_right (by omega) this
/-- a row of the component against a record of the twin -/
def rCor (n0 nb : Int) (w : Int → Int → Int) (r : Int → Int) : Prop :=
  ∀ b, 0 ≤ b → b < nb → (∀ e, 0 ≤ e → e < 4 → w b e = r (5 * b + 1 + e)) ∧ 0 ≤ w b 4 ∧ w b 4 < 2 ^ n0.toNat ∧ ∀ t, 0 ≤ t → t < n0 → bt (w b 4) t = bt (r (80 + t)) b
def rGood (n0 n1 : Int) (r : Int → Int) : Prop :=
  (0 ≤ r 90 ∧ r 90 ≤ 999) ∧ (∀ b, 0 ≤ b → b < n1 → (0 ≤ r (5 * b) ∧ r (5 * b) ≤ 19) ∧ (1 ≤ r (5 * b + 1) ∧ r (5 * b + 1) ≤ 999) ∧ (0 ≤ r (5 * b + 2) ∧ r (5 * b + 2) < n0) ∧ (0 ≤ r (5 * b + 3) ∧ r (5 * b + 3) < n0) ∧ (-1 ≤ r (5 * b + 4) ∧ r (5 * b + 4) ≤ 999)) ∧ (∀ t, 0 ≤ t → t < 10 → 0 ≤ r (80 + t) ∧ r (80 + t) < 2 ^ n1.toNat ∧ (n0 ≤ t → r (80 + t) = 0))
def RN (f n r : Int → Int) : Prop := (f 0 = n 0 ∧ 0 ≤ n 0 ∧ n 0 ≤ 10) ∧ (f 1 = n 1 ∧ 0 ≤ n 1 ∧ n 1 ≤ 16) ∧ (f 2 = r 90) ∧ (f 3 = n 2 ∧ 0 ≤ n 2 ∧ n 2 ≤ 4) ∧ (f 4 = n 3 ∧ -1 ≤ n 3 ∧ n 3 < n 2) ∧ (f 5 = n 4 ∧ 0 ≤ n 4 ∧ n 4 ≤ 20) ∧ (f 6 = n 5 ∧ 0 ≤ n 5 ∧ n 5 ≤ 12) ∧ (f 7 = n 6 ∧ 0 ≤ n 6 ∧ n 6 ≤ 9) ∧ (f 8 = n 7 ∧ 1 ≤ n 7 ∧ n 7 ≤ 99)
def RT (f n x y : Int → Int) : Prop := ∀ t, 0 ≤ t → t < n 0 → f (10 + 2 * t) = x t ∧ f (11 + 2 * t) = y t ∧ 0 ≤ x t ∧ x t ≤ 99 ∧ 0 ≤ y t ∧ y t ≤ 99
def RB (f n r : Int → Int) : Prop := (∀ b, 0 ≤ b → b < n 1 → f (30 + 6 * b) = r (5 * b)) ∧ rCor (n 0) (n 1) (fun b e => f (31 + 6 * b + e)) r ∧ rGood (n 0) (n 1) r
/-- one step: its row r, what it was before the next one: q -/
def RS1 (f n r q : Int → Int) (k : Int) (s : Int → Int) : Prop :=
  f (174 + 82 * k) = s 90 ∧ (0 ≤ f (175 + 82 * k) ∧ f (175 + 82 * k) ≤ n 1) ∧ rCor (n 0) (f (175 + 82 * k)) (fun b e => f (176 + 82 * k + 5 * b + e)) s ∧ rGood (n 0) (n 1) s ∧ (∀ t, 0 ≤ t → t < 10 → s (80 + t) < 2 ^ (f (175 + 82 * k)).toNat)
  ∧ (∀ b, 0 ≤ b → b < n 1 → s (5 * b) = r (5 * b)) ∧ (∀ b, f (175 + 82 * k) ≤ b → b < n 1 → (∀ e, 0 ≤ e → e < 5 → s (5 * b + e) = q (5 * b + e)) ∧ ∀ t, 0 ≤ t → t < 10 → bt (q (80 + t)) b = 0)
def RS (f n r : Int → Int) (st : Int → Int → Int) : Prop := ∀ k, 0 ≤ k → k < n 4 → RS1 f n r (if k + 1 < n 4 then st (k + 1) else r) k (st k)
def RE (f n : Int → Int) (se : Int → Int → Int) : Prop := ∀ i, 0 ≤ i → i < n 5 → (∀ j, 0 ≤ j → j < 4 → f (126 + 4 * i + j) = se i j) ∧ (0 ≤ se i 0 ∧ se i 0 < n 0) ∧ (0 ≤ se i 1 ∧ se i 1 ≤ 19) ∧ (1 ≤ se i 2 ∧ se i 2 ≤ 999) ∧ (0 ≤ se i 3 ∧ se i 3 ≤ 999)
def RA (f n x y r : Int → Int) (st se : Int → Int → Int) : Prop := RN f n r ∧ RT f n x y ∧ RB f n r ∧ RS f n r st ∧ RE f n se
theorem rCor.congr {n0 nb : Int} {w w' : Int → Int → Int} {r r' : Int → Int} (h : rCor n0 nb w r) (h0 : n0 ≤ 10) (hb : nb ≤ 16) (hw : ∀ b e, 0 ≤ b → b < nb → 0 ≤ e → e < 5 → w' b e = w b e) (hr : ∀ y, 0 ≤ y → y < 91 → r' y = r y) : rCor n0 nb w' r' := by
  intro b b0 b1
  obtain ⟨c1, c2, c3, c4⟩ := h b b0 b1
  refine ⟨fun e e0 e1 => ?_, ?_, ?_, fun t t0 t1 => ?_⟩
  · rw [hw b e b0 b1 e0 (by omega), hr _ (by omega) (by omega)]
    exact c1 e e0 e1
  · rw [hw b 4 b0 b1 (by omega) (by omega)]
    exact c2
  · rw [hw b 4 b0 b1 (by omega) (by omega)]
    exact c3
  · rw [hw b 4 b0 b1 (by omega) (by omega), hr _ (by omega) (by omega)]
    exact c4 t t0 t1
theorem rGood.congr {n0 n1 : Int} {r r' : Int → Int} (h : rGood n0 n1 r) (hb : n1 ≤ 16) (hr : ∀ y, 0 ≤ y → y < 91 → r' y = r y) : rGood n0 n1 r' := by
  obtain ⟨c1, c2, c3⟩ := h
  refine ⟨?_, fun b b0 b1 => ?_, fun t t0 t1 => ?_⟩
  · rw [hr 90 (by omega) (by omega)]
    exact c1
  · rw [hr (5 * b) (by omega) (by omega), hr (5 * b + 1) (by omega) (by omega), hr (5 * b + 2) (by omega) (by omega), hr (5 * b + 3) (by omega) (by omega), hr (5 * b + 4) (by omega) (by omega)]
    exact c2 b b0 b1
  · rw [hr (80 + t) (by omega) (by omega)]
    exact c3 t t0 t1
theorem RS1.congr {f f' n n' r r' q q' : Int → Int} {k k' : Int} {s s' : Int → Int} (h : RS1 f n r q k s) (h0 : n 0 ≤ 10) (h1 : n 1 ≤ 16) (e0 : n' 0 = n 0) (e1 : n' 1 = n 1) (hf : ∀ j, 0 ≤ j → j < 82 → f' (174 + 82 * k' + j) = f (174 + 82 * k + j))
    (hr : ∀ y, 0 ≤ y → y < 91 → r' y = r y) (hq : ∀ y, 0 ≤ y → y < 91 → q' y = q y) (hs : ∀ y, 0 ≤ y → y < 91 → s' y = s y) : RS1 f' n' r' q' k' s' := by
  obtain ⟨c1, c2, c3, c4, c5, c6, c7⟩ := h
  have f0 : f' (174 + 82 * k') = f (174 + 82 * k) := by
    have := hf 0 (by omega) (by omega)
    rw [Int.add_zero, Int.add_zero] at this
    exact this
  have f1 : f' (175 + 82 * k') = f (175 + 82 * k) := by
    have := hf 1 (by omega) (by omega)
    rw [show 174 + 82 * k' + 1 = 175 + 82 * k' by omega, show 174 + 82 * k + 1 = 175 + 82 * k by omega] at this
    exact this
  unfold RS1
  rw [f0, f1, e0, e1]
  refine ⟨?_, c2, c3.congr h0 (by omega) ?_ hs, c4.congr h1 hs, ?_, ?_, ?_⟩
  · rw [hs 90 (by omega) (by omega)]
    exact c1
  · intro b e b0 b1 e2 e3
    have := hf (2 + 5 * b + e) (by omega) (by omega)
    rw [show 174 + 82 * k' + (2 + 5 * b + e) = 176 + 82 * k' + 5 * b + e by omega, show 174 + 82 * k + (2 + 5 * b + e) = 176 + 82 * k + 5 * b + e by omega] at this
    exact this
  · intro t t0 t1
    rw [hs _ (by omega) (by omega)]
    exact c5 t t0 t1
  · intro b b0 b1
    rw [hs _ (by omega) (by omega), hr _ (by omega) (by omega)]
    exact c6 b b0 b1
  · intro b b0 b1
    refine ⟨fun e g0 g1 => ?_, fun t t0 t1 => ?_⟩
    · rw [hs _ (by omega) (by omega), hq _ (by omega) (by omega)]
      exact (c7 b b0 b1).1 e g0 g1
    · rw [hq _ (by omega) (by omega)]
      exact (c7 b b0 b1).2 t t0 t1
/-- the record that keep writes -/
theorem RS1.fresh {f f' n n' r q : Int → Int} {k : Int} {s : Int → Int} (hN : RN f n r) (hB : RB f n r) (e0 : n' 0 = n 0) (e1 : n' 1 = n 1)
    (g0 : f' (174 + 82 * k) = f 2) (g1 : f' (175 + 82 * k) = f 1) (g2 : ∀ b e, 0 ≤ b → b < 16 → 0 ≤ e → e < 5 → f' (176 + 82 * k + 5 * b + e) = f (31 + 6 * b + e)) (hs : ∀ y, 0 ≤ y → y < 91 → s y = r y) : RS1 f' n' r q k s := by
  obtain ⟨⟨a0, a1, a2⟩, ⟨b0, b1, b2⟩, y, _⟩ := hN
  obtain ⟨c1, c2, c3⟩ := hB
  unfold RS1
  rw [g0, g1, e0, e1, b0]
  refine ⟨?_, by omega, c2.congr a2 b2 ?_ hs, c3.congr b2 hs, ?_, ?_, ?_⟩
  · rw [hs 90 (by omega) (by omega)]
    exact y
  · intro b e d0 d1 d2 d3
    exact g2 b e d0 (by omega) d2 d3
  · intro t t0 t1
    rw [hs _ (by omega) (by omega)]
    exact (c3.2.2 t t0 t1).2.1
  · intro b d0 d1
    exact hs _ (by omega) (by omega)
  · intro b d0 d1
    omega
theorem RB.congr {f f' n n' r r' : Int → Int} (h : RB f n r) (h0 : n 0 ≤ 10) (h1 : n 1 ≤ 16) (e0 : n' 0 = n 0) (e1 : n' 1 = n 1) (hf : ∀ y, 30 ≤ y → y < 126 → f' y = f y) (hr : ∀ y, 0 ≤ y → y < 91 → r' y = r y) : RB f' n' r' := by
  obtain ⟨c1, c2, c3⟩ := h
  unfold RB
  rw [e0, e1]
  refine ⟨fun b b0 b1 => ?_, c2.congr h0 h1 (fun b e g0 g1 g2 g3 => hf _ (by omega) (by omega)) hr, c3.congr h1 hr⟩
  rw [hf _ (by omega) (by omega), hr _ (by omega) (by omega)]
  exact c1 b b0 b1
theorem RT.congr {f f' n n' x x' y y' : Int → Int} (h : RT f n x y) (h0 : n 0 ≤ 10) (e0 : n' 0 = n 0) (hf : ∀ j, 10 ≤ j → j < 30 → f' j = f j) (hx : ∀ j, 0 ≤ j → j < 10 → x' j = x j) (hy : ∀ j, 0 ≤ j → j < 10 → y' j = y j) : RT f' n' x' y' := by
  intro t t0 t1
  rw [e0] at t1
  rw [hf _ (by omega) (by omega), hf _ (by omega) (by omega), hx t (by omega) (by omega), hy t (by omega) (by omega)]
  exact h t t0 t1
theorem RE.congr {f f' n n' : Int → Int} {se se' : Int → Int → Int} (h : RE f n se) (h5 : n 5 ≤ 12) (e0 : n' 0 = n 0) (e5 : n' 5 = n 5) (hf : ∀ j, 126 ≤ j → j < 174 → f' j = f j) (hs : ∀ i j, 0 ≤ i → i < 12 → 0 ≤ j → j < 4 → se' i j = se i j) : RE f' n' se' := by
  intro i i0 i1
  rw [e5] at i1
  obtain ⟨c1, c2⟩ := h i i0 i1
  rw [e0, hs i 0 (by omega) (by omega) (by omega) (by omega), hs i 1 (by omega) (by omega) (by omega) (by omega), hs i 2 (by omega) (by omega) (by omega) (by omega), hs i 3 (by omega) (by omega) (by omega) (by omega)]
  refine ⟨fun j j0 j1 => ?_, c2⟩
  rw [hf _ (by omega) (by omega), hs i j (by omega) (by omega) j0 j1]
  exact c1 j j0 j1
theorem kA_lo (f : Int → Int) {y : Int} (h : y < 174) (h5 : y ≠ 5) (hf : 0 ≤ f 5 ∧ f 5 ≤ 20) : kA f y = f y := by
  unfold kA kRec kSh
  grind
theorem kA_5 (f : Int → Int) : kA f 5 = if f 5 = 20 then 20 else f 5 + 1 := rfl
theorem kA_old (f : Int → Int) {k j : Int} (hf : 0 ≤ f 5 ∧ f 5 < 20) (k0 : 0 ≤ k) (k1 : k < f 5) (j0 : 0 ≤ j) (j1 : j < 82) : kA f (174 + 82 * k + j) = f (174 + 82 * k + j) := by
  unfold kA kRec
  rw [if_neg (by omega), if_neg (by omega), if_neg (by omega), if_neg (by omega), if_neg (by omega)]
theorem kA_sh (f : Int → Int) {k j : Int} (hf : f 5 = 20) (k0 : 0 ≤ k) (k1 : k < 19) (j0 : 0 ≤ j) (j1 : j < 82) : kA f (174 + 82 * k + j) = f (174 + 82 * (k + 1) + j) := by
  unfold kA kRec kSh
  rw [if_neg (by omega), if_pos hf, if_neg (by omega), if_neg (by omega), if_neg (by omega), if_pos (by omega)]
  congr 1
  omega
/-- where keep writes -/
def kAt (f : Int → Int) : Int := if f 5 = 20 then 19 else f 5
theorem kA_n0 (f : Int → Int) (hf : 0 ≤ f 5 ∧ f 5 ≤ 20) : kA f (174 + 82 * kAt f) = f 2 := by
  unfold kA kRec kSh kAt
  by_cases c : f 5 = 20
  · simp only [c, if_true]
    rfl
  · rw [if_neg (by omega), if_neg c, if_neg c, if_pos rfl]
theorem kA_n1 (f : Int → Int) (hf : 0 ≤ f 5 ∧ f 5 ≤ 20) : kA f (175 + 82 * kAt f) = f 1 := by
  unfold kA kRec kSh kAt
  by_cases c : f 5 = 20
  · simp only [c, if_true]
    rfl
  · rw [if_neg c, if_neg (by omega), if_neg c, if_neg (by omega), if_pos (by omega)]
theorem kA_n2 (f : Int → Int) (hf : 0 ≤ f 5 ∧ f 5 ≤ 20) {b e : Int} (b0 : 0 ≤ b) (b1 : b < 16) (e0 : 0 ≤ e) (e1 : e < 5) : kA f (176 + 82 * kAt f + 5 * b + e) = f (31 + 6 * b + e) := by
  unfold kA kRec kSh kAt
  by_cases c : f 5 = 20
  · rw [if_pos c, if_neg (by omega), if_pos c, if_neg (by omega), if_neg (by omega), if_pos (by omega), if_neg (by omega)]
    congr 1
    omega
  · rw [if_neg c, if_neg (by omega), if_neg c, if_neg (by omega), if_neg (by omega), if_pos (by omega)]
    congr 1
    omega
theorem RA.keep {f n x y r n' x' y' r' : Int → Int} {st se st' se' : Int → Int → Int} (h : RA f n x y r st se)
    (hn : ∀ j, n' j = if j = 4 then (if n 4 = 20 then 20 else n 4 + 1) else n j) (hx : x' = x) (hy : y' = y) (hr : r' = r) (he : se' = se)
    (hs : ∀ k j, 0 ≤ k → k < 20 → 0 ≤ j → j < 91 → st' k j = if n 4 = 20 then (if k = 19 then r j else st (k + 1) j) else if k = n 4 then r j else st k j) : RA (kA f) n' x' y' r' st' se' := by
  subst hx hy hr he
  obtain ⟨hN, hT, hB, hS, hE⟩ := h
  have hN0 := hN
  obtain ⟨⟨a0, a1, a2⟩, ⟨b0, b1, b2⟩, cy, ⟨d0, d1, d2⟩, ⟨e0, e1, e2⟩, ⟨g0, g1, g2⟩, ⟨i0, i1, i2⟩, ⟨j0, j1, j2⟩, ⟨k0, k1, k2⟩⟩ := hN
  have h5 : 0 ≤ f 5 ∧ f 5 ≤ 20 := by omega
  have n0 : n' 0 = n 0 := by rw [hn, if_neg (by omega)]
  have n1 : n' 1 = n 1 := by rw [hn, if_neg (by omega)]
  have n4 : n' 4 = if n 4 = 20 then 20 else n 4 + 1 := by rw [hn, if_pos rfl]
  have n5 : n' 5 = n 5 := by rw [hn, if_neg (by omega)]
  refine ⟨?_, hT.congr a2 n0 (fun j _ _ => kA_lo f (by omega) (by omega) h5) (fun _ _ _ => rfl) (fun _ _ _ => rfl), hB.congr a2 b2 n0 n1 (fun j _ _ => kA_lo f (by omega) (by omega) h5) (fun _ _ _ => rfl), ?_, hE.congr i2 n0 n5 (fun j _ _ => kA_lo f (by omega) (by omega) h5) (fun _ _ _ _ _ _ => rfl)⟩
  · unfold RN
    rw [kA_lo f (y := 0) (by omega) (by omega) h5, kA_lo f (y := 1) (by omega) (by omega) h5, kA_lo f (y := 2) (by omega) (by omega) h5, kA_lo f (y := 3) (by omega) (by omega) h5, kA_lo f (y := 4) (by omega) (by omega) h5, kA_lo f (y := 6) (by omega) (by omega) h5, kA_lo f (y := 7) (by omega) (by omega) h5, kA_lo f (y := 8) (by omega) (by omega) h5, kA_5, n0, n1, n4, n5,
      show n' 2 = n 2 by rw [hn, if_neg (by omega)], show n' 3 = n 3 by rw [hn, if_neg (by omega)], show n' 6 = n 6 by rw [hn, if_neg (by omega)], show n' 7 = n 7 by rw [hn, if_neg (by omega)]]
    grind
  · intro k p0 p1
    rw [n4] at p1
    by_cases c : n 4 = 20
    · rw [if_pos c] at p1
      by_cases c2 : k = 19
      · subst c2
        rw [n4, if_pos c, if_neg (by omega)]
        have q : kAt f = 19 := by unfold kAt; rw [if_pos (by omega)]
        refine RS1.fresh hN0 hB n0 n1 ?_ ?_ ?_ ?_
        · rw [← q]; exact kA_n0 f h5
        · rw [← q]; exact kA_n1 f h5
        · intro b e q0 q1 q2 q3
          rw [← q]; exact kA_n2 f h5 q0 q1 q2 q3
        · intro j q0 q1
          rw [hs 19 j (by omega) (by omega) q0 q1, if_pos c, if_pos rfl]
      · refine (hS (k + 1) (by omega) (by omega)).congr a2 b2 n0 n1 (fun j q0 q1 => kA_sh f (by omega) p0 (by omega) q0 q1) (fun _ _ _ => rfl) ?_ ?_
        · intro j q0 q1
          rw [n4, if_pos c, if_pos (by omega), hs (k + 1) j (by omega) (by omega) q0 q1, if_pos c]
          by_cases c3 : k = 18
          · rw [if_pos (by omega), if_neg (by omega)]
          · rw [if_neg (by omega), if_pos (by omega)]
        · intro j q0 q1
          rw [hs k j (by omega) (by omega) q0 q1, if_pos c, if_neg c2]
    · rw [if_neg c] at p1
      by_cases c2 : k = n 4
      · rw [n4, if_neg c, if_neg (by omega)]
        have q : kAt f = k := by unfold kAt; rw [if_neg (by omega)]; omega
        refine RS1.fresh hN0 hB n0 n1 ?_ ?_ ?_ ?_
        · rw [← q]; exact kA_n0 f h5
        · rw [← q]; exact kA_n1 f h5
        · intro b e q0 q1 q2 q3
          rw [← q]; exact kA_n2 f h5 q0 q1 q2 q3
        · intro j q0 q1
          rw [hs k j (by omega) (by omega) q0 q1, if_neg c, if_pos c2]
      · refine (hS k (by omega) (by omega)).congr a2 b2 n0 n1 (fun j q0 q1 => kA_old f (by omega) p0 (by omega) q0 q1) (fun _ _ _ => rfl) ?_ ?_
        · intro j q0 q1
          rw [n4, if_neg c, if_pos (by omega), hs (k + 1) j (by omega) (by omega) q0 q1, if_neg c]
          by_cases c3 : k + 1 = n 4
          · rw [if_pos c3, if_neg (by omega)]
          · rw [if_neg c3, if_pos (by omega)]
        · intro j q0 q1
          rw [hs k j (by omega) (by omega) q0 q1, if_neg c, if_neg c2]
