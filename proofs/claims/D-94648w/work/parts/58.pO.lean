/-! PURE: rounds: the stops; the next order -/
def cnt (x : Int) (t : Nat) : Int := ssum (bt x) t
/-- the i-th of the bits below t -/
def sv (x : Int) : Nat → Int → Int
  | 0 => fun _ => -1
  | t + 1 => fun i => if bt x t = 1 ∧ i = cnt x t then t else sv x t i
theorem cnt_bd (x : Int) (t : Nat) : 0 ≤ cnt x t ∧ cnt x t ≤ t := ssum_bd t (fun i _ _ => bt_bd x i)
theorem cnt_up (x : Int) (t : Nat) : cnt x (t + 1) = cnt x t + bt x t := rfl
theorem sv_ok (x : Int) : ∀ (t : Nat), (∀ i, 0 ≤ i → i < cnt x t → 0 ≤ sv x t i ∧ sv x t i < t) ∧ ∀ i j, 0 ≤ i → i < j → j < cnt x t → sv x t i < sv x t j := by
  intro t
  induction t with
  | zero => exact ⟨fun i i0 i1 => by have : cnt x 0 = 0 := rfl; omega, fun i j i0 ij j1 => by have : cnt x 0 = 0 := rfl; omega⟩
  | succ t ih =>
    obtain ⟨h1, h2⟩ := ih
    have hb := bt_01 x t
    have hc := cnt_up x t
    have v : ∀ i, sv x (t + 1) i = if bt x t = 1 ∧ i = cnt x t then (t : Int) else sv x t i := fun i => rfl
    refine ⟨fun i i0 i1 => ?_, fun i j i0 ij j1 => ?_⟩
    · rw [v]
      by_cases c : bt x t = 1 ∧ i = cnt x t
      · rw [if_pos c]
        omega
      · rw [if_neg c]
        have := h1 i i0 (by omega)
        omega
    · rw [v, v]
      rw [if_neg (by omega)]
      have hi := h1 i i0 (by omega)
      by_cases c : bt x t = 1 ∧ j = cnt x t
      · rw [if_pos c]
        omega
      · rw [if_neg c]
        exact h2 i j i0 ij (by omega)
theorem cnt_pos {x : Int} (h : 1 ≤ x ∧ x < 65536) : 1 ≤ cnt x 16 := by
  obtain ⟨a, rfl⟩ := Int.eq_ofNat_of_zero_le (show 0 ≤ x by omega)
  by_cases c : 1 ≤ cnt (a : Int) 16
  · exact c
  · exfalso
    have z : ∀ (n : Nat), cnt (a : Int) n ≤ 0 → ∀ i : Nat, i < n → bt (a : Int) i = 0 := by
      intro n
      induction n with
      | zero => intro _ i hi; omega
      | succ n ih =>
        intro hn i hi
        rw [cnt_up] at hn
        have hb := bt_bd (a : Int) n
        have hc := cnt_bd (a : Int) n
        by_cases e : i = n
        · rw [e]
          omega
        · exact ih (by omega) i (by omega)
    have z2 := z 16 (by omega)
    have : a = 0 := by
      apply Nat.eq_of_testBit_eq
      intro i
      rw [Nat.zero_testBit]
      by_cases hi : i < 16
      · have q := z2 i hi
        rw [bt_nat] at q
        by_cases t : a.testBit i
        · rw [if_pos t] at q
          omega
        · simpa using t
      · exact Nat.testBit_lt_two_pow (Nat.lt_of_lt_of_le (show a < 2 ^ 16 by omega) (Nat.pow_le_pow_right (by omega) (by omega)))
    omega
theorem pX_round_52 {x1 x2 : Int} {K : Int → St → Prop} {X : St → Prop} {S0 : St} (h0 : 0 ≤ aI S0 0 0 ∧ aI S0 0 0 ≤ 10) (h8 : cnt x1 (aI S0 0 0).toNat ≤ 8)
    (hX : ∀ S', (∀ k, k ≠ 12 → aI S' k = aI S0 k) → (∀ k, k ≠ 18 → fI S' k = fI S0 k) → rI S' = rI S0 → gI S' = gI S0 → fI S' 18 = cnt x1 (aI S0 0 0).toNat → (∀ i, 0 ≤ i → i < cnt x1 (aI S0 0 0).toNat → aI S' 12 i = sv x1 (aI S0 0 0).toNat i) → X S') :
    ∀ (m : Nat) (t : Nat) (S' : St), (t : Int) ≤ aI S0 0 0 → aI S0 0 0 - t < m → (∀ k, k ≠ 12 → aI S' k = aI S0 k) → (∀ k, k ≠ 18 → fI S' k = fI S0 k) → rI S' = rI S0 → gI S' = gI S0 → fI S' 18 = cnt x1 t → (∀ i, 0 ≤ i → i < cnt x1 t → aI S' 12 i = sv x1 t i) → l_X_round_52 x1 x2 K X m t S' := by
  intro m
  induction m with
  | zero => intro t S' t0 t1; omega
  | succ m ih =>
    intro t S' t0 t1 s1 s2 s3 s4 s5 s6
    have c0 : aI S' 0 = aI S0 0 := s1 0 (by omega)
    have cb := cnt_bd x1 t
    have v : ∀ i, sv x1 (t + 1) i = if bt x1 t = 1 ∧ i = cnt x1 t then (t : Int) else sv x1 t i := fun i => rfl
    have cm : ∀ (d a : Nat), cnt x1 a ≤ cnt x1 (a + d) := by
      intro d
      induction d with
      | zero => intro a; exact Int.le_refl _
      | succ d ihd =>
        intro a
        have := ihd a
        have h2 := bt_bd x1 ((a + d : Nat) : Int)
        rw [show a + (d + 1) = (a + d) + 1 by omega, cnt_up]
        omega
    unfold l_X_round_52 j_X_round_96
    rw [c0]
    refine fun _ => ⟨fun c => ?_, fun c => ⟨by omega, fun cb1 => ?_, fun cb0 => ⟨by omega, ?_⟩⟩⟩
    · have et : t = (aI S0 0 0).toNat := by omega
      rw [et] at s5 s6
      exact hX S' s1 s2 s3 s4 s5 s6
    · rw [bt_div] at cb1
      have b1 : bt x1 t = 1 := by rcases bt_01 x1 t with h | h <;> omega
      have c2 := cm ((aI S0 0 0).toNat - (t + 1)) (t + 1)
      rw [show t + 1 + ((aI S0 0 0).toNat - (t + 1)) = (aI S0 0 0).toNat by omega] at c2
      have c3 := cnt_up x1 t
      rw [s5]
      refine fun _ => ⟨by omega, ?_⟩
      rintro _ rfl
      rw [fI_aset, s5]
      refine fun _ => ⟨by omega, ?_⟩
      rintro _ rfl
      refine ⟨by omega, ih (t + 1) _ (by omega) (by omega) (fun k hk => ?_) (fun k hk => ?_) s3 s4 ?_ (fun i i0 i1 => ?_)⟩
      · rw [aI_fset, ← s1 k hk]
        funext y
        exact aI_aset_j hk
      · rw [fI_fset_n hk]
        exact s2 k hk
      · rw [fI_fset_s, c3, b1]
      · rw [aI_fset, aI_aset, v]
        by_cases e : i = cnt x1 t
        · rw [if_pos ⟨rfl, e⟩, if_pos ⟨b1, e⟩]
        · rw [if_neg (fun q => e q.2), if_neg (fun q => e q.2)]
          exact s6 i i0 (by omega)
    · rw [bt_div] at cb0
      have c3 := cnt_up x1 t
      refine ih (t + 1) _ (by omega) (by omega) s1 s2 s3 s4 ?_ (fun i i0 i1 => ?_)
      · rw [s5, c3, cb0]
        omega
      · rw [v, if_neg (fun q => by omega)]
        exact s6 i i0 (by omega)
theorem pM_round_47 {x1 x2 : Int} {T0 : St} (h0 : 0 ≤ aI T0 0 0 ∧ aI T0 0 0 ≤ 10) (h8 : cnt x1 (aI T0 0 0).toNat ≤ 8) :
    ∀ (m : Nat) (t : Nat) (T' : St), (t : Int) ≤ aI T0 0 0 → aI T0 0 0 - t < m → (∀ k, k ≠ 15 → aI T' k = aI T0 k) → fI T' = fI T0 → (∀ i, 0 ≤ i → i < cnt x1 t → aI T' 15 i = sv x1 t i) →
    ∃ T1, (∀ k, k ≠ 15 → aI T1 k = aI T0 k) ∧ fI T1 = fI T0 ∧ (∀ i, 0 ≤ i → i < cnt x1 (aI T0 0 0).toNat → aI T1 15 i = sv x1 (aI T0 0 0).toNat i) ∧ ∀ (K : Int → St → Prop) (X : Int → St → Prop), X (cnt x1 (aI T0 0 0).toNat) T1 → l_M_round_47 x1 x2 K X m (cnt x1 t) t T' := by
  intro m
  induction m with
  | zero => intro t S' t0 t1; omega
  | succ m ih =>
    intro t S' t0 t1 s1 s2 s6
    have c0 : aI S' 0 = aI T0 0 := s1 0 (by omega)
    have cb := cnt_bd x1 t
    have v : ∀ i, sv x1 (t + 1) i = if bt x1 t = 1 ∧ i = cnt x1 t then (t : Int) else sv x1 t i := fun i => rfl
    have c3 := cnt_up x1 t
    have cm : ∀ (d a : Nat), cnt x1 a ≤ cnt x1 (a + d) := by
      intro d
      induction d with
      | zero => intro a; exact Int.le_refl _
      | succ d ihd =>
        intro a
        have := ihd a
        have h2 := bt_bd x1 ((a + d : Nat) : Int)
        rw [show a + (d + 1) = (a + d) + 1 by omega, cnt_up]
        omega
    by_cases ct : (t : Int) = aI T0 0 0
    · have et : t = (aI T0 0 0).toNat := by omega
      rw [et] at s6
      refine ⟨S', s1, s2, s6, fun K X hX => ?_⟩
      rw [et]
      unfold l_M_round_47
      rw [c0]
      exact fun _ => ⟨fun _ => hX, fun c => absurd (by omega) c⟩
    · rcases bt_01 x1 t with b1 | b1
      · have e : cnt x1 t = cnt x1 (t + 1) := by rw [c3, b1]; omega
        obtain ⟨T1, u1, u2, u3, u4⟩ := ih (t + 1) S' (by omega) (by omega) s1 s2 (fun i i0 i1 => by
          rw [v, if_neg (fun q => by omega)]
          exact s6 i i0 (by omega))
        refine ⟨T1, u1, u2, u3, fun K X hX => ?_⟩
        unfold l_M_round_47 j_M_round_81
        rw [c0]
        refine fun _ => ⟨fun c => absurd c (by omega), fun _ => ⟨by omega, fun c => absurd b1 (by rw [bt_div] at c; exact c), fun _ => ⟨by omega, ?_⟩⟩⟩
        rw [e]
        exact u4 K X hX
      · have c2 := cm ((aI T0 0 0).toNat - (t + 1)) (t + 1)
        rw [show t + 1 + ((aI T0 0 0).toNat - (t + 1)) = (aI T0 0 0).toNat by omega] at c2
        obtain ⟨T1, u1, u2, u3, u4⟩ := ih (t + 1) (aset S' 15 (cnt x1 t) t) (by omega) (by omega) (fun k hk => by
          rw [← s1 k hk]
          funext y
          exact aI_aset_j hk) s2 (fun i i0 i1 => by
          rw [aI_aset, v]
          by_cases e : i = cnt x1 t
          · rw [if_pos ⟨rfl, e⟩, if_pos ⟨b1, e⟩]
          · rw [if_neg (fun q => e q.2), if_neg (fun q => e q.2)]
            exact s6 i i0 (by omega))
        refine ⟨T1, u1, u2, u3, fun K X hX => ?_⟩
        unfold l_M_round_47 j_M_round_81
        rw [c0]
        refine fun _ => ⟨fun c => absurd c (by omega), fun _ => ⟨by omega, fun c => ⟨by omega, ?_⟩, fun c => by rw [bt_div] at c; omega⟩⟩
        rintro _ rfl
        rw [show cnt x1 t + 1 = cnt x1 (t + 1) by rw [c3, b1]]
        exact ⟨by omega, by omega, u4 K X hX⟩
/-! the next order -/
/-- exchange -/
def exch (f : Int → Int) (i k : Int) : Int → Int := fun y => if y = k then f i else if y = i then f k else f y
theorem pM_exchange {T : St} {i k : Int} {K : St → Prop} (hi : 0 ≤ i ∧ i < 8) (hk : 0 ≤ k ∧ k < 8) (hK : K (aput T 15 (exch (aI T 15) i k))) : w_M_exchange i k T K := by
  unfold w_M_exchange
  refine ⟨hi, fun _ => ?_⟩
  rintro _ rfl
  refine fun _ => ⟨hk, fun _ => ⟨hi, ?_⟩⟩
  rintro _ rfl
  refine ⟨hk, ?_⟩
  rintro _ rfl
  rw [aset_eq T, aset_aput]
  exact hK
/-- from p to q turned round -/
def turn (f : Int → Int) (p q : Int) : Int → Int := fun y => if p ≤ y ∧ y ≤ q then f (p + q - y) else f y
theorem turn_step (f : Int → Int) {p q : Int} (h : p < q) : turn (exch f p q) (p + 1) (q - 1) = turn f p q := by
  funext y
  unfold turn exch
  by_cases c : p + 1 ≤ y ∧ y ≤ q - 1
  · rw [if_pos c, if_neg (by omega), if_neg (by omega), if_pos (by omega)]
    congr 1
    omega
  · rw [if_neg c]
    by_cases c1 : y = q
    · rw [if_pos c1, if_pos (by omega)]
      congr 1
      omega
    · rw [if_neg c1]
      by_cases c2 : y = p
      · rw [if_pos c2, if_pos (by omega)]
        congr 1
        omega
      · rw [if_neg c2, if_neg (by omega)]
theorem pM_turn {K : Int → St → Prop} : ∀ (m : Nat) (p q : Int) (T : St), 0 ≤ p → q < 8 → q - p < 2 * m → -1 ≤ q → p ≤ 8 → K 1 (aput T 15 (turn (aI T 15) p q)) → l_M_nextOrder_80 K (m + 1) p q T := by
  intro m
  induction m with
  | zero =>
    intro p q T p0 q0 h qm p8 hK
    unfold l_M_nextOrder_80
    refine ⟨fun _ => ?_, fun c => absurd (by omega) c⟩
    have e : turn (aI T 15) p q = aI T 15 := by
      funext y
      unfold turn
      by_cases c : p ≤ y ∧ y ≤ q
      · rw [if_pos c]
        congr 1
        omega
      · rw [if_neg c]
    rw [e, aput_self] at hK
    exact hK
  | succ m ih =>
    intro p q T p0 q0 h qm p8 hK
    unfold l_M_nextOrder_80
    refine ⟨fun c => ?_, fun c => pM_exchange (by omega) (by omega) ⟨by omega, by omega, ?_⟩⟩
    · have e : turn (aI T 15) p q = aI T 15 := by
        funext y
        unfold turn
        by_cases c : p ≤ y ∧ y ≤ q
        · rw [if_pos c]
          congr 1
          omega
        · rw [if_neg c]
      rw [e, aput_self] at hK
      exact hK
    · refine ih (p + 1) (q + -1) _ (by omega) (by omega) (by omega) (by omega) (by omega) ?_
      have e : aI (aput T 15 (exch (aI T 15) p q)) 15 = exch (aI T 15) p q := by funext y; exact aI_aput_s _ _ _ _
      rw [e, aput_aput, show q + -1 = q - 1 by omega, turn_step _ (by omega)]
      exact hK
/-- behind a falling end: the least greater one comes to its head, the rest rises -/
theorem pM_nextOrder {T : St} {n k j : Int} {K : Int → St → Prop} (hn : n ≤ 8) (hk : 1 ≤ k) (hj : k < j ∧ j < n) (hd : ∀ a b, k < a → a < b → b < n → aI T 15 b < aI T 15 a) (hlt : aI T 15 k < aI T 15 j) (hmin : ∀ a, j < a → a < n → aI T 15 a < aI T 15 k)
    (hK : K 1 (aput T 15 (turn (exch (aI T 15) k j) (k + 1) (n - 1)))) : w_M_nextOrder n T K := by
  have s1 : ∀ (X : Int → Prop), X k → ∀ (m : Nat) (i : Int), k ≤ i → i ≤ n - 2 → i - k < m → l_M_nextOrder_4 n T K X m i := by
    intro X hX m
    induction m with
    | zero => intro i i0 i1 i2; omega
    | succ m ih =>
      intro i i0 i1 i2
      unfold l_M_nextOrder_4
      refine ⟨fun c => absurd c (by omega), fun _ => ⟨by omega, fun _ => ⟨by omega, by omega, fun _ => ⟨fun c => ?_, fun c => ⟨by omega, ?_⟩⟩⟩⟩⟩
      · by_cases e : i = k
        · rw [e]
          exact hX
        · have := hd i (i + 1) (by omega) (by omega) (by omega)
          omega
      · by_cases e : i = k
        · exfalso
          rw [e] at c
          by_cases e2 : j = k + 1
          · rw [← e2] at c
            omega
          · have := hd (k + 1) j (by omega) (by omega) hj.2
            omega
        · exact ih (i + -1) (by omega) (by omega) (by omega)
  have s2 : ∀ (X : Int → Prop), X j → ∀ (m : Nat) (i : Int), j ≤ i → i ≤ n - 1 → i - j < m → l_M_nextOrder_43 n k T K X m i := by
    intro X hX m
    induction m with
    | zero => intro i i0 i1 i2; omega
    | succ m ih =>
      intro i i0 i1 i2
      unfold l_M_nextOrder_43
      refine ⟨by omega, fun _ => ⟨by omega, fun _ => ⟨fun c => ?_, fun c => ⟨by omega, ?_⟩⟩⟩⟩
      · by_cases e : i = j
        · rw [e]
          exact hX
        · have := hmin i (by omega) (by omega)
          omega
      · by_cases e : i = j
        · rw [e] at c
          omega
        · exact ih (i + -1) (by omega) (by omega) (by omega)
  unfold w_M_nextOrder
  refine ⟨by omega, ?_⟩
  rintro _ rfl
  refine fun _ => ⟨9, s1 _ ?_ 9 (n - 2) (by omega) (by omega) (by omega)⟩
  unfold j_M_nextOrder_32
  refine ⟨fun _ => ⟨by omega, ?_⟩, fun c => absurd hk c⟩
  rintro _ rfl
  refine fun _ => ⟨9, s2 _ ?_ 9 (n - 1) (by omega) (by omega) (by omega)⟩
  unfold j_M_nextOrder_64
  refine pM_exchange (by omega) (by omega) ⟨by omega, ?_⟩
  rintro _ rfl
  refine fun _ => ⟨by omega, ?_⟩
  rintro _ rfl
  refine fun _ => ⟨6, pM_turn 5 (k + 1) (n - 1) _ (by omega) (by omega) (by omega) (by omega) (by omega) ?_⟩
  have e : aI (aput T 15 (exch (aI T 15) k j)) 15 = exch (aI T 15) k j := by funext y; exact aI_aput_s _ _ _ _
  rw [e, aput_aput]
  exact hK
/-- none behind the last one -/
theorem pM_lastOrder {T : St} {n : Int} {K : Int → St → Prop} (hn : 1 ≤ n ∧ n ≤ 8) (hd : ∀ a b, 1 ≤ a → a < b → b < n → aI T 15 b < aI T 15 a) (hK : K 0 T) : w_M_nextOrder n T K := by
  have s1 : ∀ (X : Int → Prop), (∀ i, i < 1 → X i) → ∀ (m : Nat) (i : Int), -1 ≤ i → i ≤ n - 2 → i + 1 < m → l_M_nextOrder_4 n T K X m i := by
    intro X hX m
    induction m with
    | zero => intro i i0 i1 i2; omega
    | succ m ih =>
      intro i i0 i1 i2
      unfold l_M_nextOrder_4
      refine ⟨fun c => hX i c, fun _ => ⟨by omega, fun _ => ⟨by omega, by omega, fun _ => ⟨fun c => ?_, fun c => ⟨by omega, ?_⟩⟩⟩⟩⟩
      · have := hd i (i + 1) (by omega) (by omega) (by omega)
        omega
      · exact ih (i + -1) (by omega) (by omega) (by omega)
  unfold w_M_nextOrder
  refine ⟨by omega, ?_⟩
  rintro _ rfl
  refine fun _ => ⟨9, s1 _ (fun i hi => ?_) 9 (n - 2) (by omega) (by omega) (by omega)⟩
  unfold j_M_nextOrder_32
  exact ⟨fun c => absurd c (by omega), fun _ => hK⟩
