/-! PURE: sums, bits counted -/
def ssum (g : Int → Int) : Nat → Int
  | 0 => 0
  | n + 1 => ssum g n + g n
theorem ssum_congr {g h : Int → Int} : ∀ (n : Nat), (∀ i : Int, 0 ≤ i → i < n → g i = h i) → ssum g n = ssum h n := by
  intro n
  induction n with
  | zero => intro _; rfl
  | succ n ih =>
    intro e
    show ssum g n + g n = ssum h n + h n
    rw [ih (fun i i0 i1 => e i i0 (by omega)), e n (by omega) (by omega)]
theorem ssum_out {g : Int → Int} {m : Nat} : ∀ (n : Nat), (∀ i : Int, (m : Int) ≤ i → i < (m + n : Nat) → g i = 0) → ssum g (m + n) = ssum g m := by
  intro n
  induction n with
  | zero => intro _; rfl
  | succ n ih =>
    intro e
    show ssum g (m + n) + g (m + n : Nat) = _
    rw [ih (fun i i0 i1 => e i i0 (by omega)), e (m + n : Nat) (by omega) (by omega)]
    omega
theorem ssum_bd {g : Int → Int} : ∀ (n : Nat), (∀ i : Int, 0 ≤ i → i < n → 0 ≤ g i ∧ g i ≤ 1) → 0 ≤ ssum g n ∧ ssum g n ≤ n := by
  intro n
  induction n with
  | zero => intro _; exact ⟨Int.le_refl 0, Int.le_refl 0⟩
  | succ n ih =>
    intro e
    have h1 := ih (fun i i0 i1 => e i i0 (by omega))
    have h2 := e n (by omega) (by omega)
    show 0 ≤ ssum g n + g n ∧ ssum g n + g n ≤ ((n + 1 : Nat) : Int)
    omega
theorem bt_bd (x i : Int) : 0 ≤ bt x i ∧ bt x i ≤ 1 := by
  rcases bt_01 x i with h | h <;> omega
theorem bt_div (x i : Int) : (x / 2 ^ (Int.toNat i)) % 2 = bt x i := rfl
/-- the bits of a small number, up to any bound -/
theorem bsum_small {x n : Int} (h0 : 0 ≤ x) (h : x < 2 ^ n.toNat) (hn : 0 ≤ n ∧ n ≤ 16) : ssum (bt x) 16 = ssum (bt x) n.toNat := by
  have e := ssum_out (g := bt x) (m := n.toNat) (16 - n.toNat) (fun i i0 i1 => bt_small h0 h (by omega))
  rw [show n.toNat + (16 - n.toNat) = 16 by omega] at e
  exact e
theorem p_bits_in {x : Int} {K : Int → Prop} : ∀ (n : Nat) (k : Nat), k ≤ 16 → 16 - k < n → K (ssum (bt x) 16) → l_M_bits_4 x K n (ssum (bt x) k) k := by
  intro n
  induction n with
  | zero => intro k h1 h2; omega
  | succ n ih =>
    intro k h1 h2 hK
    unfold l_M_bits_4
    have hb := ssum_bd (g := bt x) k (fun i _ _ => bt_bd x i)
    have hb2 := bt_bd x k
    refine ⟨fun c => ?_, fun c => ?_⟩
    · have e : k = 16 := by omega
      subst e
      exact hK
    · rw [bt_div]
      refine ⟨by omega, by omega, ?_⟩
      rintro _ rfl
      refine fun _ => ⟨by omega, ?_⟩
      exact ih (k + 1) (by omega) (by omega) hK
theorem p_bits {x : Int} {K : Int → Prop} (hK : K (ssum (bt x) 16)) : w_M_bits x K := ⟨17, p_bits_in 17 0 (by omega) (by omega) hK⟩
theorem p_proofsOf_in {t : Int} {T : St} {K : Int → Prop} (ht : 0 ≤ t ∧ t ≤ 31) (hb : 0 ≤ aI T 0 1 ∧ aI T 0 1 ≤ 16) : ∀ (n : Nat) (k : Nat), (k : Int) ≤ aI T 0 1 → aI T 0 1 - k < n → K (ssum (fun b => bt (aI T 0 (35 + 6 * b)) t) (aI T 0 1).toNat) → l_M_proofsOf_4 t T K n (ssum (fun b => bt (aI T 0 (35 + 6 * b)) t) k) k := by
  intro n
  induction n with
  | zero => intro k h1 h2; omega
  | succ n ih =>
    intro k h1 h2 hK
    unfold l_M_proofsOf_4
    have hs := ssum_bd (g := fun b => bt (aI T 0 (35 + 6 * b)) t) k (fun i _ _ => bt_bd _ _)
    refine fun _ => ⟨fun c => ?_, fun c => p_boneAt (by omega) (fun _ => ⟨by omega, by omega, fun _ => ⟨ht, ?_⟩⟩)⟩
    · rw [show k = (aI T 0 1).toNat by omega]
      exact hK
    · rw [bt_div, show 30 + 6 * (k : Int) + 5 = 35 + 6 * (k : Int) by omega]
      have hb2 := bt_bd (aI T 0 (35 + 6 * (k : Int))) t
      refine ⟨by omega, ?_⟩
      rintro _ rfl
      exact fun _ => ⟨by omega, ih (k + 1) (by omega) (by omega) hK⟩
theorem p_proofsOf {t : Int} {T : St} {K : Int → Prop} (ht : 0 ≤ t ∧ t ≤ 31) (hb : 0 ≤ aI T 0 1 ∧ aI T 0 1 ≤ 16) (hK : K (ssum (fun b => bt (aI T 0 (35 + 6 * b)) t) (aI T 0 1).toNat)) : w_M_proofsOf t T K := ⟨18, p_proofsOf_in ht hb 18 0 (by omega) (by omega) hK⟩
theorem pX_proofsOf_in {b : Int} {S : St} {K : Int → Prop} (hb : 0 ≤ b ∧ b ≤ 31) (ht : 0 ≤ aI S 0 0 ∧ aI S 0 0 ≤ 10) : ∀ (n : Nat) (k : Nat), (k : Int) ≤ aI S 0 0 → aI S 0 0 - k < n → K (ssum (fun t => bt (aI S 3 (80 + t)) b) (aI S 0 0).toNat) → l_X_proofsOf_4 b S K n (ssum (fun t => bt (aI S 3 (80 + t)) b) k) k := by
  intro n
  induction n with
  | zero => intro k h1 h2; omega
  | succ n ih =>
    intro k h1 h2 hK
    unfold l_X_proofsOf_4
    have hs := ssum_bd (g := fun t => bt (aI S 3 (80 + t)) b) k (fun i _ _ => bt_bd _ _)
    refine fun _ => ⟨fun c => ?_, fun c => ?_⟩
    · rw [show k = (aI S 0 0).toNat by omega]
      exact hK
    · unfold w_X_hasProof
      have ih' := ih (k + 1) (by omega) (by omega) hK
      refine ⟨by omega, by omega, fun _ => ⟨hb, fun c _ => ⟨fun _ => ?_, fun n => absurd rfl n⟩, fun c _ => ⟨fun n => absurd n (by decide), fun _ => ?_⟩⟩⟩
      · rw [bt_div] at c
        have e : bt (aI S 3 (80 + (k : Int))) b = 0 := by rcases bt_01 (aI S 3 (80 + (k : Int))) b with h | h <;> omega
        unfold j_X_proofsOf_32
        refine ⟨by omega, ?_⟩
        rintro _ rfl
        refine fun _ => ⟨by omega, ?_⟩
        rw [show ssum (fun t => bt (aI S 3 (80 + t)) b) k + 0 = ssum (fun t => bt (aI S 3 (80 + t)) b) (k + 1) by show _ = _ + bt _ _; rw [e]]
        exact ih'
      · rw [bt_div] at c
        unfold j_X_proofsOf_32
        refine ⟨by omega, ?_⟩
        rintro _ rfl
        refine fun _ => ⟨by omega, ?_⟩
        rw [show ssum (fun t => bt (aI S 3 (80 + t)) b) k + 1 = ssum (fun t => bt (aI S 3 (80 + t)) b) (k + 1) by show _ = _ + bt _ _; rw [c]]
        exact ih'
theorem pX_proofsOf {b : Int} {S : St} {K : Int → Prop} (hb : 0 ≤ b ∧ b ≤ 31) (ht : 0 ≤ aI S 0 0 ∧ aI S 0 0 ≤ 10) (hK : K (ssum (fun t => bt (aI S 3 (80 + t)) b) (aI S 0 0).toNat)) : w_X_proofsOf b S K := ⟨12, pX_proofsOf_in hb ht 12 0 (by omega) (by omega) hK⟩
theorem nowA.proof {S T : St} (h : nowA S T) {b t : Int} (b0 : 0 ≤ b) (b1 : b < aI S 0 1) (t0 : 0 ≤ t) (t1 : t < aI S 0 0) : bt (aI T 0 (35 + 6 * b)) t = bt (aI S 3 (80 + t)) b := by
  have e := (h.2.2.1.2.1 b b0 b1).2.2.2 t t0 t1
  dsimp only at e
  rw [show 31 + 6 * b + 4 = 35 + 6 * b by omega] at e
  exact e
theorem nowA.proofs {S T : St} (h : nowA S T) {b : Int} (b0 : 0 ≤ b) (b1 : b < aI S 0 1) : 0 ≤ aI T 0 (35 + 6 * b) ∧ aI T 0 (35 + 6 * b) < 2 ^ (aI S 0 0).toNat := by
  have e := (h.2.2.1.2.1 b b0 b1).2
  dsimp only at e
  rw [show 31 + 6 * b + 4 = 35 + 6 * b by omega] at e
  exact ⟨e.1, e.2.1⟩
theorem nowA.count {S T : St} (h : nowA S T) {b : Int} (b0 : 0 ≤ b) (b1 : b < aI S 0 1) : ssum (bt (aI T 0 (35 + 6 * b))) 16 = ssum (fun t => bt (aI S 3 (80 + t)) b) (aI S 0 0).toNat := by
  obtain ⟨⟨a0, a1, a2⟩, -⟩ := h.nums
  obtain ⟨p1, p2⟩ := h.proofs b0 b1
  rw [bsum_small p1 p2 (by omega)]
  exact ssum_congr _ (fun t t0 t1 => h.proof b0 b1 t0 (by omega))
theorem nowA.countT {S T : St} (h : nowA S T) {t : Int} (t0 : 0 ≤ t) (t1 : t < aI S 0 0) : ssum (bt (aI S 3 (80 + t))) 16 = ssum (fun b => bt (aI T 0 (35 + 6 * b)) t) (aI T 0 1).toNat := by
  obtain ⟨⟨a0, a1, a2⟩, ⟨b0, b1, b2⟩, -⟩ := h.nums
  obtain ⟨p1, p2, -⟩ := h.2.2.1.2.2.2.2 t t0 (by omega)
  rw [bsum_small p1 p2 (by omega), b0]
  exact ssum_congr _ (fun b q0 q1 => (h.proof q0 (by omega) t0 t1).symm)
/-- bitCount of the JDK, on 16 bits: by looking at all of them -/
def pcN : Nat → Nat → Nat
  | 0, _ => 0
  | k + 1, x => Nat.add (Nat.mod x 2) (pcN k (Nat.div x 2))
def bcN (x : Nat) : Nat :=
  let v2 := Nat.sub x (Nat.land (Nat.shiftRight x 1) 1431655765)
  let v4 := Nat.add (Nat.land v2 858993459) (Nat.land (Nat.shiftRight v2 2) 858993459)
  let v6 := Nat.land (Nat.add v4 (Nat.shiftRight v4 4)) 252645135
  let v8 := Nat.add v6 (Nat.shiftRight v6 8)
  Nat.mod (Nat.add v8 (Nat.shiftRight v8 16)) 64
def bcOk : Nat → Bool
  | 0 => true
  | n + 1 => Nat.beq (bcN n) (pcN 16 n) && bcOk n
theorem pcN_sum : ∀ (k : Nat) (x : Nat) (i : Nat), ssum (fun j => bt (x : Int) (j + i)) k = (pcN k (x / 2 ^ i) : Nat) := by
  intro k
  induction k with
  | zero => intro x i; rfl
  | succ k ih =>
    intro x i
    have e1 : ∀ (m : Nat) (g : Int → Int), ssum g (m + 1) = g 0 + ssum (fun j => g (j + 1)) m := by
      intro m
      induction m with
      | zero => intro g; show 0 + g 0 = g 0 + 0; omega
      | succ m ihm =>
        intro g
        show ssum g (m + 1) + g (m + 1 : Nat) = g 0 + (ssum (fun j => g (j + 1)) m + g ((m : Int) + 1))
        rw [ihm g, show ((m + 1 : Nat) : Int) = (m : Int) + 1 by omega]
        omega
    rw [e1]
    have e2 := ih x (i + 1)
    have e3 : (fun j : Int => bt (x : Int) (j + 1 + (i : Int))) = fun j : Int => bt (x : Int) (j + ((i + 1 : Nat) : Int)) := by
      funext j
      congr 1
      omega
    show bt (x : Int) (0 + (i : Int)) + ssum (fun j => bt (x : Int) (j + 1 + (i : Int))) k = _
    rw [e3, e2, Int.zero_add]
    show _ = ((Nat.add (Nat.mod (x / 2 ^ i) 2) (pcN k (Nat.div (x / 2 ^ i) 2)) : Nat) : Int)
    have e4 : Nat.div (x / 2 ^ i) 2 = x / 2 ^ (i + 1) := by
      show x / 2 ^ i / 2 = _
      rw [Nat.div_div_eq_div_mul, Nat.pow_succ]
    rw [e4]
    have e5 : bt (x : Int) (i : Int) = ((Nat.mod (x / 2 ^ i) 2 : Nat) : Int) := by
      unfold bt
      rw [Int.toNat_natCast]
      show _ = ((x / 2 ^ i % 2 : Nat) : Int)
      push_cast
      rfl
    rw [e5]
    rfl
theorem bsum_nat (x : Nat) : ssum (bt (x : Int)) 16 = (pcN 16 x : Nat) := by
  have e := pcN_sum 16 x 0
  rw [Nat.pow_zero, Nat.div_one] at e
  rw [← e]
  exact ssum_congr _ (fun j _ _ => by show bt _ j = bt _ (j + 0); rw [Int.add_zero])
