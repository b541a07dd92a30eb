/-! PURE: chance -/
def fac : Nat → Nat
  | 0 => 1
  | n + 1 => (n + 1) * fac n
def bin (n k : Nat) : Nat := fac n / (fac k * fac (n - k))
theorem bin_up : ∀ n, n ≤ 20 → ∀ k, k ≤ n → bin n k * (n - k) / (k + 1) = if k < n then bin n (k + 1) else 0 := by decide +kernel
theorem bin_in : ∀ m, m ≤ 20 → ∀ i, i < m → bin m i * (m + 1) / (i + 1) = if m + 1 ≤ 20 then bin (m + 1) (i + 1) else bin m i * (m + 1) / (i + 1) := by decide +kernel
theorem bin_dg : ∀ m, m ≤ 20 → bin m m = 1 ∧ bin m 0 = 1 := by decide +kernel
theorem bin_bd : ∀ n, n ≤ 20 → ∀ k, k ≤ n → bin n k ≤ 184756 := by decide +kernel
theorem bin_b2 : ∀ n, n ≤ 20 → ∀ k, k ≤ n → ∀ c, c ≤ 6 → bin n k * c ^ k ≤ 9000000000000000000 ∧ bin n k * c ^ k * (6 - c) ^ (n - k) ≤ 3656158440062976 := by decide +kernel
def term (n c j : Nat) : Nat := bin n j * c ^ j * (6 - c) ^ (n - j)
def ts (n h c : Nat) : Nat → Nat
  | 0 => 0
  | k + 1 => ts n h c k + (if h ≤ k then term n c k else 0)
theorem ts_bd {n h c : Nat} (hn : n ≤ 20) (hc : c ≤ 6) : ∀ (k : Nat), k ≤ n + 1 → ts n h c k ≤ k * 3656158440062976 := by
  intro k
  induction k with
  | zero => intro _; exact Nat.le_refl 0
  | succ k ih =>
    intro hk
    have h1 := ih (by omega)
    have h2 := (bin_b2 n hn k (by omega) c hc).2
    show ts n h c k + (if h ≤ k then term n c k else 0) ≤ _
    have h3 : (if h ≤ k then term n c k else 0) ≤ 3656158440062976 := by
      by_cases q : h ≤ k
      · rw [if_pos q]
        exact h2
      · rw [if_neg q]
        exact Nat.zero_le _
    rw [Nat.succ_mul]
    exact Nat.add_le_add h1 h3
theorem ts_low {n h c : Nat} : ∀ (k : Nat), k ≤ h → ts n h c k = 0 := by
  intro k
  induction k with
  | zero => intro _; rfl
  | succ k ih =>
    intro hk
    show ts n h c k + (if h ≤ k then term n c k else 0) = 0
    rw [ih (by omega), if_neg (by omega)]
theorem six_pow {a j : Nat} (ha : a ≤ 6) (hj : j ≤ 20) : a ^ j ≤ 3656158440062976 := by
  have h1 : a ^ j ≤ 6 ^ j := Nat.pow_le_pow_left ha j
  have h2 : 6 ^ j ≤ 6 ^ 20 := Nat.pow_le_pow_right (by decide) hj
  have h3 : 6 ^ 20 = 3656158440062976 := by decide
  omega
theorem pX_power {a m : Nat} {K : Int → Prop} (ha : a ≤ 6) (hm : m ≤ 20) (hK : K ((a ^ m : Nat) : Int)) : w_X_power a m K := by
  refine ⟨m + 1, ?_⟩
  have g : ∀ (n k : Nat), k ≤ m → m - k < n → l_X_power_5 a m K n ((a ^ k : Nat) : Int) k := by
    intro n
    induction n with
    | zero => intro k h1 h2; omega
    | succ n ih =>
      intro k h1 h2
      unfold l_X_power_5
      refine ⟨fun c => ?_, fun c => ?_⟩
      · have e : k = m := by omega
        rw [e]
        exact hK
      · have e : ((a ^ k : Nat) : Int) * (a : Int) = ((a ^ (k + 1) : Nat) : Int) := by
          rw [Nat.pow_succ]
          push_cast
          rfl
        have b := six_pow (a := a) (j := k + 1) ha (by omega)
        rw [e]
        refine ⟨by omega, ?_⟩
        rintro _ rfl
        exact fun _ => ⟨by omega, ih (k + 1) (by omega) (by omega)⟩
  exact g (m + 1) 0 (by omega) (by omega)
theorem pM_power {a m : Nat} {K : Int → Prop} (ha : a ≤ 6) (hm : m ≤ 20) (hK : K ((a ^ m : Nat) : Int)) : w_M_power a m K := by
  refine ⟨m + 1, ?_⟩
  have g : ∀ (n k : Nat), k ≤ m → m - k < n → l_M_power_5 a m K n ((a ^ k : Nat) : Int) k := by
    intro n
    induction n with
    | zero => intro k h1 h2; omega
    | succ n ih =>
      intro k h1 h2
      unfold l_M_power_5
      refine ⟨fun c => ?_, fun c => ?_⟩
      · have e : k = m := by omega
        rw [e]
        exact hK
      · have e : ((a ^ k : Nat) : Int) * (a : Int) = ((a ^ (k + 1) : Nat) : Int) := by
          rw [Nat.pow_succ]
          push_cast
          rfl
        have b := six_pow (a := a) (j := k + 1) ha (by omega)
        rw [e]
        refine ⟨by omega, ?_⟩
        rintro _ rfl
        exact fun _ => ⟨by omega, ih (k + 1) (by omega) (by omega)⟩
  exact g (m + 1) 0 (by omega) (by omega)
theorem pM_choices {n k : Nat} {K : Int → Prop} (hn : n ≤ 20) (hk : k ≤ n) (hK : K ((bin n k : Nat) : Int)) : w_M_choices n k K := by
  refine ⟨k + 1, ?_⟩
  have g : ∀ (m i : Nat), i ≤ k → k - i < m → l_M_choices_5 n k K m ((bin (n - k + i) i : Nat) : Int) ((i : Int) + 1) := by
    intro m
    induction m with
    | zero => intro i h1 h2; omega
    | succ m ih =>
      intro i h1 h2
      unfold l_M_choices_5
      refine ⟨fun c => ?_, fun c => ?_⟩
      · have e : i = k := by omega
        rw [e, show n - k + k = n by omega]
        exact hK
      · have b := bin_bd (n - k + i) (by omega) i (by omega)
        have e1 : ((n : Int) - (k : Int)) + ((i : Int) + 1) = ((n - k + i + 1 : Nat) : Int) := by omega
        have e2 : ((bin (n - k + i) i : Nat) : Int) * ((n - k + i + 1 : Nat) : Int) = ((bin (n - k + i) i * (n - k + i + 1) : Nat) : Int) := by push_cast; rfl
        have b2 : bin (n - k + i) i * (n - k + i + 1) ≤ 184756 * 21 := Nat.mul_le_mul b (by omega)
        have e3 : Int.tdiv ((bin (n - k + i) i * (n - k + i + 1) : Nat) : Int) ((i : Int) + 1) = ((bin (n - k + (i + 1)) (i + 1) : Nat) : Int) := by
          have z : bin (n - k + i) i * (n - k + i + 1) / (i + 1) = bin (n - k + (i + 1)) (i + 1) := by
            by_cases d : n - k = 0
            · rw [d, Nat.zero_add, Nat.zero_add, (bin_dg i (by omega)).1, (bin_dg (i + 1) (by omega)).1, Nat.one_mul]
              exact Nat.div_self (by omega)
            · rw [bin_in (n - k + i) (by omega) i (by omega), if_pos (by omega)]
              rfl
          rw [← z]
          exact Int.ofNat_tdiv _ _ |>.symm
        have b3 := bin_bd (n - k + (i + 1)) (by omega) (i + 1) (by omega)
        rw [e1, e2]
        refine ⟨by omega, by omega, by omega, by omega, ?_⟩
        rw [e3]
        refine ⟨by omega, ?_⟩
        rintro _ rfl
        refine fun _ => ⟨by omega, ?_⟩
        exact ih (i + 1) (by omega) (by omega)
  have := g (k + 1) 0 (by omega) (by omega)
  have e : bin (n - k + 0) 0 = 1 := (bin_dg (n - k) (by omega)).2
  rw [e] at this
  exact this
/-- Euclid: how long -/
def fb : Nat → Nat
  | 0 => 1
  | 1 => 2
  | n + 2 => fb (n + 1) + fb n
theorem fb_pos : ∀ n, 1 ≤ fb n ∧ 1 ≤ fb (n + 1) := by
  intro n
  induction n with
  | zero => exact ⟨by decide, by decide⟩
  | succ n ih => exact ⟨ih.2, by show 1 ≤ fb (n + 1) + fb n; omega⟩
theorem euclid {P : Nat → Nat → Nat → Prop} (h0 : ∀ d a, P (d + 1) a 0) (hs : ∀ d a b, b ≠ 0 → P d b (a % b) → P (d + 1) a b) : ∀ (d : Nat), (∀ a b, b < fb d → P (d + 1) a b) ∧ (∀ a b, b < fb (d + 1) → P (d + 2) a b) := by
  intro d
  induction d with
  | zero =>
    constructor
    · intro a b hb
      have : b = 0 := by have hb : b < 1 := hb; omega
      subst this
      exact h0 0 a
    · intro a b hb
      have hb : b < 2 := hb
      by_cases c : b = 0
      · subst c
        exact h0 1 a
      · refine hs 1 a b c ?_
        have : a % b = 0 := by
          have : b = 1 := by omega
          subst this
          omega
        rw [this]
        exact h0 0 b
  | succ d ih =>
    refine ⟨ih.2, fun a b hb => ?_⟩
    have hb : b < fb (d + 1) + fb d := hb
    by_cases c : b = 0
    · subst c
      exact h0 _ a
    · refine hs _ a b c ?_
      have hr := Nat.mod_lt a (show b > 0 by omega)
      by_cases c2 : a % b < fb (d + 1)
      · exact ih.2 b (a % b) c2
      · have p := fb_pos d
        refine hs _ b (a % b) (by omega) (ih.1 (a % b) (b % (a % b)) ?_)
        have h1 := Nat.mod_lt b (show a % b > 0 by omega)
        have h2 : b % (a % b) ≤ b - a % b := by
          have : b % (a % b) = (b - a % b) % (a % b) := Nat.mod_eq_sub_mod (by omega)
          rw [this]
          exact Nat.mod_le _ _
        omega
theorem gcd_step (a b : Nat) : Nat.gcd b (a % b) = Nat.gcd a b := by
  rw [Nat.gcd_comm b (a % b), ← Nat.gcd_rec b a, Nat.gcd_comm]
theorem pX_common {a b : Nat} {K : Int → Prop} (ha : a ≤ 1000000000000000000) (hb : b ≤ 100000000000000000) (hK : K ((Nat.gcd a b : Nat) : Int)) : ∃ d, d ≤ 100 ∧ w_X_common d a b K := by
  have e := (euclid (P := fun d a b => a ≤ 1000000000000000000 → b ≤ 100000000000000000 → ∀ K : Int → Prop, K ((Nat.gcd a b : Nat) : Int) → w_X_common d a b K) ?_ ?_ 84).1 a b (by
    have : fb 84 = 420196140727489673 := by decide +kernel
    omega) ha hb K hK
  · exact ⟨85, by omega, e⟩
  · intro d a _ _ K hK
    rw [Nat.gcd_zero_right] at hK
    exact ⟨fun c => absurd rfl c, fun _ => hK⟩
  · intro d a b hb ih ha hb2 K hK
    have e1 : Int.tmod (a : Int) (b : Int) = ((a % b : Nat) : Int) := by
      rw [Int.tmod_eq_emod_of_nonneg (by omega)]
      push_cast
      rfl
    have hr := Nat.mod_lt a (show b > 0 by omega)
    refine ⟨fun _ => ⟨by omega, ?_⟩, fun c => absurd c (by omega)⟩
    rw [e1]
    refine ⟨by omega, ih (by omega) (by omega) _ (fun _ => ?_)⟩
    rw [gcd_step]
    exact hK
theorem pM_common {a b : Nat} {K : Int → Prop} (ha : a ≤ 1000000000000000000) (hb : b ≤ 100000000000000000) (hK : K ((Nat.gcd a b : Nat) : Int)) : w_M_common a b K := by
  have e := (euclid (P := fun d a b => a ≤ 1000000000000000000 → b ≤ 100000000000000000 → ∀ K : Int → Prop, K ((Nat.gcd a b : Nat) : Int) → l_M_common_6 K d a b) ?_ ?_ 84).1 a b (by
    have : fb 84 = 420196140727489673 := by decide +kernel
    omega) ha hb K hK
  · exact ⟨85, e⟩
  · intro d a _ _ K hK
    rw [Nat.gcd_zero_right] at hK
    exact ⟨fun _ => hK, fun c => absurd rfl c⟩
  · intro d a b hb ih ha hb2 K hK
    have e1 : Int.tmod (a : Int) (b : Int) = ((a % b : Nat) : Int) := by
      rw [Int.tmod_eq_emod_of_nonneg (by omega)]
      push_cast
      rfl
    have hr := Nat.mod_lt a (show b > 0 by omega)
    refine ⟨fun c => absurd c (by omega), fun _ => ⟨by omega, ?_⟩⟩
    rw [e1]
    refine ⟨by omega, ?_⟩
    rintro _ rfl
    refine fun _ => ih (by omega) (by omega) _ ?_
    rw [gcd_step]
    exact hK
theorem law_chance {S T : St} {n h c w : Int} {K : Int → Prop} (hK : ∀ r, (∀ K' : Int → Prop, K' r → w_M_chance n h c w T K') → K r) : w_X_chance n h c w S K := by
  have no : ¬ ((0 ≤ n ∧ n ≤ 20) ∧ (0 ≤ h ∧ h ≤ n) ∧ (0 ≤ c ∧ c ≤ 6) ∧ (0 ≤ w ∧ w ≤ 1)) → K (-1) := by
    intro hc
    refine hK _ (fun K' hk => ?_)
    unfold w_M_chance
    refine p_isIn (fun _ _ => br1 ?_) (fun _ => br0 hk)
    refine p_isIn (fun _ _ => br1 ?_) (fun _ => br0 hk)
    refine p_isIn (fun _ _ => br1 ?_) (fun _ => br0 hk)
    exact p_isIn (fun _ _ => absurd (by omega) hc) (fun _ => br0r hk)
  unfold w_X_chance
  refine p_in (fun n0 n1 => br1 ?_) (fun q => br0 (no (by omega)))
  refine p_in (fun h0 h1 => br1 ?_) (fun q => br0 (no (by omega)))
  refine p_in (fun c0 c1 => br1 ?_) (fun q => br0 (no (by omega)))
  refine p_in (fun w0 w1 => br1r ?_) (fun q => br0r (no (by omega)))
  obtain ⟨N, rfl⟩ := Int.eq_ofNat_of_zero_le n0
  obtain ⟨A, rfl⟩ := Int.eq_ofNat_of_zero_le h0
  obtain ⟨C, rfl⟩ := Int.eq_ofNat_of_zero_le c0
  have hN : N ≤ 20 := by omega
  have hC : C ≤ 6 := by omega
  have hA : A ≤ N := by omega
  have s6 : (6 : Int) - (C : Int) = ((6 - C : Nat) : Int) := by omega
  have p6 := six_pow (a := 6) (j := N) (by omega) hN
  have p60 : 0 < 6 ^ N := Nat.pow_pos (by decide)
  have tb := ts_bd (n := N) (h := A) (c := C) hN hC (N + 1) (Nat.le_refl _)
  have tb2 : ts N A C (N + 1) ≤ 76779327241322496 := Nat.le_trans tb (by
    have : (N + 1) * 3656158440062976 ≤ 21 * 3656158440062976 := Nat.mul_le_mul_right _ (by omega)
    exact this)
  -- a term on either side
  have tm : ∀ k, k ≤ N → ((bin N k : Nat) : Int) * ((C ^ k : Nat) : Int) = ((bin N k * C ^ k : Nat) : Int) ∧ ((bin N k * C ^ k : Nat) : Int) * (((6 - C) ^ (N - k) : Nat) : Int) = ((term N C k : Nat) : Int) := by
    intro k hk
    constructor
    · push_cast
      rfl
    · unfold term
      push_cast
      rfl
  have g : ∀ (m k : Nat), k ≤ N + 1 → N + 1 - k < m → (ts N A C (N + 1) = ts N A C (N + 1)) → l_X_chance_52 N A C w S K (fun z7 => j_X_chance_115 N w z7 S K) m ((if k ≤ N then bin N k else 0 : Nat) : Int) ((ts N A C k : Nat) : Int) k := by
    intro m
    induction m with
    | zero => intro k k0 k1; omega
    | succ m ih =>
      intro k k0 k1 _
      unfold l_X_chance_52
      refine ⟨fun q => ?_, fun q => ?_⟩
      · rw [show k = N + 1 by omega]
        unfold j_X_chance_115
        refine pX_power (a := 6) (by omega) hN (fun _ => ?_)
        have fin : (fun (r3 : Int) => InL r3 → ((¬ w = 0 → ¬ r3 = 0 ∧ (InL (Int.tdiv ((6 ^ N : Nat) : Int) r3) ∧ (K (Int.tdiv ((6 ^ N : Nat) : Int) r3)))) ∧ (w = 0 → ¬ r3 = 0 ∧ (InL (Int.tdiv ((ts N A C (N + 1) : Nat) : Int) r3) ∧ (K (Int.tdiv ((ts N A C (N + 1) : Nat) : Int) r3)))))) ((Nat.gcd (6 ^ N) (ts N A C (N + 1)) : Nat) : Int) := by
          have gp := Nat.gcd_pos_of_pos_left (ts N A C (N + 1)) p60
          obtain ⟨G, hG⟩ : ∃ G, G = Nat.gcd (6 ^ N) (ts N A C (N + 1)) := ⟨_, rfl⟩
          obtain ⟨y1, hy1⟩ : ∃ y, y = 6 ^ N / G := ⟨_, rfl⟩
          obtain ⟨y2, hy2⟩ : ∃ y, y = ts N A C (N + 1) / G := ⟨_, rfl⟩
          rw [← hG] at gp
          have d1 : Int.tdiv ((6 ^ N : Nat) : Int) (G : Int) = (y1 : Int) := by rw [hy1]; exact (Int.ofNat_tdiv _ _).symm
          have d2 : Int.tdiv ((ts N A C (N + 1) : Nat) : Int) (G : Int) = (y2 : Int) := by rw [hy2]; exact (Int.ofNat_tdiv _ _).symm
          have d3 : y1 ≤ 6 ^ N := by rw [hy1]; exact Nat.div_le_self _ _
          have d4 : y2 ≤ ts N A C (N + 1) := by rw [hy2]; exact Nat.div_le_self _ _
          have hG2 : Nat.gcd (ts N A C (N + 1)) (6 ^ N) = G := by rw [hG, Nat.gcd_comm]
          rw [← hG]
          have ans : ∀ (r : Int), r = (if w = 0 then (y2 : Int) else (y1 : Int)) → K r := by
            intro r hr
            refine hK _ (fun K' hk => ?_)
            unfold w_M_chance
            refine p_isIn (fun _ _ => br1 ?_) (fun z => absurd (by omega) z)
            refine p_isIn (fun _ _ => br1 ?_) (fun z => absurd (by omega) z)
            refine p_isIn (fun _ _ => br1 ?_) (fun z => absurd (by omega) z)
            refine p_isIn (fun _ _ => br1r ?_) (fun z => absurd (by omega) z)
            refine ⟨N + 2, ?_⟩
            have gm : ∀ (m k : Nat), A ≤ k → k ≤ N + 1 → N + 1 - k < m → l_M_chance_49 N C w T K' (fun z5 => j_M_chance_91 N w z5 T K') m ((ts N A C k : Nat) : Int) k := by
              intro m
              induction m with
              | zero => intro k k0 k1 k2; omega
              | succ m ihm =>
                intro k k0 k1 k2
                unfold l_M_chance_49
                refine ⟨fun q => ?_, fun q => ?_⟩
                · rw [show k = N + 1 by omega]
                  unfold j_M_chance_91
                  refine pM_power (a := 6) (by omega) hN (fun _ => ⟨fun wz => pM_common (by omega) (by omega) (fun _ => ?_), fun wz => pM_common (by omega) (by omega) (fun _ => ?_)⟩)
                  · rw [hG2, d1]
                    rw [if_neg wz] at hr
                    rw [← hr]
                    exact ⟨by omega, by omega, hk⟩
                  · rw [hG2, d2]
                    rw [if_pos wz] at hr
                    rw [← hr]
                    exact ⟨by omega, by omega, hk⟩
                · have kN : k ≤ N := by omega
                  obtain ⟨t1, t2⟩ := tm k kN
                  have b2 := bin_b2 N hN k kN C hC
                  have b3 : term N C k ≤ 3656158440062976 := b2.2
                  have tk := ts_bd (n := N) (h := A) (c := C) hN hC k (by omega)
                  have tk2 : ts N A C k ≤ 76779327241322496 := Nat.le_trans tk (by
                    have : k * 3656158440062976 ≤ 21 * 3656158440062976 := Nat.mul_le_mul_right _ (by omega)
                    exact this)
                  refine pM_choices hN kN (fun _ => pM_power hC (by omega) (fun _ => ?_))
                  rw [t1]
                  refine ⟨by omega, by omega, by omega, ?_⟩
                  rw [s6, show (N : Int) - (k : Int) = ((N - k : Nat) : Int) by omega]
                  refine pM_power (by omega) (by omega) (fun _ => ?_)
                  rw [t2]
                  refine ⟨by omega, by omega, ?_⟩
                  rintro _ rfl
                  refine fun _ => ⟨by omega, ?_⟩
                  have e : ((ts N A C k : Nat) : Int) + ((term N C k : Nat) : Int) = ((ts N A C (k + 1) : Nat) : Int) := by
                    show _ = ((ts N A C k + (if A ≤ k then term N C k else 0) : Nat) : Int)
                    rw [if_pos k0]
                    push_cast
                    rfl
                  rw [e]
                  exact ihm (k + 1) (by omega) (by omega) (by omega)
            have z := gm (N + 2) A (Nat.le_refl _) (by omega) (by omega)
            rw [ts_low A (Nat.le_refl _)] at z
            exact z
          refine fun _ => ⟨fun wz => ⟨by omega, ?_⟩, fun wz => ⟨by omega, ?_⟩⟩
          · rw [d1]
            exact ⟨by omega, ans _ (by rw [if_neg wz])⟩
          · rw [d2]
            exact ⟨by omega, ans _ (by rw [if_pos wz])⟩
        exact pX_common (by omega) (by omega) fin
      · have kN : k ≤ N := by omega
        obtain ⟨t1, t2⟩ := tm k kN
        have b1 := bin_bd N hN k kN
        have b2 := bin_b2 N hN k kN C hC
        have b3 : term N C k ≤ 3656158440062976 := b2.2
        have tk := ts_bd (n := N) (h := A) (c := C) hN hC k (by omega)
        have tk2 : ts N A C k ≤ 76779327241322496 := Nat.le_trans tk (by
          have : k * 3656158440062976 ≤ 21 * 3656158440062976 := Nat.mul_le_mul_right _ (by omega)
          exact this)
        have nx : ∀ (s : Nat), s = ts N A C (k + 1) → j_X_chance_93 N A C w ((if k ≤ N then bin N k else 0 : Nat) : Int) ((s : Nat) : Int) k S K (fun z7 => j_X_chance_115 N w z7 S K) (l_X_chance_52 N A C w S K (fun z7 => j_X_chance_115 N w z7 S K) m) := by
          intro s hs
          unfold j_X_chance_93
          rw [if_pos kN, show (N : Int) - (k : Int) = ((N - k : Nat) : Int) by omega]
          have e2 : ((bin N k : Nat) : Int) * ((N - k : Nat) : Int) = ((bin N k * (N - k) : Nat) : Int) := by push_cast; rfl
          have m2 : bin N k * (N - k) ≤ 184756 * 20 := Nat.mul_le_mul b1 (by omega)
          have e3 : Int.tdiv ((bin N k * (N - k) : Nat) : Int) ((k : Int) + 1) = ((if k + 1 ≤ N then bin N (k + 1) else 0 : Nat) : Int) := by
            have z := bin_up N hN k kN
            have e : (if k < N then bin N (k + 1) else 0) = (if k + 1 ≤ N then bin N (k + 1) else 0) := rfl
            rw [← e, ← z]
            exact (Int.ofNat_tdiv _ _).symm
          rw [e2]
          refine ⟨by omega, by omega, by omega, by omega, ?_⟩
          rw [e3]
          refine ⟨?_, ?_⟩
          · by_cases q2 : k + 1 ≤ N
            · rw [if_pos q2]
              have := bin_bd N hN (k + 1) q2
              omega
            · rw [if_neg q2]
              omega
          · rintro _ rfl
            intro _
            rw [hs]
            exact ih (k + 1) (by omega) (by omega) rfl
        refine ⟨fun q2 => ?_, fun q2 => ?_⟩
        · refine nx (ts N A C k) ?_
          show _ = ts N A C k + (if A ≤ k then term N C k else 0)
          rw [if_neg (by omega)]
          rfl
        · refine pX_power hC (by omega) (fun _ => ?_)
          rw [if_pos kN]
          rw [t1, s6]
          refine ⟨by omega, by omega, ?_⟩
          rw [show (N : Int) - (k : Int) = ((N - k : Nat) : Int) by omega]
          refine ⟨by omega, pX_power (by omega) (by omega) (fun _ => ?_)⟩
          rw [t2]
          refine ⟨by omega, by omega, ?_⟩
          rintro _ rfl
          intro _
          have e : ((ts N A C k : Nat) : Int) + ((term N C k : Nat) : Int) = ((ts N A C (k + 1) : Nat) : Int) := by
            show _ = ((ts N A C k + (if A ≤ k then term N C k else 0) : Nat) : Int)
            rw [if_pos (by omega)]
            push_cast
            rfl
          rw [e]
          have z := nx _ rfl
          rw [if_pos kN] at z
          exact z
  have z := g (N + 2) 0 (by omega) (by omega) rfl
  rw [if_pos (Nat.zero_le _), (bin_dg N hN).2] at z
  exact ⟨N + 2, z⟩
