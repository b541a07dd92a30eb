/-! PURE: what the model's methods compute -/
theorem br1 {A B : Prop} (h : B) : ((1 : Int) = 0 ∨ (1 : Int) = 1) → (((1 : Int) = 0 → A) ∧ (¬ (1 : Int) = 0 → B)) := fun _ => ⟨fun h => absurd h (by decide), fun _ => h⟩
theorem br0 {A B : Prop} (h : A) : ((0 : Int) = 0 ∨ (0 : Int) = 1) → (((0 : Int) = 0 → A) ∧ (¬ (0 : Int) = 0 → B)) := fun _ => ⟨fun _ => h, fun h => absurd rfl h⟩
theorem p_isIn {x lo hi : Int} {K : Int → Prop} (h1 : lo ≤ x → x ≤ hi → K 1) (h0 : ¬ (lo ≤ x ∧ x ≤ hi) → K 0) : w_M_isIn x lo hi K := by
  unfold w_M_isIn
  exact ⟨fun c => h0 (by omega), fun c => ⟨fun c2 => h0 (by omega), fun c2 => h1 (by omega) (by omega)⟩⟩
theorem p_isTown {x : Int} {S : St} {K : Int → Prop} (ht : 0 ≤ aI S 0 0 ∧ aI S 0 0 ≤ 10) (h1 : 0 ≤ x → x < aI S 0 0 → K 1) (h0 : ¬ (0 ≤ x ∧ x < aI S 0 0) → K 0) : w_M_isTown x S K := by
  unfold w_M_isTown
  intro r
  refine ⟨by omega, p_isIn (fun a b _ => h1 a (by omega)) (fun a _ => h0 (by omega))⟩
theorem p_isBone {x : Int} {S : St} {K : Int → Prop} (ht : 0 ≤ aI S 0 1 ∧ aI S 0 1 ≤ 16) (h1 : 0 ≤ x → x < aI S 0 1 → K 1) (h0 : ¬ (0 ≤ x ∧ x < aI S 0 1) → K 0) : w_M_isBone x S K := by
  unfold w_M_isBone
  intro r
  refine ⟨by omega, p_isIn (fun a b _ => h1 a (by omega)) (fun a _ => h0 (by omega))⟩
theorem p_boneAt {b : Int} {K : Int → Prop} (hb : -1000 ≤ b ∧ b ≤ 1000) (h : K (30 + 6 * b)) : w_M_boneAt b K := by
  unfold w_M_boneAt
  exact ⟨by omega, by omega, h⟩
theorem p_town {x y : Int} {S : St} {K : Int → St → Prop} (ht : 0 ≤ aI S 0 0 ∧ aI S 0 0 ≤ 10)
    (h1 : 0 ≤ x → x ≤ 99 → 0 ≤ y → y ≤ 99 → aI S 0 0 < 10 → K (aI S 0 0) (aset (aset (aset S 0 (10 + 2 * aI S 0 0) x) 0 (10 + 2 * aI S 0 0 + 1) y) 0 0 (aI S 0 0 + 1)))
    (h0 : ¬ (0 ≤ x ∧ x ≤ 99 ∧ 0 ≤ y ∧ y ≤ 99 ∧ aI S 0 0 < 10) → K (-1) S) : w_M_town x y S K := by
  unfold w_M_town
  refine p_isIn (fun a1 a2 => br1 ?_) (fun a => br0 (h0 (by omega)))
  refine p_isIn (fun a3 a4 => br1 ?_) (fun a => br0 (h0 (by omega)))
  intro r1
  refine ⟨fun c => ?_, fun c => h0 (by omega)⟩
  refine ⟨by omega, by omega, by omega, ?_⟩
  rintro _ rfl
  simp (disch := omega) only [aI_aset_i, aI_aset_s]
  intro r2
  refine ⟨by omega, by omega, by omega, by omega, ?_⟩
  rintro _ rfl
  simp (disch := omega) only [aI_aset_i, aI_aset_s]
  intro r3
  refine ⟨by omega, ?_⟩
  rintro _ rfl
  simp (disch := omega) only [aI_aset_i, aI_aset_s]
  intro r4
  refine ⟨by omega, ?_⟩
  have e : aI S 0 0 + 1 - 1 = aI S 0 0 := by omega
  rw [e]
  exact h1 a1 a2 a3 a4 (by omega)
/-- a whole array put -/
def aput (S : St) (k : Nat) (f : Int → Int) : St := (S.1, fun x y => if x = k then f y else S.2.1 x y, S.2.2)
theorem aI_aput (S : St) (k x : Nat) (f : Int → Int) (y : Int) : aI (aput S k f) x y = if x = k then f y else aI S x y := rfl
theorem aI_aput_s (S : St) (k : Nat) (f : Int → Int) (y : Int) : aI (aput S k f) k y = f y := by simp [aI_aput]
theorem aI_aput_n {S : St} {k x : Nat} {f : Int → Int} {y : Int} (h : x ≠ k) : aI (aput S k f) x y = aI S x y := by simp [aI_aput, h]
theorem fI_aput (S : St) (k : Nat) (f : Int → Int) : fI (aput S k f) = fI S := rfl
theorem rI_aput (S : St) (k : Nat) (f : Int → Int) : rI (aput S k f) = rI S := rfl
theorem gI_aput (S : St) (k : Nat) (f : Int → Int) : gI (aput S k f) = gI S := rfl
theorem aset_aput (S : St) (k : Nat) (f : Int → Int) (i v : Int) : aset (aput S k f) k i v = aput S k (fun y => if y = i then v else f y) := by
  unfold aset aput
  congr 2
  funext x y
  by_cases hx : x = k
  · subst hx
    by_cases hy : y = i <;> simp [hy]
  · simp [hx]
theorem aset_eq (S : St) (k : Nat) (i v : Int) : aset S k i v = aput S k (fun y => if y = i then v else aI S k y) := by
  unfold aset aput aI
  congr 2
  funext x y
  by_cases hx : x = k
  · subst hx
    by_cases hy : y = i <;> simp [hy]
  · simp [hx]
theorem aput_self (S : St) (k : Nat) : aput S k (aI S k) = S := by
  unfold aput aI
  have : (fun x y => if x = k then S.2.1 k y else S.2.1 x y) = S.2.1 := by
    funext x y
    by_cases hx : x = k
    · subst hx; simp
    · simp [hx]
  rw [this]
/-- the twin keeps all before a step -/
def kRec (f : Int → Int) (x : Int) : Int → Int := fun y => if y = x then f 2 else if y = x + 1 then f 1 else if x + 2 ≤ y ∧ y < x + 82 then f (31 + 6 * ((y - x - 2) / 5) + (y - x - 2) % 5) else f y
def kSh (f : Int → Int) : Int → Int := fun y => if 174 ≤ y ∧ y < 1732 then f (y + 82) else f y
def kA (f : Int → Int) : Int → Int := fun y => if y = 5 then (if f 5 = 20 then 20 else f 5 + 1) else if f 5 = 20 then kRec (kSh f) 1732 y else kRec f (174 + 82 * f 5) y
theorem p_keep_in {S : St} {K : St → Prop} {X : St → Prop} {x b : Int} (hx : 174 ≤ x ∧ x ≤ 1732) (hb : 0 ≤ b ∧ b < 16) : ∀ (n : Nat) (e : Int) (f : Int → Int), 0 ≤ e → e ≤ 5 → 5 - e < n →
    X (aput S 0 (fun y => if x + 2 + 5 * b + e ≤ y ∧ y < x + 2 + 5 * b + 5 then f (31 + 6 * b + (y - (x + 2 + 5 * b))) else f y)) → l_M_keep_106 x b K X n e (aput S 0 f) := by
  intro n
  induction n with
  | zero => intro e f h1 h2 h3; omega
  | succ n ih =>
    intro e f h1 h2 h3 hX
    unfold l_M_keep_106
    refine ⟨fun c => ?_, fun c => ?_⟩
    · have e5 : e = 5 := by omega
      subst e5
      have ef : (fun y => if x + 2 + 5 * b + 5 ≤ y ∧ y < x + 2 + 5 * b + 5 then f (31 + 6 * b + (y - (x + 2 + 5 * b))) else f y) = f := by
        funext y
        rw [if_neg (by omega)]
      rw [ef] at hX
      exact hX
    · refine ⟨by omega, by omega, by omega, by omega, p_boneAt (by omega) ?_⟩
      intro _
      refine ⟨by omega, by omega, by omega, ?_⟩
      intro _
      refine ⟨by omega, ?_⟩
      rintro _ rfl
      refine ⟨by omega, ?_⟩
      rw [aset_aput, aI_aput_s]
      refine ih (e + 1) _ (by omega) (by omega) (by omega) ?_
      have ef : (fun y => if x + 2 + 5 * b + (e + 1) ≤ y ∧ y < x + 2 + 5 * b + 5 then (fun y => if y = x + 2 + 5 * b + e then f (30 + 6 * b + 1 + e) else f y) (31 + 6 * b + (y - (x + 2 + 5 * b))) else (fun y => if y = x + 2 + 5 * b + e then f (30 + 6 * b + 1 + e) else f y) y) = (fun y => if x + 2 + 5 * b + e ≤ y ∧ y < x + 2 + 5 * b + 5 then f (31 + 6 * b + (y - (x + 2 + 5 * b))) else f y) := by
        funext y
        dsimp only
        by_cases c1 : y = x + 2 + 5 * b + e
        · rw [if_neg (by omega), if_pos c1, if_pos (by omega)]
          congr 1
          omega
        · by_cases c2 : x + 2 + 5 * b + (e + 1) ≤ y ∧ y < x + 2 + 5 * b + 5
          · rw [if_pos c2, if_neg (by omega), if_pos (by omega)]
          · rw [if_neg c2, if_neg c1, if_neg (by omega)]
      rw [ef]
      exact hX
theorem p_keep_out {S : St} {K : St → Prop} {X : St → Prop} {x : Int} (hx : 174 ≤ x ∧ x ≤ 1732) : ∀ (n : Nat) (b : Int) (f : Int → Int), 0 ≤ b → b ≤ 16 → 16 - b < n →
    X (aput S 0 (fun y => if x + 2 + 5 * b ≤ y ∧ y < x + 82 then f (31 + 6 * ((y - x - 2) / 5) + (y - x - 2) % 5) else f y)) → l_M_keep_98 x K X n b (aput S 0 f) := by
  intro n
  induction n with
  | zero => intro b f h1 h2 h3; omega
  | succ n ih =>
    intro b f h1 h2 h3 hX
    unfold l_M_keep_98
    refine ⟨fun c => ?_, fun c => ?_⟩
    · have e5 : b = 16 := by omega
      subst e5
      have ef : (fun y => if x + 2 + 5 * 16 ≤ y ∧ y < x + 82 then f (31 + 6 * ((y - x - 2) / 5) + (y - x - 2) % 5) else f y) = f := by
        funext y
        rw [if_neg (by omega)]
      rw [ef] at hX
      exact hX
    · refine ⟨6, p_keep_in hx (by omega) 6 0 f (by omega) (by omega) (by omega) ?_⟩
      unfold j_M_keep_144
      refine ⟨by omega, ?_⟩
      refine ih (b + 1) _ (by omega) (by omega) (by omega) ?_
      have ef : (fun y => if x + 2 + 5 * (b + 1) ≤ y ∧ y < x + 82 then (fun y => if x + 2 + 5 * b + 0 ≤ y ∧ y < x + 2 + 5 * b + 5 then f (31 + 6 * b + (y - (x + 2 + 5 * b))) else f y) (31 + 6 * ((y - x - 2) / 5) + (y - x - 2) % 5) else (fun y => if x + 2 + 5 * b + 0 ≤ y ∧ y < x + 2 + 5 * b + 5 then f (31 + 6 * b + (y - (x + 2 + 5 * b))) else f y) y) = (fun y => if x + 2 + 5 * b ≤ y ∧ y < x + 82 then f (31 + 6 * ((y - x - 2) / 5) + (y - x - 2) % 5) else f y) := by
        funext y
        dsimp only
        by_cases c1 : x + 2 + 5 * (b + 1) ≤ y ∧ y < x + 82
        · rw [if_pos c1, if_neg (by omega), if_pos (by omega)]
        · rw [if_neg c1]
          by_cases c2 : x + 2 + 5 * b + 0 ≤ y ∧ y < x + 2 + 5 * b + 5
          · rw [if_pos c2, if_pos (by omega)]
            congr 1
            omega
          · rw [if_neg c2, if_neg (by omega)]
      rw [ef]
      exact hX
theorem p_keep_sh {S : St} {K : St → Prop} {X : St → Prop} : ∀ (n : Nat) (k : Int) (f : Int → Int), 0 ≤ k → k ≤ 1558 → 1558 - k < n →
    X (aput S 0 (fun y => if 174 + k ≤ y ∧ y < 1732 then f (y + 82) else f y)) → l_M_keep_13 K X n k (aput S 0 f) := by
  intro n
  induction n with
  | zero => intro b f h1 h2 h3; omega
  | succ n ih =>
    intro k f h1 h2 h3 hX
    unfold l_M_keep_13
    refine ⟨fun c => ?_, fun c => ?_⟩
    · have e5 : k = 1558 := by omega
      subst e5
      have ef : (fun y => if 174 + 1558 ≤ y ∧ y < 1732 then f (y + 82) else f y) = f := by
        funext y
        rw [if_neg (by omega)]
      rw [ef] at hX
      exact hX
    · refine ⟨by omega, by omega, by omega, ?_⟩
      intro _
      refine ⟨by omega, ?_⟩
      rintro _ rfl
      refine ⟨by omega, ?_⟩
      rw [aset_aput, aI_aput_s]
      refine ih (k + 1) _ (by omega) (by omega) (by omega) ?_
      have ef : (fun y => if 174 + (k + 1) ≤ y ∧ y < 1732 then (fun y => if y = 174 + k then f (256 + k) else f y) (y + 82) else (fun y => if y = 174 + k then f (256 + k) else f y) y) = (fun y => if 174 + k ≤ y ∧ y < 1732 then f (y + 82) else f y) := by
        funext y
        dsimp only
        by_cases c1 : 174 + (k + 1) ≤ y ∧ y < 1732
        · rw [if_pos c1, if_neg (by omega), if_pos (by omega)]
        · rw [if_neg c1]
          by_cases c2 : y = 174 + k
          · rw [if_pos c2, if_pos (by omega)]
            congr 1
            omega
          · rw [if_neg c2, if_neg (by omega)]
      rw [ef]
      exact hX
theorem p_keep_56 {S : St} {K : St → Prop} {f : Int → Int} (h : 0 ≤ f 5 ∧ f 5 < 20) (hK : K (aput S 0 (fun y => if y = 5 then f 5 + 1 else kRec f (174 + 82 * f 5) y))) : j_M_keep_56 (aput S 0 f) K := by
  unfold j_M_keep_56
  simp only [aI_aput_s]
  intro _
  refine ⟨by omega, by omega, ?_⟩
  rintro _ rfl
  intro _ _
  refine ⟨by omega, ?_⟩
  rintro _ rfl
  rw [aset_aput]
  simp only [aI_aput_s]
  refine ⟨by omega, ?_⟩
  intro _
  refine ⟨by omega, ?_⟩
  rintro _ rfl
  rw [aset_aput]
  refine ⟨17, p_keep_out (by omega) 17 0 _ (by omega) (by omega) (by omega) ?_⟩
  unfold j_M_keep_150
  simp only [aI_aput_s]
  intro _
  refine ⟨?_, ?_⟩
  · rw [if_neg (by omega), if_neg (by omega), if_neg (by omega)]
    omega
  · rintro _ rfl
    rw [aset_aput]
    have ef : ∀ g : Int → Int, (fun y => if y = 5 then f 5 + 1 else kRec f (174 + 82 * f 5) y) = g → K (aput S 0 g) := by
      intro g e
      rw [← e]
      exact hK
    apply ef
    funext y
    unfold kRec
    by_cases c5 : y = 5
    · rw [if_pos c5, if_pos c5, if_neg (by omega), if_neg (by omega), if_neg (by omega)]
    · rw [if_neg c5, if_neg c5]
      by_cases c1 : y = 174 + 82 * f 5
      · rw [if_pos c1, if_neg (by omega), if_neg (by omega), if_pos c1]
      · rw [if_neg c1]
        by_cases c2 : y = 174 + 82 * f 5 + 1
        · rw [if_pos c2, if_neg (by omega), if_pos c2, if_neg (by omega)]
        · rw [if_neg c2]
          by_cases c3 : 174 + 82 * f 5 + 2 ≤ y ∧ y < 174 + 82 * f 5 + 82
          · rw [if_pos c3, if_pos (by omega), if_neg (by omega), if_neg (by omega)]
          · rw [if_neg c3, if_neg (by omega), if_neg c2, if_neg c1]
theorem p_keep {S : St} {K : St → Prop} (h : 0 ≤ aI S 0 5 ∧ aI S 0 5 ≤ 20) (hK : K (aput S 0 (kA (aI S 0)))) : w_M_keep S K := by
  unfold w_M_keep
  intro _
  refine ⟨fun c => ?_, fun c => ?_⟩
  · rw [← aput_self S 0]
    refine p_keep_56 (by omega) ?_
    have ef : (fun y => if y = 5 then aI S 0 5 + 1 else kRec (aI S 0) (174 + 82 * aI S 0 5) y) = kA (aI S 0) := by
      funext y
      unfold kA
      rw [if_neg c, if_neg c]
    rw [ef]
    exact hK
  · rw [← aput_self S 0]
    refine ⟨1559, p_keep_sh 1559 0 _ (by omega) (by omega) (by omega) ?_⟩
    unfold j_M_keep_46
    simp only [aI_aput_s]
    intro _
    rw [if_neg (by omega)]
    refine ⟨by omega, ?_⟩
    rintro _ rfl
    rw [aset_aput]
    refine p_keep_56 (by rw [if_pos rfl]; omega) ?_
    have ef : ∀ g : Int → Int, kA (aI S 0) = g → K (aput S 0 g) := by
      intro g e
      rw [← e]
      exact hK
    apply ef
    funext y
    unfold kA kRec kSh
    grind (splits := 30)
