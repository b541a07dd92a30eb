/-! PURE: what the component's methods compute -/
def aall (S : St) (g : Nat → Int → Int) : St := (S.1, g, S.2.2)
theorem aI_aall (S : St) (g : Nat → Int → Int) : aI (aall S g) = g := rfl
theorem fI_aall (S : St) (g : Nat → Int → Int) : fI (aall S g) = fI S := rfl
theorem rI_aall (S : St) (g : Nat → Int → Int) : rI (aall S g) = rI S := rfl
theorem gI_aall (S : St) (g : Nat → Int → Int) : gI (aall S g) = gI S := rfl
theorem aset_aall (S : St) (g : Nat → Int → Int) (j : Nat) (i v : Int) : aset (aall S g) j i v = aall S (fun k y => if k = j ∧ y = i then v else g k y) := rfl
theorem pcpy_aall (S : St) (g : Nat → Int → Int) (f : Int → Int) (sp : Int) (k : Nat) (dp n : Int) : pcpy (aall S g) f sp k dp n = aall S (fun x y => if x = k ∧ dp ≤ y ∧ y < dp + n then f (sp + (y - dp)) else g x y) := rfl
theorem aall_self (S : St) : aall S (aI S) = S := rfl
theorem aall_aall (S : St) (g h : Nat → Int → Int) : aall (aall S g) h = aall S h := rfl
theorem p_copy {k0 n0 k1 n1 : Nat} {S : St} {g : Nat → Int → Int} {K : St → Prop} (hn : n0 ≤ n1) (hK : K (aall S (fun x y => if x = k1 ∧ 0 ≤ y ∧ y < (n0 : Int) then g k0 y else g x y))) : w_X1_copy k0 n0 k1 n1 (aall S g) K := by
  unfold w_X1_copy
  refine ⟨by omega, ?_⟩
  rintro _ rfl
  rw [pcpy_aall, aI_aall]
  have e : (fun (x : Nat) (y : Int) => if x = k1 ∧ 0 ≤ y ∧ y < 0 + (n0 : Int) then g k0 (0 + (y - 0)) else g x y) = (fun x y => if x = k1 ∧ 0 ≤ y ∧ y < (n0 : Int) then g k0 y else g x y) := by
    funext x y
    simp only [Int.zero_add, Int.sub_zero]
  rw [e]
  exact hK
/-- the component keeps all before a step -/
def xSh (A : Nat → Int → Int) : Nat → Int → Int := fun k y => if 15 ≤ k ∧ k < 34 ∧ 0 ≤ y ∧ y < 91 then A (k + 1) y else A k y
def xK (A : Nat → Int → Int) : Nat → Int → Int := fun k y => if k = 0 ∧ y = 4 then (if A 0 4 = 20 then 20 else A 0 4 + 1) else if A 0 4 = 20 then (if k = 34 ∧ 0 ≤ y ∧ y < 91 then A 3 y else xSh A k y) else if k = 15 + (A 0 4).toNat ∧ 0 ≤ y ∧ y < 91 then A 3 y else A k y
theorem p_keeps_52 {S : St} {K : St → Prop} {A : Nat → Int → Int} (h : 0 ≤ A 0 4 ∧ A 0 4 < 20) (hK : K (aall S (fun k y => if k = 0 ∧ y = 4 then A 0 4 + 1 else if k = 15 + (A 0 4).toNat ∧ 0 ≤ y ∧ y < 91 then A 3 y else A k y))) : j_X1_keeps_52 (aall S A) K := by
  unfold j_X1_keeps_52
  rw [aI_aall]
  intro _
  refine ⟨h, p_copy (by omega) ?_⟩
  rw [aI_aall]
  rw [if_neg (by omega)]
  intro _
  refine ⟨by omega, ?_⟩
  rintro _ rfl
  exact hK
theorem p_keeps_13 {S : St} {K : St → Prop} {X : St → Prop} : ∀ (n : Nat) (k : Int) (A : Nat → Int → Int), 1 ≤ k → k ≤ 20 → 20 - k < n →
    X (aall S (fun j y => if 14 + k ≤ (j : Int) ∧ (j : Int) < 34 ∧ 0 ≤ y ∧ y < 91 then A (j + 1) y else A j y)) → l_X1_keeps_13 K X n k (aall S A) := by
  intro n
  induction n with
  | zero => intro b f h1 h2 h3; omega
  | succ n ih =>
    intro k A h1 h2 h3 hX
    unfold l_X1_keeps_13
    refine ⟨fun c => ?_, fun c => ?_⟩
    · have e5 : k = 20 := by omega
      subst e5
      have ef : (fun (j : Nat) (y : Int) => if 14 + 20 ≤ (j : Int) ∧ (j : Int) < 34 ∧ 0 ≤ y ∧ y < 91 then A (j + 1) y else A j y) = A := by
        funext j y
        rw [if_neg (by omega)]
      rw [ef] at hX
      exact hX
    · refine ⟨by omega, by omega, by omega, p_copy (by omega) ?_⟩
      refine ⟨by omega, ih (k + 1) _ (by omega) (by omega) (by omega) ?_⟩
      refine cast (congrArg (fun g => X (aall S g)) ?_) hX
      funext j y
      by_cases c0 : (j : Int) = 14 + k
      · have e3 : 15 + Int.toNat k = j + 1 := by omega
        have e1 : j = 15 + Int.toNat (k - 1) := by omega
        have e2 : ¬ (j + 1 = 15 + Int.toNat (k - 1)) := by omega
        rw [e3]
        grind
      · have e1 : ¬ (j = 15 + Int.toNat (k - 1)) := by omega
        by_cases c1 : (j : Int) = 13 + k
        · have e2 : j + 1 = 15 + Int.toNat (k - 1) := by omega
          grind
        · have e2 : ¬ (j + 1 = 15 + Int.toNat (k - 1)) := by omega
          grind
theorem p_keeps {S : St} {K : St → Prop} (h : 0 ≤ aI S 0 4 ∧ aI S 0 4 ≤ 20) (hK : K (aall S (xK (aI S)))) : w_X1_keeps S K := by
  unfold w_X1_keeps
  intro _
  refine ⟨fun c => ?_, fun c => ?_⟩
  · rw [← aall_self S]
    refine p_keeps_52 (by omega) ?_
    refine cast (congrArg (fun g => K (aall S g)) ?_) hK
    funext k y
    unfold xK
    grind
  · rw [← aall_self S]
    refine ⟨20, p_keeps_13 20 1 _ (by omega) (by omega) (by omega) ?_⟩
    unfold j_X1_keeps_42
    rw [aI_aall]
    rw [if_neg (by omega)]
    intro _
    refine ⟨by omega, ?_⟩
    rintro _ rfl
    rw [aset_aall]
    refine p_keeps_52 (by rw [if_pos (by omega)]; omega) ?_
    refine cast (congrArg (fun g => K (aall S g)) ?_) hK
    funext k y
    rw [c]
    unfold xK xSh
    grind (splits := 30)
