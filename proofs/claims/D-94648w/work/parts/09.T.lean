def w_J5_checkIndex_null (x0 : Int) (x1 : Int) (K : Int → Prop) : Prop :=
  ((x0 < 0 → False) ∧ (¬ (x0 < 0) → ((x0 < x1 → K x0) ∧ (¬ (x0 < x1) → False))))
def w_J15_checkIndex (x0 : Int) (x1 : Int) (K : Int → Prop) : Prop :=
  w_J5_checkIndex_null x0 x1 (fun (r1 : Int) => InR r1 → K r1)
def w_J2_size (x0 : Nat) (S : St) (K : Int → Prop) : Prop :=
  (∃ (fs1 : List PV) (v4 : Int), gI S x0 = some (.inr (.inl (14, fs1))) ∧ fs1[2]? = some (.inl v4) ∧ (InR v4 → K v4))
def w_J2_elementData (x0 : Nat) (x1 : Int) (S : St) (K : Option Nat → Prop) : Prop :=
  (∃ (fs1 : List PV) (v4 : Nat), gI S x0 = some (.inr (.inl (14, fs1))) ∧ fs1[1]? = some (.inr (.inr (some v4))) ∧ (∃ (pn5 : Nat) (pf6 : Int → Option Nat), gI S v4 = some (.inr (.inr (8, pn5, pf6))) ∧ ((0 : Int) ≤ x1 ∧ x1 < (pn5 : Int)) ∧ K (pf6 x1)))
def w_J2_get (x0 : Nat) (x1 : Int) (S : St) (K : Option Nat → Prop) : Prop :=
  (∃ (fs1 : List PV) (v4 : Int), gI S x0 = some (.inr (.inl (14, fs1))) ∧ fs1[2]? = some (.inl v4) ∧ (InR v4 → w_J15_checkIndex x1 v4 (fun (r6 : Int) => InR r6 → ((∃ fs : List PV, gI S x0 = some (.inr (.inl (14, fs)))) ∧ w_J2_elementData x0 x1 S (fun (r9 : Option Nat) => K r9)))))
def w_J12_intValue (x0 : Nat) (S : St) (K : Int → Prop) : Prop :=
  (∃ (fs1 : List PV) (v4 : Int), gI S x0 = some (.inr (.inl (15, fs1))) ∧ fs1[0]? = some (.inl v4) ∧ (InR v4 → K v4))
def b_X7_of_9 (W0 : Nat → St → (Int → Prop) → Prop) (x0 : Nat) (S : St) (K : Int → Prop) : Prop :=
  (∃ (fs1 : List PV) (v4 : Int), gI S x0 = some (.inr (.inl (7, fs1))) ∧ fs1[0]? = some (.inl v4) ∧ (InR v4 → K v4))
def b_X8_of_9 (W0 : Nat → St → (Int → Prop) → Prop) (x0 : Nat) (S : St) (K : Int → Prop) : Prop :=
  (∃ (fs1 : List PV) (v4 : Int), gI S x0 = some (.inr (.inl (8, fs1))) ∧ fs1[0]? = some (.inl v4) ∧ (InR v4 → ((0 : Int) ≤ v4 ∧ v4 < 8) ∧ ((InR (aI S 9 v4) → K (aI S 9 v4)))))
def b_X9_of_9 (W0 : Nat → St → (Int → Prop) → Prop) (x0 : Nat) (S : St) (K : Int → Prop) : Prop :=
  (∃ (fs1 : List PV) (v4 : Nat), gI S x0 = some (.inr (.inl (9, fs1))) ∧ fs1[0]? = some (.inr (.inr (some v4))) ∧ W0 v4 S (fun (r5 : Int) => InL r5 → InL (-r5) ∧ (K (-r5))))
def j_X6_of_9_120 (W0 : Nat → St → (Int → Prop) → Prop) (x0 : Nat) (x4 : Int) (y0 : Int) (S : St) (K : Int → Prop) (C : Int → Int → Prop) : Prop :=
  (∀ v3 : Int, v3 = max (-1000000) (min 1000000 y0) → InL v3 → InR (x4 + 1) ∧ (C v3 (x4 + 1)))
def l_X6_of_9_14 (W0 : Nat → St → (Int → Prop) → Prop) (x0 : Nat) (S : St) (K : Int → Prop) : Nat → Int → Int → Prop
  | 0, _, _ => False
  | n + 1, x2, x4 => (∃ (fs5 : List PV) (v8 : Nat), gI S x0 = some (.inr (.inl (6, fs5))) ∧ fs5[1]? = some (.inr (.inr (some v8))) ∧ ((∃ fs : List PV, gI S v8 = some (.inr (.inl (14, fs)))) ∧ w_J2_size v8 S (fun (r10 : Int) => InR r10 → ((r10 ≤ x4 → K x2) ∧ (¬ (r10 ≤ x4) → (∃ (fs13 : List PV) (v16 : Nat), gI S x0 = some (.inr (.inl (6, fs13))) ∧ fs13[1]? = some (.inr (.inr (some v16))) ∧ ((∃ fs : List PV, gI S v16 = some (.inr (.inl (14, fs)))) ∧ w_J2_get v16 x4 S (fun (r18 : Option Nat) => (∃ q20 : Nat, r18 = some q20 ∧ (isSum S q20 ∧ W0 q20 S (fun (r22 : Int) => InL r22 → (∃ (fs23 : List PV) (v26 : Nat), gI S x0 = some (.inr (.inl (6, fs23))) ∧ fs23[2]? = some (.inr (.inr (some v26))) ∧ ((∃ fs : List PV, gI S v26 = some (.inr (.inl (14, fs)))) ∧ w_J2_get v26 x4 S (fun (r28 : Option Nat) => (∃ q30 : Nat, r28 = some q30 ∧ ((∃ fs : List PV, gI S q30 = some (.inr (.inl (15, fs)))) ∧ ((∃ fs : List PV, gI S q30 = some (.inr (.inl (15, fs)))) ∧ w_J12_intValue q30 S (fun (r33 : Int) => InR r33 → ((¬ r33 = 43 → ((¬ r33 = 45 → ((¬ r33 = 42 → ((¬ r22 = 0 → ¬ r22 = 0 ∧ (InL (Int.tdiv x2 r22) ∧ (j_X6_of_9_120 W0 x0 x4 (Int.tdiv x2 r22) S K (l_X6_of_9_14 W0 x0 S K n)))) ∧ (r22 = 0 → j_X6_of_9_120 W0 x0 x4 0 S K (l_X6_of_9_14 W0 x0 S K n)))) ∧ (r33 = 42 → InL (x2 * r22) ∧ (j_X6_of_9_120 W0 x0 x4 (x2 * r22) S K (l_X6_of_9_14 W0 x0 S K n))))) ∧ (r33 = 45 → InL (x2 - r22) ∧ (j_X6_of_9_120 W0 x0 x4 (x2 - r22) S K (l_X6_of_9_14 W0 x0 S K n))))) ∧ (r33 = 43 → InL (x2 + r22) ∧ (j_X6_of_9_120 W0 x0 x4 (x2 + r22) S K (l_X6_of_9_14 W0 x0 S K n))))))))))))))))))))))
def b_X6_of_9 (W0 : Nat → St → (Int → Prop) → Prop) (x0 : Nat) (S : St) (K : Int → Prop) : Prop :=
  (∃ (fs44 : List PV) (v47 : Nat), gI S x0 = some (.inr (.inl (6, fs44))) ∧ fs44[0]? = some (.inr (.inr (some v47))) ∧ W0 v47 S (fun (r48 : Int) => InL r48 → ∃ n14 : Nat, l_X6_of_9_14 W0 x0 S K n14 r48 0))

def w_of : Nat → Nat → St → (Int → Prop) → Prop
  | 0 => fun _ _ _ => False
  | d + 1 => fun q S K => ((∃ fs : List PV, gI S q = some (.inr (.inl (7, fs)))) ∧ b_X7_of_9 (w_of d) q S K) ∨ ((∃ fs : List PV, gI S q = some (.inr (.inl (8, fs)))) ∧ b_X8_of_9 (w_of d) q S K) ∨ ((∃ fs : List PV, gI S q = some (.inr (.inl (9, fs)))) ∧ b_X9_of_9 (w_of d) q S K) ∨ ((∃ fs : List PV, gI S q = some (.inr (.inl (6, fs)))) ∧ b_X6_of_9 (w_of d) q S K)
def b_X11_is_9 (W0 : Nat → St → (Int → Prop) → Prop) (x0 : Nat) (S : St) (K : Int → Prop) : Prop :=
  (∃ (fs1 : List PV) (v4 : Nat), gI S x0 = some (.inr (.inl (11, fs1))) ∧ fs1[1]? = some (.inr (.inr (some v4))) ∧ (∃ d6 : Nat, d6 ≤ 70 ∧ w_of d6 v4 S (fun (r5 : Int) => InL r5 → (∃ (fs7 : List PV) (v10 : Nat), gI S x0 = some (.inr (.inl (11, fs7))) ∧ fs7[2]? = some (.inr (.inr (some v10))) ∧ (∃ d12 : Nat, d12 ≤ 70 ∧ w_of d12 v10 S (fun (r11 : Int) => InL r11 → InL (r5 - r11) ∧ ((∀ v14 : Int, v14 = r5 - r11 → InL v14 → (∃ (fs15 : List PV) (v18 : Int), gI S x0 = some (.inr (.inl (11, fs15))) ∧ fs15[0]? = some (.inl v18) ∧ (InR v18 → ((v18 = 35 → ((v14 = 0 → K 0) ∧ (¬ (v14 = 0) → K 1))) ∧ (v18 = 60 → ((0 ≤ v14 → K 0) ∧ (¬ (0 ≤ v14) → K 1))) ∧ (v18 = 61 → ((¬ v14 = 0 → K 0) ∧ (v14 = 0 → K 1))) ∧ (v18 = 62 → ((v14 ≤ 0 → K 0) ∧ (¬ (v14 ≤ 0) → K 1))) ∧ (v18 = 303 → ((0 < v14 → K 0) ∧ (¬ (0 < v14) → K 1))) ∧ (¬ v18 = 35 ∧ ¬ v18 = 60 ∧ ¬ v18 = 61 ∧ ¬ v18 = 62 ∧ ¬ v18 = 303 → ((v14 < 0 → K 0) ∧ (¬ (v14 < 0) → K 1))))))))))))))
def b_X10_is_9 (W0 : Nat → St → (Int → Prop) → Prop) (x0 : Nat) (S : St) (K : Int → Prop) : Prop :=
  (∃ (fs1 : List PV) (v4 : Nat), gI S x0 = some (.inr (.inl (10, fs1))) ∧ fs1[0]? = some (.inr (.inr (some v4))) ∧ W0 v4 S (fun (r5 : Int) => (r5 = 0 ∨ r5 = 1) → ((¬ r5 = 0 → K 0) ∧ (r5 = 0 → K 1))))
def j_X12_is_9_49 (W0 : Nat → St → (Int → Prop) → Prop) (x0 : Nat) (x2 : Int) (S : St) (K : Int → Prop) : Prop :=
  (∃ (fs1 : List PV) (v4 : Int), gI S x0 = some (.inr (.inl (12, fs1))) ∧ fs1[0]? = some (.inl v4) ∧ (InR v4 → ((v4 = 0 → ((x2 ≤ 0 → K 0) ∧ (¬ (x2 ≤ 0) → K 1))) ∧ (¬ (v4 = 0) → (∃ (fs8 : List PV) (v11 : Nat), gI S x0 = some (.inr (.inl (12, fs8))) ∧ fs8[1]? = some (.inr (.inr (some v11))) ∧ ((∃ fs : List PV, gI S v11 = some (.inr (.inl (14, fs)))) ∧ w_J2_size v11 S (fun (r13 : Int) => InR r13 → ((¬ x2 = r13 → K 0) ∧ (x2 = r13 → K 1)))))))))
def j_X12_is_9_41 (W0 : Nat → St → (Int → Prop) → Prop) (x0 : Nat) (x3 : Int) (y0 : Int) (y1 : Int) (S : St) (K : Int → Prop) (X49 : Int → Prop) (C : Int → Int → Prop) : Prop :=
  InR (y0 + y1) ∧ ((∀ v17 : Int, v17 = y0 + y1 → InR v17 → InR (x3 + 1) ∧ (C v17 (x3 + 1))))
def l_X12_is_9_4 (W0 : Nat → St → (Int → Prop) → Prop) (x0 : Nat) (S : St) (K : Int → Prop) (X49 : Int → Prop) : Nat → Int → Int → Prop
  | 0, _, _ => False
  | n + 1, x2, x3 => (∃ (fs19 : List PV) (v22 : Nat), gI S x0 = some (.inr (.inl (12, fs19))) ∧ fs19[1]? = some (.inr (.inr (some v22))) ∧ ((∃ fs : List PV, gI S v22 = some (.inr (.inl (14, fs)))) ∧ w_J2_size v22 S (fun (r24 : Int) => InR r24 → ((r24 ≤ x3 → X49 x2) ∧ (¬ (r24 ≤ x3) → (∃ (fs27 : List PV) (v30 : Nat), gI S x0 = some (.inr (.inl (12, fs27))) ∧ fs27[1]? = some (.inr (.inr (some v30))) ∧ ((∃ fs : List PV, gI S v30 = some (.inr (.inl (14, fs)))) ∧ w_J2_get v30 x3 S (fun (r32 : Option Nat) => (∃ q34 : Nat, r32 = some q34 ∧ (isAsked S q34 ∧ W0 q34 S (fun (r36 : Int) => (r36 = 0 ∨ r36 = 1) → ((r36 = 0 → j_X12_is_9_41 W0 x0 x3 x2 0 S K X49 (l_X12_is_9_4 W0 x0 S K X49 n)) ∧ (¬ (r36 = 0) → j_X12_is_9_41 W0 x0 x3 x2 1 S K X49 (l_X12_is_9_4 W0 x0 S K X49 n))))))))))))))
def b_X12_is_9 (W0 : Nat → St → (Int → Prop) → Prop) (x0 : Nat) (S : St) (K : Int → Prop) : Prop :=
  ∃ n4 : Nat, l_X12_is_9_4 W0 x0 S K (fun (z2 : Int) => j_X12_is_9_49 W0 x0 z2 S K) n4 0 0

def w_is : Nat → Nat → St → (Int → Prop) → Prop
  | 0 => fun _ _ _ => False
  | d + 1 => fun q S K => ((∃ fs : List PV, gI S q = some (.inr (.inl (11, fs)))) ∧ b_X11_is_9 (w_is d) q S K) ∨ ((∃ fs : List PV, gI S q = some (.inr (.inl (10, fs)))) ∧ b_X10_is_9 (w_is d) q S K) ∨ ((∃ fs : List PV, gI S q = some (.inr (.inl (12, fs)))) ∧ b_X12_is_9 (w_is d) q S K)
def w_X13_sort (x0 : Nat) (S : St) (K : Int → Prop) : Prop :=
  (∃ (fs1 : List PV) (v4 : Int), gI S x0 = some (.inr (.inl (13, fs1))) ∧ fs1[0]? = some (.inl v4) ∧ (InR v4 → K v4))
def w_X13_a (x0 : Nat) (S : St) (K : Int → Prop) : Prop :=
  (∃ (fs1 : List PV) (v4 : Int), gI S x0 = some (.inr (.inl (13, fs1))) ∧ fs1[1]? = some (.inl v4) ∧ (InR v4 → K v4))
def w_X13_b (x0 : Nat) (S : St) (K : Int → Prop) : Prop :=
  (∃ (fs1 : List PV) (v4 : Int), gI S x0 = some (.inr (.inl (13, fs1))) ∧ fs1[2]? = some (.inl v4) ∧ (InR v4 → K v4))
def w_X13_c (x0 : Nat) (S : St) (K : Int → Prop) : Prop :=
  (∃ (fs1 : List PV) (v4 : Int), gI S x0 = some (.inr (.inl (13, fs1))) ∧ fs1[3]? = some (.inl v4) ∧ (InR v4 → K v4))
def w_X13_number (x0 : Nat) (S : St) (K : Int → Prop) : Prop :=
  (∃ (fs1 : List PV) (v4 : Int), gI S x0 = some (.inr (.inl (13, fs1))) ∧ fs1[4]? = some (.inl v4) ∧ (InR v4 → K v4))
def w_X_rules (S : St) (K : Option Nat → Prop) : Prop :=
  (InR (aI S 0 3) → ((¬ (aI S 0 3) = (-1) → ((0 : Int) ≤ aI S 0 3 ∧ aI S 0 3 < 4) ∧ (K (rI S 140 (aI S 0 3)))) ∧ ((aI S 0 3) = (-1) → K none)))
def w_X_worn (x1 : Int) (S : St) (K : Int → St → Prop) : Prop :=
  w_X_rules S (fun (r1 : Option Nat) => ((r1 = none → K 0 S) ∧ (∀ q4 : Nat, r1 = some q4 → (∃ (fs5 : List PV) (v8 : Option Nat), gI S q4 = some (.inr (.inl (4, fs5))) ∧ fs5[0]? = some (.inr (.inr v8)) ∧ ((v8 = none → K 0 S) ∧ (∀ q10 : Nat, v8 = some q10 → w_X_names x1 S (fun (S12 : St) => (∃ (fs13 : List PV) (v16 : Option Nat), gI S12 q4 = some (.inr (.inl (4, fs13))) ∧ fs13[0]? = some (.inr (.inr v16)) ∧ (∃ q17 : Nat, v16 = some q17 ∧ (∃ d20 : Nat, d20 ≤ 70 ∧ w_of d20 q17 S12 (fun (r19 : Int) => InL r19 → InR (max 0 r19) ∧ (K (max 0 r19) S12))))))))))))
def w_X_isHoly (x1 : Int) (S : St) (K : Int → St → Prop) : Prop :=
  w_X_rules S (fun (r1 : Option Nat) => ((r1 = none → K 1 S) ∧ (∀ q4 : Nat, r1 = some q4 → (∃ (fs5 : List PV) (v8 : Option Nat), gI S q4 = some (.inr (.inl (4, fs5))) ∧ fs5[1]? = some (.inr (.inr v8)) ∧ ((v8 = none → K 1 S) ∧ (∀ q10 : Nat, v8 = some q10 → w_X_names x1 S (fun (S12 : St) => (∃ (fs13 : List PV) (v16 : Option Nat), gI S12 q4 = some (.inr (.inl (4, fs13))) ∧ fs13[1]? = some (.inr (.inr v16)) ∧ (∃ q17 : Nat, v16 = some q17 ∧ (∃ d20 : Nat, d20 ≤ 40 ∧ w_is d20 q17 S12 (fun (r19 : Int) => (r19 = 0 ∨ r19 = 1) → K r19 S12)))))))))))
def w_X_manyOf (x1 : Int) (S : St) (K : Int → Prop) : Prop :=
  w_X_rules S (fun (r1 : Option Nat) => ((r1 = none → K 1) ∧ (∀ q4 : Nat, r1 = some q4 → (∃ (fs5 : List PV) (v8 : Nat), gI S q4 = some (.inr (.inl (4, fs5))) ∧ fs5[3]? = some (.inr (.inr (some v8))) ∧ (∃ (pn9 : Nat) (pf10 : Int → Int), gI S v8 = some (.inl (0, pn9, pf10)) ∧ ((0 : Int) ≤ x1 ∧ x1 < (pn9 : Int)) ∧ (InR (pf10 x1) → ((¬ (pf10 x1) = 0 → (∃ (fs15 : List PV) (v18 : Nat), gI S q4 = some (.inr (.inl (4, fs15))) ∧ fs15[3]? = some (.inr (.inr (some v18))) ∧ (∃ (pn19 : Nat) (pf20 : Int → Int), gI S v18 = some (.inl (0, pn19, pf20)) ∧ ((0 : Int) ≤ x1 ∧ x1 < (pn19 : Int)) ∧ (InR (pf20 x1) → K (pf20 x1))))) ∧ ((pf10 x1) = 0 → K 1))))))))
def w_X_areUnlike (x1 : Int) (x2 : Int) (S : St) (K : Int → St → Prop) : Prop :=
  w_X_rules S (fun (r1 : Option Nat) => ((r1 = none → K 0 S) ∧ (∀ q4 : Nat, r1 = some q4 → (∃ (fs5 : List PV) (v8 : Option Nat), gI S q4 = some (.inr (.inl (4, fs5))) ∧ fs5[2]? = some (.inr (.inr v8)) ∧ ((v8 = none → K 0 S) ∧ (∀ q10 : Nat, v8 = some q10 → w_X_names x1 S (fun (S12 : St) => w_X_bone_2 x2 0 S12 (fun (r13 : Int) => InR r13 → (∀ S15 : St, S15 = aset S12 9 5 r13 → w_X_bone_2 x2 1 S15 (fun (r16 : Int) => InR r16 → (∀ S18 : St, S18 = aset S15 9 6 r16 → w_X_bone_2 x2 3 S18 (fun (r19 : Int) => InR r19 → (∀ S21 : St, S21 = aset S18 9 7 r19 → (∃ (fs22 : List PV) (v25 : Option Nat), gI S21 q4 = some (.inr (.inl (4, fs22))) ∧ fs22[2]? = some (.inr (.inr v25)) ∧ (∃ q26 : Nat, v25 = some q26 ∧ (∃ d29 : Nat, d29 ≤ 40 ∧ w_is d29 q26 S21 (fun (r28 : Int) => (r28 = 0 ∨ r28 = 1) → K r28 S21)))))))))))))))))
def j_X_pass_130 (x1 : Int) (x2 : Int) (S : St) (K : Int → St → Prop) (C : Int → St → Prop) : Prop :=
  InR (x2 + 1) ∧ (C (x2 + 1) S)
def j_X_pass_124 (x1 : Int) (x2 : Int) (x3 : Int) (S : St) (K : Int → St → Prop) (X130 : St → Prop) (C : Int → St → Prop) : Prop :=
  InR (x3 + 1) ∧ (C (x3 + 1) S)
def l_X_pass_54 (x1 : Int) (x2 : Int) (K : Int → St → Prop) (X130 : St → Prop) : Nat → Int → St → Prop
  | 0, _, _ => False
  | n + 1, x3, S => (InR (aI S 0 1) → (((aI S 0 1) ≤ x3 → X130 S) ∧ (¬ ((aI S 0 1) ≤ x3) → w_X_bone_2 x3 1 S (fun (r5 : Int) => InR r5 → w_X_worn x3 S (fun (r7 : Int) (S8 : St) => InR r7 → InR (r5 - r7) ∧ (w_X_puts x3 1 (max 1 (r5 - r7)) S8 (fun (S12 : St) => w_X_bone_2 x3 4 S12 (fun (r13 : Int) => InR r13 → w_X_year S12 (fun (r15 : Int) => InR r15 → ((r13 = r15 → w_X_bone_2 x3 2 S12 (fun (r18 : Int) => InR r18 → w_X_puts x3 3 r18 S12 (fun (S21 : St) => w_X_puts x3 4 (-1) S21 (fun (S23 : St) => j_X_pass_124 x1 x2 x3 S23 K X130 (l_X_pass_54 x1 x2 K X130 n))))) ∧ (¬ (r13 = r15) → j_X_pass_124 x1 x2 x3 S12 K X130 (l_X_pass_54 x1 x2 K X130 n))))))))))))
def l_X_pass_33 (x1 : Int) (K : Int → St → Prop) : Nat → Int → St → Prop
  | 0, _, _ => False
  | n + 1, x2, S => ((x1 ≤ x2 → w_X_year S (fun (r25 : Int) => InR r25 → K r25 S)) ∧ (¬ (x1 ≤ x2) → (InR (aI S 3 90) → InR ((aI S 3 90) + 1) ∧ ((∀ S29 : St, S29 = aset S 3 90 ((aI S 3 90) + 1) → ∃ n54 : Nat, l_X_pass_54 x1 x2 K (fun (zS : St) => j_X_pass_130 x1 x2 zS K (l_X_pass_33 x1 K n)) n54 0 S29)))))
def w_X_pass (x1 : Int) (S : St) (K : Int → St → Prop) : Prop :=
  w_X_in x1 0 99 (fun (r30 : Int) => (r30 = 0 ∨ r30 = 1) → ((r30 = 0 → K (-1) S) ∧ (¬ (r30 = 0) → w_X_year S (fun (r33 : Int) => InR r33 → InR (r33 + x1) ∧ ((((r33 + x1) ≤ 999 → w_X1_keeps S (fun (S38 : St) => ∃ n33 : Nat, l_X_pass_33 x1 K n33 0 S38)) ∧ (¬ ((r33 + x1) ≤ 999) → K (-1) S)))))))
def w_X_does (x1 : Nat) (S : St) (K : Int → St → Prop) : Prop :=
  ((∃ fs : List PV, gI S x1 = some (.inr (.inl (13, fs)))) ∧ w_X13_sort x1 S (fun (r2 : Int) => InR r2 → ((r2 = 204 → ((∃ fs : List PV, gI S x1 = some (.inr (.inl (13, fs)))) ∧ w_X13_a x1 S (fun (r6 : Int) => InR r6 → ((∃ fs : List PV, gI S x1 = some (.inr (.inl (13, fs)))) ∧ w_X13_b x1 S (fun (r9 : Int) => InR r9 → ((∃ fs : List PV, gI S x1 = some (.inr (.inl (13, fs)))) ∧ w_X13_c x1 S (fun (r12 : Int) => InR r12 → w_X_lends r6 r9 r12 S (fun (r14 : Int) (S15 : St) => (r14 = 0 ∨ r14 = 1) → K r14 S15)))))))) ∧ (r2 = 205 → ((∃ fs : List PV, gI S x1 = some (.inr (.inl (13, fs)))) ∧ w_X13_a x1 S (fun (r17 : Int) => InR r17 → ((∃ fs : List PV, gI S x1 = some (.inr (.inl (13, fs)))) ∧ w_X13_b x1 S (fun (r20 : Int) => InR r20 → w_X_swap r17 r20 S (fun (r22 : Int) (S23 : St) => (r22 = 0 ∨ r22 = 1) → K r22 S23)))))) ∧ (r2 = 206 → ((∃ fs : List PV, gI S x1 = some (.inr (.inl (13, fs)))) ∧ w_X13_a x1 S (fun (r25 : Int) => InR r25 → ((∃ fs : List PV, gI S x1 = some (.inr (.inl (13, fs)))) ∧ w_X13_b x1 S (fun (r28 : Int) => InR r28 → w_X_steal r25 r28 S (fun (r30 : Int) (S31 : St) => (r30 = 0 ∨ r30 = 1) → K r30 S31)))))) ∧ (r2 = 207 → ((∃ fs : List PV, gI S x1 = some (.inr (.inl (13, fs)))) ∧ w_X13_a x1 S (fun (r33 : Int) => InR r33 → w_X_burn r33 S (fun (r35 : Int) (S36 : St) => InR r35 → ((r35 = (-1) → K 0 S36) ∧ (¬ (r35 = (-1)) → K 1 S36)))))) ∧ (¬ (204 ≤ r2 ∧ r2 ≤ 207) → ((∃ fs : List PV, gI S x1 = some (.inr (.inl (13, fs)))) ∧ w_X13_a x1 S (fun (r39 : Int) => InR r39 → w_X_pass r39 S (fun (r41 : Int) (S42 : St) => InR r41 → ((r41 = (-1) → K 0 S42) ∧ (¬ (r41 = (-1)) → K 1 S42)))))))))
def l_X_played_26 (x2 : Nat) (K : Int → St → Prop) : Nat → Int → St → Prop
  | 0, _, _ => False
  | n + 1, x3, S => ((∃ fs : List PV, gI S x2 = some (.inr (.inl (14, fs)))) ∧ w_J2_size x2 S (fun (r2 : Int) => InR r2 → ((r2 ≤ x3 → K (-1) S) ∧ (¬ (r2 ≤ x3) → ((∃ fs : List PV, gI S x2 = some (.inr (.inl (14, fs)))) ∧ w_J2_get x2 x3 S (fun (r6 : Option Nat) => (∃ q8 : Nat, r6 = some q8 ∧ ((∃ fs : List PV, gI S q8 = some (.inr (.inl (13, fs)))) ∧ w_X_does q8 S (fun (r10 : Int) (S11 : St) => (r10 = 0 ∨ r10 = 1) → ((¬ r10 = 0 → InR (x3 + 1) ∧ (l_X_played_26 x2 K n (x3 + 1) S11)) ∧ (r10 = 0 → ((∃ fs : List PV, gI S11 x2 = some (.inr (.inl (14, fs)))) ∧ w_J2_get x2 x3 S11 (fun (r15 : Option Nat) => (∃ q17 : Nat, r15 = some q17 ∧ ((∃ fs : List PV, gI S11 q17 = some (.inr (.inl (13, fs)))) ∧ ((∃ fs : List PV, gI S11 q17 = some (.inr (.inl (13, fs)))) ∧ w_X13_number q17 S11 (fun (r20 : Int) => InR r20 → K r20 S11)))))))))))))))))
def w_X_played (x1 : Int) (S : St) (K : Int → St → Prop) : Prop :=
  w_X_isText x1 S (fun (r22 : Int) => (r22 = 0 ∨ r22 = 1) → ((¬ r22 = 0 → ((0 : Int) ≤ x1 ∧ x1 < 4) ∧ ((∃ q26 : Nat, rI S 140 x1 = some q26 ∧ (∃ (fs28 : List PV) (v31 : Nat), gI S q26 = some (.inr (.inl (4, fs28))) ∧ fs28[4]? = some (.inr (.inr (some v31))) ∧ ∃ n26 : Nat, l_X_played_26 v31 K n26 0 S)))) ∧ (r22 = 0 → K (-2) S)))
def w_X_of (x1 : Int) (x2 : Int) (S : St) (K : Int → St → Prop) : Prop :=
  w_X_isBone x1 S (fun (r1 : Int) => (r1 = 0 ∨ r1 = 1) → ((r1 = 0 → K (-2) S) ∧ (¬ (r1 = 0) → w_X_in x2 0 6 (fun (r4 : Int) => (r4 = 0 ∨ r4 = 1) → ((¬ r4 = 0 → ((5 ≤ x2 → ((¬ x2 = 5 → w_X_isHoly x1 S (fun (r9 : Int) (S10 : St) => (r9 = 0 ∨ r9 = 1) → ((r9 = 0 → K 0 S10) ∧ (¬ (r9 = 0) → K 1 S10)))) ∧ (x2 = 5 → w_X_proofsOf x1 S (fun (r12 : Int) => InR r12 → K r12 S)))) ∧ (¬ (5 ≤ x2) → w_X_bone_2 x1 x2 S (fun (r14 : Int) => InR r14 → K r14 S)))) ∧ (r4 = 0 → K (-2) S))))))
def j_X_shares_177 (W0 : Int → Int → St → (Int → St → Prop) → Prop) (x1 : Int) (x2 : Int) (x3 : Int) (x4 : Int) (S : St) (K : Int → St → Prop) (C : Int → St → Prop) : Prop :=
  InR (x4 + 1) ∧ (C (x4 + 1) S)
def j_X_shares_115 (W0 : Int → Int → St → (Int → St → Prop) → Prop) (x1 : Int) (x2 : Int) (x3 : Int) (x4 : Int) (x5 : Int) (S : St) (K : Int → St → Prop) (C : Int → St → Prop) : Prop :=
  ((¬ x5 = 0 → ((0 : Int) ≤ x1 ∧ x1 < 12) ∧ ((∀ S4 : St, S4 = aset S 11 x1 x4 → ((0 : Int) ≤ x4 ∧ x4 < 12) ∧ (((0 : Int) ≤ x3 ∧ x3 < 20) ∧ ((InR (aI S4 (79 + Int.toNat x4) x3) → InR ((aI S4 (79 + Int.toNat x4) x3) + 1) ∧ (((0 : Int) ≤ x3 ∧ x3 < 20) ∧ ((∀ S10 : St, S10 = aset S4 (79 + Int.toNat x4) x3 ((aI S4 (79 + Int.toNat x4) x3) + 1) → InR (x1 + 1) ∧ (InR (x4 + 1) ∧ (W0 (x1 + 1) (max x2 (x4 + 1)) S10 (fun (r14 : Int) (S15 : St) => (r14 = 0 ∨ r14 = 1) → ((r14 = 0 → ((0 : Int) ≤ x4 ∧ x4 < 12) ∧ (((0 : Int) ≤ x3 ∧ x3 < 20) ∧ ((InR (aI S15 (79 + Int.toNat x4) x3) → InR ((aI S15 (79 + Int.toNat x4) x3) - 1) ∧ (((0 : Int) ≤ x3 ∧ x3 < 20) ∧ ((∀ S22 : St, S22 = aset S15 (79 + Int.toNat x4) x3 ((aI S15 (79 + Int.toNat x4) x3) - 1) → j_X_shares_177 W0 x1 x2 x3 x4 S22 K C))))))) ∧ (¬ (r14 = 0) → K 1 S15)))))))))))))) ∧ (x5 = 0 → j_X_shares_177 W0 x1 x2 x3 x4 S K C))
def j_X_shares_107 (W0 : Int → Int → St → (Int → St → Prop) → Prop) (x1 : Int) (x2 : Int) (x3 : Int) (x4 : Int) (x6 : Int) (y0 : Int) (S : St) (K : Int → St → Prop) (X115 : Int → Prop) (C : Int → Int → Prop) : Prop :=
  InR (x6 + 1) ∧ (C y0 (x6 + 1))
def j_X_shares_102 (W0 : Int → Int → St → (Int → St → Prop) → Prop) (x1 : Int) (x2 : Int) (x3 : Int) (x4 : Int) (x6 : Int) (S : St) (K : Int → St → Prop) (X115 : Int → Prop) (C : Int → Int → Prop) : Prop :=
  j_X_shares_107 W0 x1 x2 x3 x4 x6 1 S K X115 C
def l_X_shares_67 (W0 : Int → Int → St → (Int → St → Prop) → Prop) (x1 : Int) (x2 : Int) (x3 : Int) (x4 : Int) (S : St) (K : Int → St → Prop) (X115 : Int → Prop) : Nat → Int → Int → Prop
  | 0, _, _ => False
  | n + 1, x5, x6 => ((x1 ≤ x6 → X115 x5) ∧ (¬ (x1 ≤ x6) → ((x5 = 0 → X115 x5) ∧ (¬ (x5 = 0) → ((0 : Int) ≤ x6 ∧ x6 < 12) ∧ ((InR (aI S 11 x6) → ((¬ (aI S 11 x6) = x4 → j_X_shares_102 W0 x1 x2 x3 x4 x6 S K X115 (l_X_shares_67 W0 x1 x2 x3 x4 S K X115 n)) ∧ ((aI S 11 x6) = x4 → ((0 : Int) ≤ x6 ∧ x6 < 12) ∧ (((0 : Int) ≤ x1 ∧ x1 < 12) ∧ ((InR (aI S (91 + Int.toNat x6) x1) → ((aI S (91 + Int.toNat x6) x1 = 0 ∨ aI S (91 + Int.toNat x6) x1 = 1) → ((¬ (aI S (91 + Int.toNat x6) x1) = 0 → j_X_shares_107 W0 x1 x2 x3 x4 x6 0 S K X115 (l_X_shares_67 W0 x1 x2 x3 x4 S K X115 n)) ∧ ((aI S (91 + Int.toNat x6) x1) = 0 → j_X_shares_102 W0 x1 x2 x3 x4 x6 S K X115 (l_X_shares_67 W0 x1 x2 x3 x4 S K X115 n)))))))))))))))
def j_X_shares_62 (W0 : Int → Int → St → (Int → St → Prop) → Prop) (x1 : Int) (x2 : Int) (x3 : Int) (x4 : Int) (y0 : Int) (S : St) (K : Int → St → Prop) (C : Int → St → Prop) : Prop :=
  ∃ n67 : Nat, l_X_shares_67 W0 x1 x2 x3 x4 S K (fun (z5 : Int) => j_X_shares_115 W0 x1 x2 x3 x4 z5 S K C) n67 y0 0
def l_X_shares_25 (W0 : Int → Int → St → (Int → St → Prop) → Prop) (x1 : Int) (x2 : Int) (x3 : Int) (K : Int → St → Prop) : Nat → Int → St → Prop
  | 0, _, _ => False
  | n + 1, x4, S => ((x2 < x4 → K 0 S) ∧ (¬ (x2 < x4) → (InR (fI S 12) → (((fI S 12) ≤ x4 → K 0 S) ∧ (¬ ((fI S 12) ≤ x4) → ((0 : Int) ≤ x4 ∧ x4 < 12) ∧ (((0 : Int) ≤ x3 ∧ x3 < 20) ∧ ((InR (aI S (79 + Int.toNat x4) x3) → w_X_manyOf x3 S (fun (r39 : Int) => InR r39 → ((r39 ≤ (aI S (79 + Int.toNat x4) x3) → j_X_shares_62 W0 x1 x2 x3 x4 0 S K (l_X_shares_25 W0 x1 x2 x3 K n)) ∧ (¬ (r39 ≤ (aI S (79 + Int.toNat x4) x3)) → j_X_shares_62 W0 x1 x2 x3 x4 1 S K (l_X_shares_25 W0 x1 x2 x3 K n))))))))))))
def b_X_shares (W0 : Int → Int → St → (Int → St → Prop) → Prop) (x1 : Int) (x2 : Int) (S : St) (K : Int → St → Prop) : Prop :=
  (InR (fI S 11) → ((¬ x1 = (fI S 11) → ((0 : Int) ≤ x1 ∧ x1 < 12) ∧ ((InR (aI S 10 x1) → w_X_bone_2 (aI S 10 x1) 0 S (fun (r46 : Int) => InR r46 → ∃ n25 : Nat, l_X_shares_25 W0 x1 x2 r46 K n25 0 S)))) ∧ (x1 = (fI S 11) → K 1 S)))
def w_X_shares : Nat → Int → Int → St → (Int → St → Prop) → Prop
  | 0 => fun _ _ _ _ => False
  | d + 1 => fun x1 x2 S K => b_X_shares (w_X_shares d) x1 x2 S K
def j_X_laysSaints_204 (S : St) (K : Int → St → Prop) (C : Int → St → Prop) : Prop :=
  (∃ d3 : Nat, d3 ≤ 14 ∧ w_X_shares d3 0 0 S (fun (r1 : Int) (S2 : St) => (r1 = 0 ∨ r1 = 1) → (InR (fI S2 12) → InR ((fI S2 12) + 1) ∧ ((∀ S6 : St, S6 = fset S2 12 ((fI S2 12) + 1) → C r1 S6)))))
def l_X_laysSaints_182 (K : Int → St → Prop) (X204 : St → Prop) : Nat → Int → St → Prop
  | 0, _, _ => False
  | n + 1, x3, S => ((12 ≤ x3 → X204 S) ∧ (¬ (12 ≤ x3) → ((0 : Int) ≤ x3 ∧ x3 < 12) ∧ (w_J14_fill (79 + Int.toNat x3) 20 0 S (fun (S10 : St) => InR (x3 + 1) ∧ (l_X_laysSaints_182 K X204 n (x3 + 1) S10)))))
def l_X_laysSaints_176 (K : Int → St → Prop) : Nat → Int → St → Prop
  | 0, _, _ => False
  | n + 1, x2, S => ((¬ x2 = 0 → (InR (fI S 12) → InR ((fI S 12) - 1) ∧ ((∀ S15 : St, S15 = fset S 12 ((fI S 12) - 1) → K 1 S15)))) ∧ (x2 = 0 → ∃ n182 : Nat, l_X_laysSaints_182 K (fun (zS : St) => j_X_laysSaints_204 zS K (l_X_laysSaints_176 K n)) n182 0 S))
def j_X_laysSaints_169 (S : St) (K : Int → St → Prop) : Prop :=
  (∀ S16 : St, S16 = fset S 12 0 → ∃ n176 : Nat, l_X_laysSaints_176 K n176 0 S16)
def j_X_laysSaints_163 (x2 : Int) (S : St) (K : Int → St → Prop) (X169 : St → Prop) (C : Int → St → Prop) : Prop :=
  InR (x2 + 1) ∧ (C (x2 + 1) S)
def j_X_laysSaints_156 (x2 : Int) (x3 : Int) (y0 : Int) (y1 : Int) (y2 : Int) (S : St) (K : Int → St → Prop) (X163 : St → Prop) (C : Int → St → Prop) : Prop :=
  ((0 : Int) ≤ y1 ∧ y1 < 12) ∧ ((y2 = 0 ∨ y2 = 1) ∧ ((∀ S20 : St, S20 = aset S (91 + Int.toNat y0) y1 y2 → InR (x3 + 1) ∧ (C (x3 + 1) S20))))
def j_X_laysSaints_155 (x2 : Int) (x3 : Int) (y0 : Int) (y1 : Int) (S : St) (K : Int → St → Prop) (X163 : St → Prop) (C : Int → St → Prop) : Prop :=
  j_X_laysSaints_156 x2 x3 y0 y1 0 S K X163 C
def j_X_laysSaints_151 (x2 : Int) (x3 : Int) (y0 : Int) (y1 : Int) (S : St) (K : Int → St → Prop) (X163 : St → Prop) (C : Int → St → Prop) : Prop :=
  j_X_laysSaints_156 x2 x3 y0 y1 1 S K X163 C
def l_X_laysSaints_93 (x2 : Int) (K : Int → St → Prop) (X163 : St → Prop) : Nat → Int → St → Prop
  | 0, _, _ => False
  | n + 1, x3, S => (InR (fI S 11) → (((fI S 11) ≤ x3 → X163 S) ∧ (¬ ((fI S 11) ≤ x3) → ((0 : Int) ≤ x2 ∧ x2 < 12) ∧ (((x2 = x3 → j_X_laysSaints_155 x2 x3 x2 x3 S K X163 (l_X_laysSaints_93 x2 K X163 n)) ∧ (¬ (x2 = x3) → ((0 : Int) ≤ x2 ∧ x2 < 12) ∧ ((InR (aI S 10 x2) → ((0 : Int) ≤ x3 ∧ x3 < 12) ∧ ((InR (aI S 10 x3) → w_X_areUnlike (aI S 10 x2) (aI S 10 x3) S (fun (r30 : Int) (S31 : St) => (r30 = 0 ∨ r30 = 1) → ((¬ r30 = 0 → j_X_laysSaints_151 x2 x3 x2 x3 S31 K X163 (l_X_laysSaints_93 x2 K X163 n)) ∧ (r30 = 0 → ((0 : Int) ≤ x3 ∧ x3 < 12) ∧ ((InR (aI S31 10 x3) → ((0 : Int) ≤ x2 ∧ x2 < 12) ∧ ((InR (aI S31 10 x2) → w_X_areUnlike (aI S31 10 x3) (aI S31 10 x2) S31 (fun (r37 : Int) (S38 : St) => (r37 = 0 ∨ r37 = 1) → ((r37 = 0 → j_X_laysSaints_155 x2 x3 x2 x3 S38 K X163 (l_X_laysSaints_93 x2 K X163 n)) ∧ (¬ (r37 = 0) → j_X_laysSaints_151 x2 x3 x2 x3 S38 K X163 (l_X_laysSaints_93 x2 K X163 n)))))))))))))))))))))
def l_X_laysSaints_83 (K : Int → St → Prop) (X169 : St → Prop) : Nat → Int → St → Prop
  | 0, _, _ => False
  | n + 1, x2, S => (InR (fI S 11) → (((fI S 11) ≤ x2 → X169 S) ∧ (¬ ((fI S 11) ≤ x2) → ∃ n93 : Nat, l_X_laysSaints_93 x2 K (fun (zS : St) => j_X_laysSaints_163 x2 zS K X169 (l_X_laysSaints_83 K X169 n)) n93 0 S)))
def j_X_laysSaints_81 (S : St) (K : Int → St → Prop) : Prop :=
  ∃ n83 : Nat, l_X_laysSaints_83 K (fun (zS : St) => j_X_laysSaints_169 zS K) n83 0 S
def j_X_laysSaints_75 (x1 : Int) (x2 : Int) (S : St) (K : Int → St → Prop) (X81 : St → Prop) (C : Int → St → Prop) : Prop :=
  InR (x2 + 1) ∧ (C (x2 + 1) S)
def l_X_laysSaints_7 (x1 : Int) (K : Int → St → Prop) (X81 : St → Prop) : Nat → Int → St → Prop
  | 0, _, _ => False
  | n + 1, x2, S => (InR (aI S 0 1) → (((aI S 0 1) ≤ x2 → X81 S) ∧ (¬ ((aI S 0 1) ≤ x2) → w_X_bone_2 x2 3 S (fun (r45 : Int) => InR r45 → (0 ≤ r45 ∧ r45 ≤ 31) ∧ (((((x1 / 2 ^ (Int.toNat r45)) % 2) = 0 → j_X_laysSaints_75 x1 x2 S K X81 (l_X_laysSaints_7 x1 K X81 n)) ∧ (¬ (((x1 / 2 ^ (Int.toNat r45)) % 2) = 0) → w_X_isHoly x2 S (fun (r51 : Int) (S52 : St) => (r51 = 0 ∨ r51 = 1) → ((¬ r51 = 0 → (InR (fI S52 11) → ((¬ (fI S52 11) = 12 → ((0 : Int) ≤ fI S52 11 ∧ fI S52 11 < 12) ∧ ((∀ S58 : St, S58 = aset S52 10 (fI S52 11) x2 → (InR (fI S58 11) → InR ((fI S58 11) + 1) ∧ ((∀ S61 : St, S61 = fset S58 11 ((fI S58 11) + 1) → j_X_laysSaints_75 x1 x2 S61 K X81 (l_X_laysSaints_7 x1 K X81 n))))))) ∧ ((fI S52 11) = 12 → K 0 S52)))) ∧ (r51 = 0 → j_X_laysSaints_75 x1 x2 S52 K X81 (l_X_laysSaints_7 x1 K X81 n)))))))))))
def w_X_laysSaints (x1 : Int) (S : St) (K : Int → St → Prop) : Prop :=
  (∀ S62 : St, S62 = fset S 11 0 → ∃ n7 : Nat, l_X_laysSaints_7 x1 K (fun (zS : St) => j_X_laysSaints_81 zS K) n7 0 S62)
def l_X_saints_57 (x2 : Int) (S : St) (K : Int → St → Prop) : Nat → Int → Prop
  | 0, _ => False
  | n + 1, x3 => (InR (fI S 11) → (((fI S 11) ≤ x3 → K (-1) S) ∧ (¬ ((fI S 11) ≤ x3) → ((0 : Int) ≤ x3 ∧ x3 < 12) ∧ ((InR (aI S 10 x3) → ((¬ (aI S 10 x3) = x2 → InR (x3 + 1) ∧ (l_X_saints_57 x2 S K n (x3 + 1))) ∧ ((aI S 10 x3) = x2 → ((0 : Int) ≤ x3 ∧ x3 < 12) ∧ ((InR (aI S 11 x3) → K (aI S 11 x3) S)))))))))
def j_X_saints_34 (x1 : Int) (x2 : Int) (S : St) (K : Int → St → Prop) : Prop :=
  w_X_laysSaints x1 S (fun (r9 : Int) (S10 : St) => (r9 = 0 ∨ r9 = 1) → ((¬ r9 = 0 → ((¬ x2 = (-1) → ∃ n57 : Nat, l_X_saints_57 x2 S10 K n57 0) ∧ (x2 = (-1) → (InR (fI S10 12) → K (fI S10 12) S10)))) ∧ (r9 = 0 → K (-2) S10)))
def w_X_saints (x1 : Int) (x2 : Int) (S : St) (K : Int → St → Prop) : Prop :=
  (InR (aI S 0 0) → (0 ≤ aI S 0 0 ∧ aI S 0 0 ≤ 31) ∧ (InR (1 * 2 ^ (Int.toNat (aI S 0 0))) ∧ (InR ((1 * 2 ^ (Int.toNat (aI S 0 0))) - 1) ∧ (w_X_in x1 0 ((1 * 2 ^ (Int.toNat (aI S 0 0))) - 1) (fun (r18 : Int) => (r18 = 0 ∨ r18 = 1) → ((r18 = 0 → K (-2) S) ∧ (¬ (r18 = 0) → ((x2 = (-1) → j_X_saints_34 x1 x2 S K) ∧ (¬ (x2 = (-1)) → w_X_isBone x2 S (fun (r22 : Int) => (r22 = 0 ∨ r22 = 1) → ((r22 = 0 → K (-2) S) ∧ (¬ (r22 = 0) → j_X_saints_34 x1 x2 S K))))))))))))
def j_X_hasHoly_35 (x1 : Int) (x2 : Int) (S : St) (K : Int → St → Prop) (C : Int → St → Prop) : Prop :=
  InR (x2 + 1) ∧ (C (x2 + 1) S)
def l_X_hasHoly_2 (x1 : Int) (K : Int → St → Prop) : Nat → Int → St → Prop
  | 0, _, _ => False
  | n + 1, x2, S => (InR (aI S 0 1) → (((aI S 0 1) ≤ x2 → K 0 S) ∧ (¬ ((aI S 0 1) ≤ x2) → w_X_bone_2 x2 3 S (fun (r4 : Int) => InR r4 → ((¬ r4 = x1 → j_X_hasHoly_35 x1 x2 S K (l_X_hasHoly_2 x1 K n)) ∧ (r4 = x1 → w_X_isHoly x2 S (fun (r7 : Int) (S8 : St) => (r7 = 0 ∨ r7 = 1) → ((r7 = 0 → j_X_hasHoly_35 x1 x2 S8 K (l_X_hasHoly_2 x1 K n)) ∧ (¬ (r7 = 0) → K 1 S8)))))))))
def w_X_hasHoly (x1 : Int) (S : St) (K : Int → St → Prop) : Prop :=
  ∃ n2 : Nat, l_X_hasHoly_2 x1 K n2 0 S
def j_X_pilgrims_109 (x2 : Int) (x3 : Int) (x4 : Int) (x5 : Int) (x6 : Int) (S : St) (K : Int → St → Prop) (C : Int → Int → St → Prop) : Prop :=
  InR (x6 + 1) ∧ (C x5 (x6 + 1) S)
def l_X_pilgrims_59 (x2 : Int) (x3 : Int) (x4 : Int) (K : Int → St → Prop) : Nat → Int → Int → St → Prop
  | 0, _, _, _ => False
  | n + 1, x5, x6, S => ((x2 ≤ x6 → K x5 S) ∧ (¬ (x2 ≤ x6) → (InR (aI S 0 0) → w_X_draw (aI S 0 0) S (fun (r4 : Int) (S5 : St) => InR r4 → w_X_hasHoly r4 S5 (fun (r6 : Int) (S7 : St) => (r6 = 0 ∨ r6 = 1) → ((r6 = 0 → j_X_pilgrims_109 x2 x3 x4 x5 x6 S7 K (l_X_pilgrims_59 x2 x3 x4 K n)) ∧ (¬ (r6 = 0) → w_X_draw 6 S7 (fun (r9 : Int) (S10 : St) => InR r9 → ((x3 ≤ r9 → j_X_pilgrims_109 x2 x3 x4 x5 x6 S10 K (l_X_pilgrims_59 x2 x3 x4 K n)) ∧ (¬ (x3 ≤ r9) → ((¬ r4 = x4 → j_X_pilgrims_109 x2 x3 x4 x5 x6 S10 K (l_X_pilgrims_59 x2 x3 x4 K n)) ∧ (r4 = x4 → InR (x5 + 1) ∧ (j_X_pilgrims_109 x2 x3 x4 (x5 + 1) x6 S10 K (l_X_pilgrims_59 x2 x3 x4 K n))))))))))))))
def w_X_pilgrims (x1 : Int) (x2 : Int) (x3 : Int) (x4 : Int) (S : St) (K : Int → St → Prop) : Prop :=
  w_X_in x1 0 9999 (fun (r14 : Int) => (r14 = 0 ∨ r14 = 1) → ((r14 = 0 → K (-1) S) ∧ (¬ (r14 = 0) → w_X_in x2 1 99 (fun (r17 : Int) => (r17 = 0 ∨ r17 = 1) → ((r17 = 0 → K (-1) S) ∧ (¬ (r17 = 0) → w_X_in x3 0 6 (fun (r20 : Int) => (r20 = 0 ∨ r20 = 1) → ((r20 = 0 → K (-1) S) ∧ (¬ (r20 = 0) → w_X_isTown x4 S (fun (r23 : Int) => (r23 = 0 ∨ r23 = 1) → ((¬ r23 = 0 → InR (x1 * 7) ∧ (InR ((x1 * 7) + 15) ∧ ((∀ S28 : St, S28 = fset S 20 ((x1 * 7) + 15) → ∃ n59 : Nat, l_X_pilgrims_59 x2 x3 x4 K n59 0 0 S28)))) ∧ (r23 = 0 → K (-1) S))))))))))))
def l_X1_copy_2_132_133_2 (K : St → Prop) : Nat → Int → St → Prop
  | 0, _, _ => False
  | n + 1, x2, S => ((20 ≤ x2 → K S) ∧ (¬ (20 ≤ x2) → ((0 : Int) ≤ x2 ∧ x2 < 20) ∧ (((0 : Int) ≤ x2 ∧ x2 < 20) ∧ (w_X1_copy (15 + Int.toNat x2) 91 (35 + Int.toNat x2) 91 S (fun (S5 : St) => InR (x2 + 1) ∧ (l_X1_copy_2_132_133_2 K n (x2 + 1) S5))))))
def w_X1_copy_2_132_133 (S : St) (K : St → Prop) : Prop :=
  ∃ n2 : Nat, l_X1_copy_2_132_133_2 K n2 0 S
def l_X1_copy_2_133_132_2 (K : St → Prop) : Nat → Int → St → Prop
  | 0, _, _ => False
  | n + 1, x2, S => ((20 ≤ x2 → K S) ∧ (¬ (20 ≤ x2) → ((0 : Int) ≤ x2 ∧ x2 < 20) ∧ (((0 : Int) ≤ x2 ∧ x2 < 20) ∧ (w_X1_copy (35 + Int.toNat x2) 91 (15 + Int.toNat x2) 91 S (fun (S5 : St) => InR (x2 + 1) ∧ (l_X1_copy_2_133_132_2 K n (x2 + 1) S5))))))
def w_X1_copy_2_133_132 (S : St) (K : St → Prop) : Prop :=
  ∃ n2 : Nat, l_X1_copy_2_133_132_2 K n2 0 S
def l_X1_copy_2_134_135_2 (K : St → Prop) : Nat → Int → St → Prop
  | 0, _, _ => False
  | n + 1, x2, S => ((12 ≤ x2 → K S) ∧ (¬ (12 ≤ x2) → ((0 : Int) ≤ x2 ∧ x2 < 12) ∧ (((0 : Int) ≤ x2 ∧ x2 < 12) ∧ (w_X1_copy (55 + Int.toNat x2) 4 (67 + Int.toNat x2) 4 S (fun (S5 : St) => InR (x2 + 1) ∧ (l_X1_copy_2_134_135_2 K n (x2 + 1) S5))))))
def w_X1_copy_2_134_135 (S : St) (K : St → Prop) : Prop :=
  ∃ n2 : Nat, l_X1_copy_2_134_135_2 K n2 0 S
def l_X1_copy_2_135_134_2 (K : St → Prop) : Nat → Int → St → Prop
  | 0, _, _ => False
  | n + 1, x2, S => ((12 ≤ x2 → K S) ∧ (¬ (12 ≤ x2) → ((0 : Int) ≤ x2 ∧ x2 < 12) ∧ (((0 : Int) ≤ x2 ∧ x2 < 12) ∧ (w_X1_copy (67 + Int.toNat x2) 4 (55 + Int.toNat x2) 4 S (fun (S5 : St) => InR (x2 + 1) ∧ (l_X1_copy_2_135_134_2 K n (x2 + 1) S5))))))
def w_X1_copy_2_135_134 (S : St) (K : St → Prop) : Prop :=
  ∃ n2 : Nat, l_X1_copy_2_135_134_2 K n2 0 S
def w_X1_be_t130_131 (S : St) (K : St → Prop) : Prop :=
  w_X1_copy 4 8 0 8 S (fun (S2 : St) => w_X1_copy 5 10 1 10 S2 (fun (S4 : St) => w_X1_copy 6 10 2 10 S4 (fun (S6 : St) => w_X1_copy 7 91 3 91 S6 (fun (S8 : St) => w_X1_copy_2_133_132 S8 (fun (S10 : St) => w_X1_copy_2_135_134 S10 (fun (S12 : St) => (∀ i : Int, 0 ≤ i → i < 4 → ∀ y, rI S12 141 i = some y → ∃ fs : List PV, gI S12 y = some (.inr (.inl (4, fs)))) ∧ (∀ S13 : St, S13 = rcpy S12 141 140 4 → K S13)))))))
def w_X1_be_t131_130 (S : St) (K : St → Prop) : Prop :=
  w_X1_copy 0 8 4 8 S (fun (S2 : St) => w_X1_copy 1 10 5 10 S2 (fun (S4 : St) => w_X1_copy 2 10 6 10 S4 (fun (S6 : St) => w_X1_copy 3 91 7 91 S6 (fun (S8 : St) => w_X1_copy_2_132_133 S8 (fun (S10 : St) => w_X1_copy_2_134_135 S10 (fun (S12 : St) => (∀ i : Int, 0 ≤ i → i < 4 → ∀ y, rI S12 140 i = some y → ∃ fs : List PV, gI S12 y = some (.inr (.inl (4, fs)))) ∧ (∀ S13 : St, S13 = rcpy S12 140 141 4 → K S13)))))))
def w_X_image (S : St) (K : Int → St → Prop) : Prop :=
  w_X1_be_t131_130 S (fun (S2 : St) => w_X_year S2 (fun (r3 : Int) => InR r3 → K r3 S2))
def w_X_back (S : St) (K : Int → St → Prop) : Prop :=
  w_X1_be_t130_131 S (fun (S2 : St) => w_X_year S2 (fun (r3 : Int) => InR r3 → K r3 S2))
