def wM_ft17 : Nat → Nat ⊕ Nat × Nat := fun k => match k with
  | 0 => .inl 0
  | 1 => .inl 1
  | 2 => .inl 2
  | 3 => .inl 3
  | 4 => .inr (0, 4)
  | 5 => .inr (0, 5)
  | 6 => .inr (0, 6)
  | 7 => .inr (0, 7)
  | 8 => .inr (0, 8)
  | 9 => .inr (0, 9)
  | 10 => .inr (0, 10)
  | 11 => .inr (1, 11)
  | 12 => .inr (0, 12)
  | 13 => .inr (0, 13)
  | 14 => .inr (0, 14)
  | 15 => .inr (0, 15)
  | 16 => .inl 4
  | 17 => .inr (0, 17)
  | 18 => .inr (0, 18)
  | 19 => .inr (2, 19)
  | 20 => .inr (0, 20)
  | 21 => .inr (0, 21)
  | 22 => .inl 5
  | 23 => .inl 6
  | 24 => .inl 7
  | 25 => .inl 8
  | 26 => .inl 9
  | 27 => .inl 10
  | 28 => .inl 11
  | 29 => .inr (0, 29)
  | 30 => .inl 12
  | 31 => .inl 13
  | 32 => .inl 14
  | 33 => .inl 15
  | 34 => .inl 16
  | 35 => .inr (0, 35)
  | _ => .inl 0
def wM_cd : Nat → Cd := fun k => match k with
  | 0 => .inl (0, 1814)
  | 1 => .inl (0, 1814)
  | 2 => .inl (0, 2800)
  | 3 => .inl (0, 300)
  | 4 => .inl (0, 160)
  | 5 => .inl (0, 8)
  | 6 => .inl (1, 330)
  | 7 => .inl (2, 330)
  | 8 => .inl (0, 16)
  | 9 => .inl (0, 16)
  | 10 => .inl (0, 16)
  | 11 => .inl (0, 17)
  | 12 => .inl (0, 53248)
  | 13 => .inl (1, 53248)
  | 14 => .inl (2, 144)
  | 15 => .inl (0, 8)
  | 16 => .inl (0, 8)
  | 17 => .inr (.inl (2, 36, wM_ft17))
  | _ => .inl (0, 0)
def wM : Wd := (18, wM_cd, fun k => match k with
  | 11 => 1
  | 19 => 2
  | _ => 0)
theorem wM_0 : wM.2.1 0 = .inl (0, 1814) := rfl
theorem wM_1 : wM.2.1 1 = .inl (0, 1814) := rfl
theorem wM_2 : wM.2.1 2 = .inl (0, 2800) := rfl
theorem wM_3 : wM.2.1 3 = .inl (0, 300) := rfl
theorem wM_4 : wM.2.1 4 = .inl (0, 160) := rfl
theorem wM_5 : wM.2.1 5 = .inl (0, 8) := rfl
theorem wM_6 : wM.2.1 6 = .inl (1, 330) := rfl
theorem wM_7 : wM.2.1 7 = .inl (2, 330) := rfl
theorem wM_8 : wM.2.1 8 = .inl (0, 16) := rfl
theorem wM_9 : wM.2.1 9 = .inl (0, 16) := rfl
theorem wM_10 : wM.2.1 10 = .inl (0, 16) := rfl
theorem wM_11 : wM.2.1 11 = .inl (0, 17) := rfl
theorem wM_12 : wM.2.1 12 = .inl (0, 53248) := rfl
theorem wM_13 : wM.2.1 13 = .inl (1, 53248) := rfl
theorem wM_14 : wM.2.1 14 = .inl (2, 144) := rfl
theorem wM_15 : wM.2.1 15 = .inl (0, 8) := rfl
theorem wM_16 : wM.2.1 16 = .inl (0, 8) := rfl
theorem wM_17 : wM.2.1 17 = .inr (.inl (2, 36, wM_ft17)) := rfl
/-- whose field a number is -/
def wM_own : Nat → Nat × Nat := fun k => match k with
  | 4 => (17, 4)
  | 5 => (17, 5)
  | 6 => (17, 6)
  | 7 => (17, 7)
  | 8 => (17, 8)
  | 9 => (17, 9)
  | 10 => (17, 10)
  | 11 => (17, 11)
  | 12 => (17, 12)
  | 13 => (17, 13)
  | 14 => (17, 14)
  | 15 => (17, 15)
  | 17 => (17, 17)
  | 18 => (17, 18)
  | 19 => (17, 19)
  | 20 => (17, 20)
  | 21 => (17, 21)
  | 29 => (17, 29)
  | 35 => (17, 35)
  | _ => (18, 0)
theorem wM_fts17 : (List.range 36).all (fun i => match wM_ft17 i with | .inl _ => true | .inr y => (wM_own y.2).1 == 17 && (wM_own y.2).2 == i && y.1 == wM.2.2 y.2) = true := by decide +kernel
theorem wM_obj {k : Nat} {q : Nat × Nat × (Nat → Nat ⊕ Nat × Nat)} (h : wM.2.1 k = .inr (.inl q)) : (k = 17 ∧ q = (2, 36, wM_ft17)) := by
  have h : wM_cd k = .inr (.inl q) := h
  unfold wM_cd at h
  split at h <;> first | (cases h; exact ⟨rfl, rfl⟩) | cases h
theorem wM_fld {k : Nat} {q : Nat × Nat × (Nat → Nat ⊕ Nat × Nat)} (h : wM.2.1 k = .inr (.inl q)) {i : Nat} (hi : i < q.2.1) {y : Nat × Nat} (hy : q.2.2 i = .inr y) : wM_own y.2 = (k, i) ∧ y.1 = wM.2.2 y.2 := by
  rcases wM_obj h with ⟨rfl, rfl⟩
  · have h2 := List.all_eq_true.mp wM_fts17 i (List.mem_range.mpr hi)
    have hy : wM_ft17 i = .inr y := hy
    rw [hy] at h2
    simp at h2
    exact ⟨Prod.ext h2.1.1 h2.1.2, h2.2⟩
theorem wM_U : wU wM := by
  intro k k' q q' hk hk' i i' hi hi' y y' hy hy' hyy
  obtain ⟨h1, h2⟩ := wM_fld hk hi hy
  obtain ⟨h3, h4⟩ := wM_fld hk' hi' hy'
  rw [hyy, h3] at h1
  exact ⟨(congrArg Prod.fst h1).symm, (congrArg Prod.snd h1).symm, h2⟩
def l_M_copy_0_1_2 (K : St → Prop) : Nat → Int → St → Prop
  | 0, _, _ => False
  | n + 1, x2, S => ((1814 ≤ x2 → K S) ∧ (¬ (1814 ≤ x2) → ((0 : Int) ≤ x2 ∧ x2 < 1814) ∧ ((InR (aI S 0 x2) → ((0 : Int) ≤ x2 ∧ x2 < 1814) ∧ ((∀ S5 : St, S5 = aset S 1 x2 (aI S 0 x2) → InR (x2 + 1) ∧ (l_M_copy_0_1_2 K n (x2 + 1) S5)))))))
def w_M_copy_0_1 (S : St) (K : St → Prop) : Prop :=
  ∃ n2 : Nat, l_M_copy_0_1_2 K n2 0 S
def l_M_copy_1_0_2 (K : St → Prop) : Nat → Int → St → Prop
  | 0, _, _ => False
  | n + 1, x2, S => ((1814 ≤ x2 → K S) ∧ (¬ (1814 ≤ x2) → ((0 : Int) ≤ x2 ∧ x2 < 1814) ∧ ((InR (aI S 1 x2) → ((0 : Int) ≤ x2 ∧ x2 < 1814) ∧ ((∀ S5 : St, S5 = aset S 0 x2 (aI S 1 x2) → InR (x2 + 1) ∧ (l_M_copy_1_0_2 K n (x2 + 1) S5)))))))
def w_M_copy_1_0 (S : St) (K : St → Prop) : Prop :=
  ∃ n2 : Nat, l_M_copy_1_0_2 K n2 0 S
def w_M_isIn (x0 : Int) (x1 : Int) (x2 : Int) (K : Int → Prop) : Prop :=
  ((x0 < x1 → K 0) ∧ (¬ (x0 < x1) → ((x2 < x0 → K 0) ∧ (¬ (x2 < x0) → K 1))))
def w_M_town (x1 : Int) (x2 : Int) (S : St) (K : Int → St → Prop) : Prop :=
  w_M_isIn x1 0 99 (fun (r1 : Int) => (r1 = 0 ∨ r1 = 1) → ((r1 = 0 → K (-1) S) ∧ (¬ (r1 = 0) → w_M_isIn x2 0 99 (fun (r4 : Int) => (r4 = 0 ∨ r4 = 1) → ((r4 = 0 → K (-1) S) ∧ (¬ (r4 = 0) → (InR (aI S 0 0) → ((¬ (aI S 0 0) = 10 → InR (2 * (aI S 0 0)) ∧ (InR (10 + (2 * (aI S 0 0))) ∧ (((0 : Int) ≤ 10 + (2 * (aI S 0 0)) ∧ 10 + (2 * (aI S 0 0)) < 1814) ∧ ((∀ S13 : St, S13 = aset S 0 (10 + (2 * (aI S 0 0))) x1 → (InR (aI S13 0 0) → InR (2 * (aI S13 0 0)) ∧ (InR (10 + (2 * (aI S13 0 0))) ∧ (InR ((10 + (2 * (aI S13 0 0))) + 1) ∧ (((0 : Int) ≤ (10 + (2 * (aI S13 0 0))) + 1 ∧ (10 + (2 * (aI S13 0 0))) + 1 < 1814) ∧ ((∀ S19 : St, S19 = aset S13 0 ((10 + (2 * (aI S13 0 0))) + 1) x2 → (InR (aI S19 0 0) → InR ((aI S19 0 0) + 1) ∧ ((∀ S22 : St, S22 = aset S19 0 0 ((aI S19 0 0) + 1) → (InR (aI S22 0 0) → InR ((aI S22 0 0) - 1) ∧ (K ((aI S22 0 0) - 1) S22)))))))))))))))) ∧ ((aI S 0 0) = 10 → K (-1) S)))))))))
def w_M_boneAt (x0 : Int) (K : Int → Prop) : Prop :=
  InR (6 * x0) ∧ (InR (30 + (6 * x0)) ∧ (K (30 + (6 * x0))))
def w_M_isTown (x1 : Int) (S : St) (K : Int → Prop) : Prop :=
  (InR (aI S 0 0) → InR ((aI S 0 0) - 1) ∧ (w_M_isIn x1 0 ((aI S 0 0) - 1) (fun (r3 : Int) => (r3 = 0 ∨ r3 = 1) → K r3)))
def w_M_bone (x1 : Int) (x2 : Int) (x3 : Int) (S : St) (K : Int → St → Prop) : Prop :=
  w_M_isIn x1 0 19 (fun (r1 : Int) => (r1 = 0 ∨ r1 = 1) → ((r1 = 0 → K (-1) S) ∧ (¬ (r1 = 0) → w_M_isIn x2 1 999 (fun (r4 : Int) => (r4 = 0 ∨ r4 = 1) → ((r4 = 0 → K (-1) S) ∧ (¬ (r4 = 0) → w_M_isTown x3 S (fun (r7 : Int) => (r7 = 0 ∨ r7 = 1) → ((r7 = 0 → K (-1) S) ∧ (¬ (r7 = 0) → (InR (aI S 0 1) → ((¬ (aI S 0 1) = 16 → w_M_boneAt (aI S 0 1) (fun (r13 : Int) => InR r13 → ((0 : Int) ≤ r13 ∧ r13 < 1814) ∧ ((∀ S16 : St, S16 = aset S 0 r13 x1 → InR (r13 + 1) ∧ (((0 : Int) ≤ r13 + 1 ∧ r13 + 1 < 1814) ∧ ((∀ S19 : St, S19 = aset S16 0 (r13 + 1) x2 → InR (r13 + 2) ∧ (((0 : Int) ≤ r13 + 2 ∧ r13 + 2 < 1814) ∧ ((∀ S22 : St, S22 = aset S19 0 (r13 + 2) x3 → InR (r13 + 3) ∧ (((0 : Int) ≤ r13 + 3 ∧ r13 + 3 < 1814) ∧ ((∀ S25 : St, S25 = aset S22 0 (r13 + 3) x3 → InR (r13 + 4) ∧ (((0 : Int) ≤ r13 + 4 ∧ r13 + 4 < 1814) ∧ ((∀ S28 : St, S28 = aset S25 0 (r13 + 4) (-1) → InR (r13 + 5) ∧ (((0 : Int) ≤ r13 + 5 ∧ r13 + 5 < 1814) ∧ ((∀ S31 : St, S31 = aset S28 0 (r13 + 5) 0 → (InR (aI S31 0 1) → InR ((aI S31 0 1) + 1) ∧ ((∀ S34 : St, S34 = aset S31 0 1 ((aI S31 0 1) + 1) → (InR (aI S34 0 1) → InR ((aI S34 0 1) - 1) ∧ (K ((aI S34 0 1) - 1) S34)))))))))))))))))))))))) ∧ ((aI S 0 1) = 16 → K (-1) S))))))))))))
def j_M_undo_101 (x1 : Int) (x2 : Int) (S : St) (K : Int → St → Prop) (C : Int → St → Prop) : Prop :=
  InR (x2 + 1) ∧ (C (x2 + 1) S)
def l_M_undo_63 (x1 : Int) (x2 : Int) (K : Int → St → Prop) (X101 : St → Prop) : Nat → Int → St → Prop
  | 0, _, _ => False
  | n + 1, x3, S => ((5 ≤ x3 → X101 S) ∧ (¬ (5 ≤ x3) → w_M_boneAt x2 (fun (r3 : Int) => InR r3 → InR (r3 + 1) ∧ (InR ((r3 + 1) + x3) ∧ (InR (x1 + 2) ∧ (InR (5 * x2) ∧ (InR ((x1 + 2) + (5 * x2)) ∧ (InR (((x1 + 2) + (5 * x2)) + x3) ∧ (((0 : Int) ≤ ((x1 + 2) + (5 * x2)) + x3 ∧ ((x1 + 2) + (5 * x2)) + x3 < 1814) ∧ ((InR (aI S 0 (((x1 + 2) + (5 * x2)) + x3)) → ((0 : Int) ≤ (r3 + 1) + x3 ∧ (r3 + 1) + x3 < 1814) ∧ ((∀ S14 : St, S14 = aset S 0 ((r3 + 1) + x3) (aI S 0 (((x1 + 2) + (5 * x2)) + x3)) → InR (x3 + 1) ∧ (l_M_undo_63 x1 x2 K X101 n (x3 + 1) S14))))))))))))))
def l_M_undo_49 (x1 : Int) (K : Int → St → Prop) : Nat → Int → St → Prop
  | 0, _, _ => False
  | n + 1, x2, S => InR (x1 + 1) ∧ (((0 : Int) ≤ x1 + 1 ∧ x1 + 1 < 1814) ∧ ((InR (aI S 0 (x1 + 1)) → (((aI S 0 (x1 + 1)) ≤ x2 → (InR (aI S 0 5) → K (aI S 0 5) S)) ∧ (¬ ((aI S 0 (x1 + 1)) ≤ x2) → ∃ n63 : Nat, l_M_undo_63 x1 x2 K (fun (zS : St) => j_M_undo_101 x1 x2 zS K (l_M_undo_49 x1 K n)) n63 0 S)))))
def w_M_undo (S : St) (K : Int → St → Prop) : Prop :=
  (InR (aI S 0 5) → ((¬ (aI S 0 5) = 0 → InR ((aI S 0 5) - 1) ∧ ((∀ S25 : St, S25 = aset S 0 5 ((aI S 0 5) - 1) → (InR (aI S25 0 5) → InR (82 * (aI S25 0 5)) ∧ (InR (174 + (82 * (aI S25 0 5))) ∧ ((∀ v29 : Int, v29 = 174 + (82 * (aI S25 0 5)) → InR v29 → ((0 : Int) ≤ v29 ∧ v29 < 1814) ∧ ((InR (aI S25 0 v29) → (∀ S32 : St, S32 = aset S25 0 2 (aI S25 0 v29) → ∃ n49 : Nat, l_M_undo_49 v29 K n49 0 S32)))))))))) ∧ ((aI S 0 5) = 0 → K (-1) S)))
def w_M_isBone (x1 : Int) (S : St) (K : Int → Prop) : Prop :=
  (InR (aI S 0 1) → InR ((aI S 0 1) - 1) ∧ (w_M_isIn x1 0 ((aI S 0 1) - 1) (fun (r3 : Int) => (r3 = 0 ∨ r3 = 1) → K r3)))
def j_M_keep_150 (S : St) (K : St → Prop) : Prop :=
  (InR (aI S 0 5) → InR ((aI S 0 5) + 1) ∧ ((∀ S3 : St, S3 = aset S 0 5 ((aI S 0 5) + 1) → K S3)))
def j_M_keep_144 (x1 : Int) (x2 : Int) (S : St) (K : St → Prop) (X150 : St → Prop) (C : Int → St → Prop) : Prop :=
  InR (x2 + 1) ∧ (C (x2 + 1) S)
def l_M_keep_106 (x1 : Int) (x2 : Int) (K : St → Prop) (X144 : St → Prop) : Nat → Int → St → Prop
  | 0, _, _ => False
  | n + 1, x3, S => ((5 ≤ x3 → X144 S) ∧ (¬ (5 ≤ x3) → InR (x1 + 2) ∧ (InR (5 * x2) ∧ (InR ((x1 + 2) + (5 * x2)) ∧ (InR (((x1 + 2) + (5 * x2)) + x3) ∧ (w_M_boneAt x2 (fun (r10 : Int) => InR r10 → InR (r10 + 1) ∧ (InR ((r10 + 1) + x3) ∧ (((0 : Int) ≤ (r10 + 1) + x3 ∧ (r10 + 1) + x3 < 1814) ∧ ((InR (aI S 0 ((r10 + 1) + x3)) → ((0 : Int) ≤ ((x1 + 2) + (5 * x2)) + x3 ∧ ((x1 + 2) + (5 * x2)) + x3 < 1814) ∧ ((∀ S17 : St, S17 = aset S 0 (((x1 + 2) + (5 * x2)) + x3) (aI S 0 ((r10 + 1) + x3)) → InR (x3 + 1) ∧ (l_M_keep_106 x1 x2 K X144 n (x3 + 1) S17))))))))))))))
def l_M_keep_98 (x1 : Int) (K : St → Prop) (X150 : St → Prop) : Nat → Int → St → Prop
  | 0, _, _ => False
  | n + 1, x2, S => ((16 ≤ x2 → X150 S) ∧ (¬ (16 ≤ x2) → ∃ n106 : Nat, l_M_keep_106 x1 x2 K (fun (zS : St) => j_M_keep_144 x1 x2 zS K X150 (l_M_keep_98 x1 K X150 n)) n106 0 S))
def j_M_keep_56 (S : St) (K : St → Prop) : Prop :=
  (InR (aI S 0 5) → InR (82 * (aI S 0 5)) ∧ (InR (174 + (82 * (aI S 0 5))) ∧ ((∀ v23 : Int, v23 = 174 + (82 * (aI S 0 5)) → InR v23 → (InR (aI S 0 2) → ((0 : Int) ≤ v23 ∧ v23 < 1814) ∧ ((∀ S26 : St, S26 = aset S 0 v23 (aI S 0 2) → InR (v23 + 1) ∧ ((InR (aI S26 0 1) → ((0 : Int) ≤ v23 + 1 ∧ v23 + 1 < 1814) ∧ ((∀ S30 : St, S30 = aset S26 0 (v23 + 1) (aI S26 0 1) → ∃ n98 : Nat, l_M_keep_98 v23 K (fun (zS : St) => j_M_keep_150 zS K) n98 0 S30)))))))))))
def j_M_keep_46 (S : St) (K : St → Prop) : Prop :=
  (InR (aI S 0 5) → InR ((aI S 0 5) - 1) ∧ ((∀ S33 : St, S33 = aset S 0 5 ((aI S 0 5) - 1) → j_M_keep_56 S33 K)))
def l_M_keep_13 (K : St → Prop) (X46 : St → Prop) : Nat → Int → St → Prop
  | 0, _, _ => False
  | n + 1, x1, S => ((1558 ≤ x1 → X46 S) ∧ (¬ (1558 ≤ x1) → InR (174 + x1) ∧ (InR (256 + x1) ∧ (((0 : Int) ≤ 256 + x1 ∧ 256 + x1 < 1814) ∧ ((InR (aI S 0 (256 + x1)) → ((0 : Int) ≤ 174 + x1 ∧ 174 + x1 < 1814) ∧ ((∀ S40 : St, S40 = aset S 0 (174 + x1) (aI S 0 (256 + x1)) → InR (x1 + 1) ∧ (l_M_keep_13 K X46 n (x1 + 1) S40)))))))))
def w_M_keep (S : St) (K : St → Prop) : Prop :=
  (InR (aI S 0 5) → ((¬ (aI S 0 5) = 20 → j_M_keep_56 S K) ∧ ((aI S 0 5) = 20 → ∃ n13 : Nat, l_M_keep_13 K (fun (zS : St) => j_M_keep_46 zS K) n13 0 S)))
def w_M_prove (x1 : Int) (x2 : Int) (S : St) (K : Int → St → Prop) : Prop :=
  w_M_isTown x1 S (fun (r1 : Int) => (r1 = 0 ∨ r1 = 1) → ((r1 = 0 → K 0 S) ∧ (¬ (r1 = 0) → w_M_isBone x2 S (fun (r4 : Int) => (r4 = 0 ∨ r4 = 1) → ((r4 = 0 → K 0 S) ∧ (¬ (r4 = 0) → w_M_boneAt x2 (fun (r7 : Int) => InR r7 → InR (r7 + 5) ∧ (((0 : Int) ≤ r7 + 5 ∧ r7 + 5 < 1814) ∧ ((InR (aI S 0 (r7 + 5)) → (0 ≤ x1 ∧ x1 ≤ 31) ∧ (((¬ (((aI S 0 (r7 + 5)) / 2 ^ (Int.toNat x1)) % 2) = 1 → w_M_keep S (fun (S17 : St) => w_M_boneAt x2 (fun (r18 : Int) => InR r18 → InR (r18 + 5) ∧ (((0 : Int) ≤ r18 + 5 ∧ r18 + 5 < 1814) ∧ ((InR (aI S17 0 (r18 + 5)) → (0 ≤ x1 ∧ x1 ≤ 31) ∧ (InR (1 * 2 ^ (Int.toNat x1)) ∧ (((0 : Int) ≤ r18 + 5 ∧ r18 + 5 < 1814) ∧ ((∀ S26 : St, S26 = aset S17 0 (r18 + 5) (iOr (aI S17 0 (r18 + 5)) (1 * 2 ^ (Int.toNat x1))) → K 1 S26)))))))))) ∧ ((((aI S 0 (r7 + 5)) / 2 ^ (Int.toNat x1)) % 2) = 1 → K 0 S)))))))))))))
def w_M_lend (x1 : Int) (x2 : Int) (x3 : Int) (S : St) (K : Int → St → Prop) : Prop :=
  w_M_isBone x1 S (fun (r1 : Int) => (r1 = 0 ∨ r1 = 1) → ((r1 = 0 → K (-1) S) ∧ (¬ (r1 = 0) → w_M_isTown x2 S (fun (r4 : Int) => (r4 = 0 ∨ r4 = 1) → ((r4 = 0 → K (-1) S) ∧ (¬ (r4 = 0) → w_M_isIn x3 1 99 (fun (r7 : Int) => (r7 = 0 ∨ r7 = 1) → ((r7 = 0 → K (-1) S) ∧ (¬ (r7 = 0) → (InR (aI S 0 2) → InR ((aI S 0 2) + x3) ∧ (((((aI S 0 2) + x3) ≤ 999 → w_M_boneAt x1 (fun (r13 : Int) => InR r13 → InR (r13 + 3) ∧ (((0 : Int) ≤ r13 + 3 ∧ r13 + 3 < 1814) ∧ ((InR (aI S 0 (r13 + 3)) → InR (r13 + 2) ∧ (((0 : Int) ≤ r13 + 2 ∧ r13 + 2 < 1814) ∧ ((InR (aI S 0 (r13 + 2)) → ((¬ (aI S 0 (r13 + 3)) = (aI S 0 (r13 + 2)) → K (-1) S) ∧ ((aI S 0 (r13 + 3)) = (aI S 0 (r13 + 2)) → InR (r13 + 4) ∧ (((0 : Int) ≤ r13 + 4 ∧ r13 + 4 < 1814) ∧ ((InR (aI S 0 (r13 + 4)) → ((0 ≤ (aI S 0 (r13 + 4)) → K (-1) S) ∧ (¬ (0 ≤ (aI S 0 (r13 + 4))) → ((0 : Int) ≤ r13 + 3 ∧ r13 + 3 < 1814) ∧ (((¬ (aI S 0 (r13 + 3)) = x2 → w_M_keep S (fun (S30 : St) => ((0 : Int) ≤ r13 + 3 ∧ r13 + 3 < 1814) ∧ ((∀ S32 : St, S32 = aset S30 0 (r13 + 3) x2 → (InR (aI S32 0 2) → InR ((aI S32 0 2) + x3) ∧ (((0 : Int) ≤ r13 + 4 ∧ r13 + 4 < 1814) ∧ ((∀ S36 : St, S36 = aset S32 0 (r13 + 4) ((aI S32 0 2) + x3) → ((0 : Int) ≤ r13 + 4 ∧ r13 + 4 < 1814) ∧ ((InR (aI S36 0 (r13 + 4)) → K (aI S36 0 (r13 + 4)) S36)))))))))) ∧ ((aI S 0 (r13 + 3)) = x2 → K (-1) S)))))))))))))))))) ∧ (¬ (((aI S 0 2) + x3) ≤ 999) → K (-1) S)))))))))))))
def w_M_swap (x1 : Int) (x2 : Int) (S : St) (K : Int → St → Prop) : Prop :=
  w_M_isBone x1 S (fun (r1 : Int) => (r1 = 0 ∨ r1 = 1) → ((r1 = 0 → K 0 S) ∧ (¬ (r1 = 0) → w_M_isBone x2 S (fun (r4 : Int) => (r4 = 0 ∨ r4 = 1) → ((r4 = 0 → K 0 S) ∧ (¬ (r4 = 0) → w_M_boneAt x1 (fun (r7 : Int) => InR r7 → InR (r7 + 3) ∧ (((0 : Int) ≤ r7 + 3 ∧ r7 + 3 < 1814) ∧ ((InR (aI S 0 (r7 + 3)) → w_M_boneAt x2 (fun (r12 : Int) => InR r12 → InR (r12 + 3) ∧ (((0 : Int) ≤ r12 + 3 ∧ r12 + 3 < 1814) ∧ ((InR (aI S 0 (r12 + 3)) → ((¬ (aI S 0 (r7 + 3)) = (aI S 0 (r12 + 3)) → w_M_keep S (fun (S19 : St) => w_M_boneAt x1 (fun (r20 : Int) => InR r20 → InR (r20 + 3) ∧ (((0 : Int) ≤ r20 + 3 ∧ r20 + 3 < 1814) ∧ ((InR (aI S19 0 (r20 + 3)) → (∀ v25 : Int, v25 = aI S19 0 (r20 + 3) → InR v25 → w_M_boneAt x1 (fun (r26 : Int) => InR r26 → InR (r26 + 3) ∧ (w_M_boneAt x2 (fun (r29 : Int) => InR r29 → InR (r29 + 3) ∧ (((0 : Int) ≤ r29 + 3 ∧ r29 + 3 < 1814) ∧ ((InR (aI S19 0 (r29 + 3)) → ((0 : Int) ≤ r26 + 3 ∧ r26 + 3 < 1814) ∧ ((∀ S35 : St, S35 = aset S19 0 (r26 + 3) (aI S19 0 (r29 + 3)) → w_M_boneAt x2 (fun (r36 : Int) => InR r36 → InR (r36 + 3) ∧ (((0 : Int) ≤ r36 + 3 ∧ r36 + 3 < 1814) ∧ ((∀ S40 : St, S40 = aset S35 0 (r36 + 3) v25 → K 1 S40))))))))))))))))))) ∧ ((aI S 0 (r7 + 3)) = (aI S 0 (r12 + 3)) → K 0 S))))))))))))))))
def w_M_steal (x1 : Int) (x2 : Int) (S : St) (K : Int → St → Prop) : Prop :=
  w_M_isBone x1 S (fun (r1 : Int) => (r1 = 0 ∨ r1 = 1) → ((r1 = 0 → K 0 S) ∧ (¬ (r1 = 0) → w_M_isTown x2 S (fun (r4 : Int) => (r4 = 0 ∨ r4 = 1) → ((r4 = 0 → K 0 S) ∧ (¬ (r4 = 0) → w_M_boneAt x1 (fun (r7 : Int) => InR r7 → InR (r7 + 3) ∧ (((0 : Int) ≤ r7 + 3 ∧ r7 + 3 < 1814) ∧ ((InR (aI S 0 (r7 + 3)) → ((¬ (aI S 0 (r7 + 3)) = x2 → w_M_keep S (fun (S14 : St) => w_M_boneAt x1 (fun (r15 : Int) => InR r15 → InR (r15 + 2) ∧ (((0 : Int) ≤ r15 + 2 ∧ r15 + 2 < 1814) ∧ ((∀ S19 : St, S19 = aset S14 0 (r15 + 2) x2 → InR (r15 + 3) ∧ (((0 : Int) ≤ r15 + 3 ∧ r15 + 3 < 1814) ∧ ((∀ S22 : St, S22 = aset S19 0 (r15 + 3) x2 → InR (r15 + 4) ∧ (((0 : Int) ≤ r15 + 4 ∧ r15 + 4 < 1814) ∧ ((∀ S25 : St, S25 = aset S22 0 (r15 + 4) (-1) → K 1 S25)))))))))))) ∧ ((aI S 0 (r7 + 3)) = x2 → K 0 S))))))))))))
def l_M_proofsOf_4 (x1 : Int) (S : St) (K : Int → Prop) : Nat → Int → Int → Prop
  | 0, _, _ => False
  | n + 1, x2, x3 => (InR (aI S 0 1) → (((aI S 0 1) ≤ x3 → K x2) ∧ (¬ ((aI S 0 1) ≤ x3) → w_M_boneAt x3 (fun (r3 : Int) => InR r3 → InR (r3 + 5) ∧ (((0 : Int) ≤ r3 + 5 ∧ r3 + 5 < 1814) ∧ ((InR (aI S 0 (r3 + 5)) → (0 ≤ x1 ∧ x1 ≤ 31) ∧ (InR (x2 + (((aI S 0 (r3 + 5)) / 2 ^ (Int.toNat x1)) % 2)) ∧ ((∀ v12 : Int, v12 = x2 + (((aI S 0 (r3 + 5)) / 2 ^ (Int.toNat x1)) % 2) → InR v12 → InR (x3 + 1) ∧ (l_M_proofsOf_4 x1 S K n v12 (x3 + 1))))))))))))
def w_M_proofsOf (x1 : Int) (S : St) (K : Int → Prop) : Prop :=
  ∃ n4 : Nat, l_M_proofsOf_4 x1 S K n4 0 0
def l_M_burn_22 (x1 : Int) (x2 : Int) (K : Int → St → Prop) : Nat → Int → St → Prop
  | 0, _, _ => False
  | n + 1, x3, S => (InR (aI S 0 1) → (((aI S 0 1) ≤ x3 → K x2 S) ∧ (¬ ((aI S 0 1) ≤ x3) → w_M_boneAt x3 (fun (r3 : Int) => InR r3 → InR (r3 + 5) ∧ (((0 : Int) ≤ r3 + 5 ∧ r3 + 5 < 1814) ∧ ((InR (aI S 0 (r3 + 5)) → (0 ≤ x1 ∧ x1 ≤ 31) ∧ (InR (1 * 2 ^ (Int.toNat x1)) ∧ (((0 : Int) ≤ r3 + 5 ∧ r3 + 5 < 1814) ∧ ((∀ S11 : St, S11 = aset S 0 (r3 + 5) (iAnd (aI S 0 (r3 + 5)) (iXor (1 * 2 ^ (Int.toNat x1)) (-1))) → InR (x3 + 1) ∧ (l_M_burn_22 x1 x2 K n (x3 + 1) S11))))))))))))
def w_M_burn (x1 : Int) (S : St) (K : Int → St → Prop) : Prop :=
  w_M_isTown x1 S (fun (r13 : Int) => (r13 = 0 ∨ r13 = 1) → ((¬ r13 = 0 → w_M_keep S (fun (S17 : St) => w_M_proofsOf x1 S17 (fun (r18 : Int) => InR r18 → ∃ n22 : Nat, l_M_burn_22 x1 r18 K n22 0 S17))) ∧ (r13 = 0 → K (-1) S)))
def l_M_clauseOf_2 (x1 : Int) (S : St) (K : Int → Prop) : Nat → Int → Prop
  | 0, _ => False
  | n + 1, x2 => (InR (aI S 0 4) → (((aI S 0 4) < 0 → K (-1)) ∧ (¬ ((aI S 0 4) < 0) → InR (700 * (aI S 0 4)) ∧ (((0 : Int) ≤ 700 * (aI S 0 4) ∧ 700 * (aI S 0 4) < 2800) ∧ ((InR (aI S 2 (700 * (aI S 0 4))) → (((aI S 2 (700 * (aI S 0 4))) ≤ x2 → K (-1)) ∧ (¬ ((aI S 2 (700 * (aI S 0 4))) ≤ x2) → InR ((700 * (aI S 0 4)) + 1) ∧ (InR (4 * x2) ∧ (InR (((700 * (aI S 0 4)) + 1) + (4 * x2)) ∧ (((0 : Int) ≤ ((700 * (aI S 0 4)) + 1) + (4 * x2) ∧ ((700 * (aI S 0 4)) + 1) + (4 * x2) < 2800) ∧ ((InR (aI S 2 (((700 * (aI S 0 4)) + 1) + (4 * x2))) → ((¬ (aI S 2 (((700 * (aI S 0 4)) + 1) + (4 * x2))) = x1 → InR (x2 + 1) ∧ (l_M_clauseOf_2 x1 S K n (x2 + 1))) ∧ ((aI S 2 (((700 * (aI S 0 4)) + 1) + (4 * x2))) = x1 → K x2)))))))))))))))
def w_M_clauseOf (x1 : Int) (S : St) (K : Int → Prop) : Prop :=
  ∃ n2 : Nat, l_M_clauseOf_2 x1 S K n2 0
def l_M_bits_4 (x0 : Int) (K : Int → Prop) : Nat → Int → Int → Prop
  | 0, _, _ => False
  | n + 1, x1, x2 => ((16 ≤ x2 → K x1) ∧ (¬ (16 ≤ x2) → (0 ≤ x2 ∧ x2 ≤ 31) ∧ (InR (x1 + ((x0 / 2 ^ (Int.toNat x2)) % 2)) ∧ ((∀ v6 : Int, v6 = x1 + ((x0 / 2 ^ (Int.toNat x2)) % 2) → InR v6 → InR (x2 + 1) ∧ (l_M_bits_4 x0 K n v6 (x2 + 1)))))))
def w_M_bits (x0 : Int) (K : Int → Prop) : Prop :=
  ∃ n4 : Nat, l_M_bits_4 x0 K n4 0 0
def w_M_name (x1 : Int) (x2 : Int) (S : St) (K : St → Prop) : Prop :=
  w_M_boneAt x1 (fun (r1 : Int) => InR r1 → w_M_boneAt x2 (fun (r3 : Int) => InR r3 → ((0 : Int) ≤ r1 ∧ r1 < 1814) ∧ ((InR (aI S 0 r1) → (∀ S7 : St, S7 = aset S 5 0 (aI S 0 r1) → InR (r1 + 1) ∧ (((0 : Int) ≤ r1 + 1 ∧ r1 + 1 < 1814) ∧ ((InR (aI S7 0 (r1 + 1)) → (∀ S11 : St, S11 = aset S7 5 1 (aI S7 0 (r1 + 1)) → InR (r1 + 3) ∧ (((0 : Int) ≤ r1 + 3 ∧ r1 + 3 < 1814) ∧ ((InR (aI S11 0 (r1 + 3)) → (∀ S15 : St, S15 = aset S11 5 2 (aI S11 0 (r1 + 3)) → InR (r1 + 5) ∧ (((0 : Int) ≤ r1 + 5 ∧ r1 + 5 < 1814) ∧ ((InR (aI S15 0 (r1 + 5)) → w_M_bits (aI S15 0 (r1 + 5)) (fun (r19 : Int) => InR r19 → (∀ S21 : St, S21 = aset S15 5 3 r19 → (InR (aI S21 0 2) → (∀ S23 : St, S23 = aset S21 5 4 (aI S21 0 2) → ((0 : Int) ≤ r3 ∧ r3 < 1814) ∧ ((InR (aI S23 0 r3) → (∀ S26 : St, S26 = aset S23 5 5 (aI S23 0 r3) → InR (r3 + 1) ∧ (((0 : Int) ≤ r3 + 1 ∧ r3 + 1 < 1814) ∧ ((InR (aI S26 0 (r3 + 1)) → (∀ S30 : St, S30 = aset S26 5 6 (aI S26 0 (r3 + 1)) → InR (r3 + 3) ∧ (((0 : Int) ≤ r3 + 3 ∧ r3 + 3 < 1814) ∧ ((InR (aI S30 0 (r3 + 3)) → (∀ S34 : St, S34 = aset S30 5 7 (aI S30 0 (r3 + 3)) → K S34)))))))))))))))))))))))))))))))
def w_M_isAsked (x0 : Int) (x1 : Int) (x3 : Int) (K : Int → Prop) : Prop :=
  ((¬ x0 = 10 → ((¬ x0 = 11 → ((¬ x0 = 12 → ((¬ x0 = 13 → ((¬ x0 = 14 → ((x1 = x3 → K 0) ∧ (¬ (x1 = x3) → K 1))) ∧ (x0 = 14 → ((¬ x1 = x3 → K 0) ∧ (x1 = x3 → K 1))))) ∧ (x0 = 13 → ((x1 < x3 → K 0) ∧ (¬ (x1 < x3) → K 1))))) ∧ (x0 = 12 → ((x1 ≤ x3 → K 0) ∧ (¬ (x1 ≤ x3) → K 1))))) ∧ (x0 = 11 → ((x3 < x1 → K 0) ∧ (¬ (x3 < x1) → K 1))))) ∧ (x0 = 10 → ((x3 ≤ x1 → K 0) ∧ (¬ (x3 ≤ x1) → K 1))))
def w_M_clip (x0 : Int) (K : Int → Prop) : Prop :=
  ((x0 ≤ 1000000 → (((-1000000) ≤ x0 → K x0) ∧ (¬ ((-1000000) ≤ x0) → K (-1000000)))) ∧ (¬ (x0 ≤ 1000000) → K 1000000))
def w_M_two (x0 : Int) (x1 : Int) (x3 : Int) (K : Int → Prop) : Prop :=
  ((x0 = 3 → InL (x1 + x3) ∧ (w_M_clip (x1 + x3) (fun (r3 : Int) => InL r3 → K r3))) ∧ (x0 = 4 → InL (x1 - x3) ∧ (w_M_clip (x1 - x3) (fun (r6 : Int) => InL r6 → K r6))) ∧ (x0 = 5 → InL (x1 * x3) ∧ (w_M_clip (x1 * x3) (fun (r9 : Int) => InL r9 → K r9))) ∧ (¬ (3 ≤ x0 ∧ x0 ≤ 5) → ((¬ x3 = 0 → ¬ x3 = 0 ∧ (InL (Int.tdiv x1 x3) ∧ (w_M_clip (Int.tdiv x1 x3) (fun (r14 : Int) => InL r14 → K r14)))) ∧ (x3 = 0 → K 0))))
def j_M_work_353 (x2 : Int) (x3 : Int) (x4 : Int) (x5 : Int) (x6 : Int) (S : St) (K : St → Prop) (C : Int → Int → Int → St → Prop) : Prop :=
  InR (x6 + 1) ∧ (C x4 x5 (x6 + 1) S)
def j_M_work_352 (x2 : Int) (x3 : Int) (x4 : Int) (x5 : Int) (x6 : Int) (y1 : Int) (y2 : Int) (S : St) (K : St → Prop) (C : Int → Int → Int → St → Prop) : Prop :=
  ((0 : Int) ≤ y1 ∧ y1 < 330) ∧ ((y2 = 0 ∨ y2 = 1) ∧ ((∀ S4 : St, S4 = aset S 7 y1 y2 → j_M_work_353 x2 x3 x4 x5 x6 S4 K C)))
def j_M_work_347 (x2 : Int) (x3 : Int) (x4 : Int) (x5 : Int) (x6 : Int) (y1 : Int) (S : St) (K : St → Prop) (C : Int → Int → Int → St → Prop) : Prop :=
  j_M_work_352 x2 x3 x4 x5 x6 y1 1 S K C
def j_M_work_321 (x2 : Int) (x3 : Int) (x4 : Int) (x5 : Int) (x6 : Int) (y1 : Int) (S : St) (K : St → Prop) (C : Int → Int → Int → St → Prop) : Prop :=
  j_M_work_352 x2 x3 x4 x5 x6 y1 0 S K C
def j_M_work_273 (x2 : Int) (x3 : Int) (x4 : Int) (x5 : Int) (x6 : Int) (y1 : Int) (y2 : Int) (S : St) (K : St → Prop) (C : Int → Int → Int → St → Prop) : Prop :=
  ((0 : Int) ≤ y1 ∧ y1 < 330) ∧ ((y2 = 0 ∨ y2 = 1) ∧ ((∀ S7 : St, S7 = aset S 7 y1 y2 → j_M_work_353 x2 x3 x4 x5 x6 S7 K C)))
def j_M_work_119 (x2 : Int) (x3 : Int) (x4 : Int) (x5 : Int) (x6 : Int) (y1 : Int) (y2 : Int) (S : St) (K : St → Prop) (C : Int → Int → Int → St → Prop) : Prop :=
  ((0 : Int) ≤ y1 ∧ y1 < 330) ∧ ((∀ S9 : St, S9 = aset S 6 y1 y2 → InR (x4 + 1) ∧ (j_M_work_353 x2 x3 (x4 + 1) x5 x6 S9 K C)))
def l_M_work_47 (x2 : Int) (x3 : Int) (K : St → Prop) : Nat → Int → Int → Int → St → Prop
  | 0, _, _, _, _ => False
  | n + 1, x4, x5, x6, S => InR (x2 + 2) ∧ (((0 : Int) ≤ x2 + 2 ∧ x2 + 2 < 2800) ∧ ((InR (aI S 2 (x2 + 2)) → (((aI S 2 (x2 + 2)) ≤ x6 → K S) ∧ (¬ ((aI S 2 (x2 + 2)) ≤ x6) → InR (2 * x6) ∧ (InR (x3 + (2 * x6)) ∧ (((0 : Int) ≤ x3 + (2 * x6) ∧ x3 + (2 * x6) < 2800) ∧ ((InR (aI S 2 (x3 + (2 * x6))) → (∀ v19 : Int, v19 = aI S 2 (x3 + (2 * x6)) → InR v19 → InR ((x3 + (2 * x6)) + 1) ∧ (((0 : Int) ≤ (x3 + (2 * x6)) + 1 ∧ (x3 + (2 * x6)) + 1 < 2800) ∧ ((InR (aI S 2 ((x3 + (2 * x6)) + 1)) → (∀ v23 : Int, v23 = aI S 2 ((x3 + (2 * x6)) + 1) → InR v23 → ((1 < v19 → ((¬ v19 = 2 → ((10 ≤ v19 → ((20 ≤ v19 → ((¬ v19 = 20 → InR (x5 + (-1)) ∧ (InR ((x5 + (-1)) - 1) ∧ (((¬ v19 = 21 → ((0 : Int) ≤ (x5 + (-1)) - 1 ∧ (x5 + (-1)) - 1 < 330) ∧ ((InR (aI S 7 ((x5 + (-1)) - 1)) → ((aI S 7 ((x5 + (-1)) - 1) = 0 ∨ aI S 7 ((x5 + (-1)) - 1) = 1) → ((¬ (aI S 7 ((x5 + (-1)) - 1)) = 0 → j_M_work_347 x2 x3 x4 (x5 + (-1)) x6 ((x5 + (-1)) - 1) S K (l_M_work_47 x2 x3 K n)) ∧ ((aI S 7 ((x5 + (-1)) - 1)) = 0 → ((0 : Int) ≤ x5 + (-1) ∧ x5 + (-1) < 330) ∧ ((InR (aI S 7 (x5 + (-1))) → ((aI S 7 (x5 + (-1)) = 0 ∨ aI S 7 (x5 + (-1)) = 1) → (((aI S 7 (x5 + (-1))) = 0 → j_M_work_352 x2 x3 x4 (x5 + (-1)) x6 ((x5 + (-1)) - 1) 0 S K (l_M_work_47 x2 x3 K n)) ∧ (¬ ((aI S 7 (x5 + (-1))) = 0) → j_M_work_347 x2 x3 x4 (x5 + (-1)) x6 ((x5 + (-1)) - 1) S K (l_M_work_47 x2 x3 K n)))))))))))) ∧ (v19 = 21 → ((0 : Int) ≤ (x5 + (-1)) - 1 ∧ (x5 + (-1)) - 1 < 330) ∧ ((InR (aI S 7 ((x5 + (-1)) - 1)) → ((aI S 7 ((x5 + (-1)) - 1) = 0 ∨ aI S 7 ((x5 + (-1)) - 1) = 1) → (((aI S 7 ((x5 + (-1)) - 1)) = 0 → j_M_work_321 x2 x3 x4 (x5 + (-1)) x6 ((x5 + (-1)) - 1) S K (l_M_work_47 x2 x3 K n)) ∧ (¬ ((aI S 7 ((x5 + (-1)) - 1)) = 0) → ((0 : Int) ≤ x5 + (-1) ∧ x5 + (-1) < 330) ∧ ((InR (aI S 7 (x5 + (-1))) → ((aI S 7 (x5 + (-1)) = 0 ∨ aI S 7 (x5 + (-1)) = 1) → (((aI S 7 (x5 + (-1))) = 0 → j_M_work_321 x2 x3 x4 (x5 + (-1)) x6 ((x5 + (-1)) - 1) S K (l_M_work_47 x2 x3 K n)) ∧ (¬ ((aI S 7 (x5 + (-1))) = 0) → j_M_work_352 x2 x3 x4 (x5 + (-1)) x6 ((x5 + (-1)) - 1) 1 S K (l_M_work_47 x2 x3 K n)))))))))))))))) ∧ (v19 = 20 → InR (x5 - 1) ∧ (((0 : Int) ≤ x5 - 1 ∧ x5 - 1 < 330) ∧ ((InR (aI S 7 (x5 - 1)) → ((aI S 7 (x5 - 1) = 0 ∨ aI S 7 (x5 - 1) = 1) → ((¬ (aI S 7 (x5 - 1)) = 0 → j_M_work_273 x2 x3 x4 x5 x6 (x5 - 1) 0 S K (l_M_work_47 x2 x3 K n)) ∧ ((aI S 7 (x5 - 1)) = 0 → j_M_work_273 x2 x3 x4 x5 x6 (x5 - 1) 1 S K (l_M_work_47 x2 x3 K n)))))))))) ∧ (¬ (20 ≤ v19) → InR (x4 + (-2)) ∧ (((0 : Int) ≤ x4 + (-2) ∧ x4 + (-2) < 330) ∧ ((InL (aI S 6 (x4 + (-2))) → InR ((x4 + (-2)) + 1) ∧ (((0 : Int) ≤ (x4 + (-2)) + 1 ∧ (x4 + (-2)) + 1 < 330) ∧ ((InL (aI S 6 ((x4 + (-2)) + 1)) → w_M_isAsked v19 (aI S 6 (x4 + (-2))) (aI S 6 ((x4 + (-2)) + 1)) (fun (r54 : Int) => (r54 = 0 ∨ r54 = 1) → ((0 : Int) ≤ x5 ∧ x5 < 330) ∧ ((∀ S57 : St, S57 = aset S 7 x5 r54 → InR (x5 + 1) ∧ (j_M_work_353 x2 x3 (x4 + (-2)) (x5 + 1) x6 S57 K (l_M_work_47 x2 x3 K n)))))))))))))) ∧ (¬ (10 ≤ v19) → InR (x4 + (-1)) ∧ (InR ((x4 + (-1)) - 1) ∧ (((0 : Int) ≤ (x4 + (-1)) - 1 ∧ (x4 + (-1)) - 1 < 330) ∧ ((InL (aI S 6 ((x4 + (-1)) - 1)) → ((0 : Int) ≤ x4 + (-1) ∧ x4 + (-1) < 330) ∧ ((InL (aI S 6 (x4 + (-1))) → w_M_two v19 (aI S 6 ((x4 + (-1)) - 1)) (aI S 6 (x4 + (-1))) (fun (r65 : Int) => InL r65 → ((0 : Int) ≤ (x4 + (-1)) - 1 ∧ (x4 + (-1)) - 1 < 330) ∧ ((∀ S68 : St, S68 = aset S 6 ((x4 + (-1)) - 1) r65 → j_M_work_353 x2 x3 (x4 + (-1)) x5 x6 S68 K (l_M_work_47 x2 x3 K n))))))))))))) ∧ (v19 = 2 → InR (x4 - 1) ∧ (((0 : Int) ≤ x4 - 1 ∧ x4 - 1 < 330) ∧ ((InL (aI S 6 (x4 - 1)) → InL (-(aI S 6 (x4 - 1))) ∧ (((0 : Int) ≤ x4 - 1 ∧ x4 - 1 < 330) ∧ ((∀ S74 : St, S74 = aset S 6 (x4 - 1) (-(aI S 6 (x4 - 1))) → j_M_work_353 x2 x3 x4 x5 x6 S74 K (l_M_work_47 x2 x3 K n)))))))))) ∧ (¬ (1 < v19) → ((¬ v19 = 0 → ((0 : Int) ≤ v23 ∧ v23 < 8) ∧ ((InR (aI S 5 v23) → j_M_work_119 x2 x3 x4 x5 x6 x4 (aI S 5 v23) S K (l_M_work_47 x2 x3 K n)))) ∧ (v19 = 0 → j_M_work_119 x2 x3 x4 x5 x6 x4 v23 S K (l_M_work_47 x2 x3 K n)))))))))))))))))))
def w_M_work (x1 : Int) (S : St) (K : St → Prop) : Prop :=
  (InR (aI S 0 4) → InR (700 * (aI S 0 4)) ∧ (InR ((700 * (aI S 0 4)) + 1) ∧ (InR (4 * x1) ∧ (InR (((700 * (aI S 0 4)) + 1) + (4 * x1)) ∧ ((∀ v85 : Int, v85 = ((700 * (aI S 0 4)) + 1) + (4 * x1) → InR v85 → InR ((700 * (aI S 0 4)) + 100) ∧ ((∀ v88 : Int, v88 = (700 * (aI S 0 4)) + 100 → InR v88 → InR (v85 + 1) ∧ (((0 : Int) ≤ v85 + 1 ∧ v85 + 1 < 2800) ∧ ((InR (aI S 2 (v85 + 1)) → (∀ v92 : Int, v92 = aI S 2 (v85 + 1) → InR v92 → ∃ n47 : Nat, l_M_work_47 v85 v88 K n47 0 0 v92 S))))))))))))
def j_M_passOne_148 (x1 : Int) (x2 : Int) (S : St) (K : St → Prop) (C : Int → St → Prop) : Prop :=
  InR (x2 + 1) ∧ (C (x2 + 1) S)
def j_M_passOne_103 (x1 : Int) (x2 : Int) (x3 : Int) (S : St) (K : St → Prop) (C : Int → St → Prop) : Prop :=
  InR (x3 + 4) ∧ (((0 : Int) ≤ x3 + 4 ∧ x3 + 4 < 1814) ∧ ((InR (aI S 0 (x3 + 4)) → (InR (aI S 0 2) → (((aI S 0 (x3 + 4)) = (aI S 0 2) → InR (x3 + 3) ∧ (InR (x3 + 2) ∧ (((0 : Int) ≤ x3 + 2 ∧ x3 + 2 < 1814) ∧ ((InR (aI S 0 (x3 + 2)) → ((0 : Int) ≤ x3 + 3 ∧ x3 + 3 < 1814) ∧ ((∀ S12 : St, S12 = aset S 0 (x3 + 3) (aI S 0 (x3 + 2)) → ((0 : Int) ≤ x3 + 4 ∧ x3 + 4 < 1814) ∧ ((∀ S14 : St, S14 = aset S12 0 (x3 + 4) (-1) → j_M_passOne_148 x1 x2 S14 K C))))))))) ∧ (¬ ((aI S 0 (x3 + 4)) = (aI S 0 2)) → j_M_passOne_148 x1 x2 S K C))))))
def j_M_passOne_102 (x1 : Int) (x2 : Int) (x3 : Int) (y1 : Int) (y2 : Int) (S : St) (K : St → Prop) (C : Int → St → Prop) : Prop :=
  ((0 : Int) ≤ y1 ∧ y1 < 1814) ∧ ((∀ S16 : St, S16 = aset S 0 y1 y2 → j_M_passOne_103 x1 x2 x3 S16 K C))
def j_M_passOne_78 (x1 : Int) (x2 : Int) (x3 : Int) (y0 : Int) (y1 : Int) (S : St) (K : St → Prop) (C : Int → St → Prop) : Prop :=
  InL (y0 - y1) ∧ ((∀ v18 : Int, v18 = y0 - y1 → InL v18 → InR (x3 + 1) ∧ (((1 ≤ v18 → InR (v18) ∧ (j_M_passOne_102 x1 x2 x3 (x3 + 1) v18 S K C)) ∧ (¬ (1 ≤ v18) → j_M_passOne_102 x1 x2 x3 (x3 + 1) 1 S K C)))))
def l_M_passOne_18 (x1 : Int) (K : St → Prop) : Nat → Int → St → Prop
  | 0, _, _ => False
  | n + 1, x2, S => (InR (aI S 0 1) → (((aI S 0 1) ≤ x2 → K S) ∧ (¬ ((aI S 0 1) ≤ x2) → w_M_boneAt x2 (fun (r24 : Int) => InR r24 → ((x1 < 0 → j_M_passOne_103 x1 x2 r24 S K (l_M_passOne_18 x1 K n)) ∧ (¬ (x1 < 0) → w_M_name x2 0 S (fun (S28 : St) => w_M_work x1 S28 (fun (S30 : St) => InR (r24 + 1) ∧ (((0 : Int) ≤ r24 + 1 ∧ r24 + 1 < 1814) ∧ ((InR (aI S30 0 (r24 + 1)) → (InL (aI S30 6 0) → ((0 ≤ (aI S30 6 0) → j_M_passOne_78 x1 x2 r24 (aI S30 0 (r24 + 1)) (aI S30 6 0) S30 K (l_M_passOne_18 x1 K n)) ∧ (¬ (0 ≤ (aI S30 6 0)) → j_M_passOne_78 x1 x2 r24 (aI S30 0 (r24 + 1)) 0 S30 K (l_M_passOne_18 x1 K n)))))))))))))))
def w_M_passOne (S : St) (K : St → Prop) : Prop :=
  (InR (aI S 0 2) → InR ((aI S 0 2) + 1) ∧ ((∀ S40 : St, S40 = aset S 0 2 ((aI S 0 2) + 1) → w_M_clauseOf 0 S40 (fun (r41 : Int) => InR r41 → ∃ n18 : Nat, l_M_passOne_18 r41 K n18 0 S40))))
def l_M_pass_32 (x1 : Int) (K : Int → St → Prop) : Nat → Int → St → Prop
  | 0, _, _ => False
  | n + 1, x2, S => ((x1 ≤ x2 → (InR (aI S 0 2) → K (aI S 0 2) S)) ∧ (¬ (x1 ≤ x2) → w_M_passOne S (fun (S4 : St) => InR (x2 + 1) ∧ (l_M_pass_32 x1 K n (x2 + 1) S4))))
def w_M_pass (x1 : Int) (S : St) (K : Int → St → Prop) : Prop :=
  w_M_isIn x1 0 99 (fun (r6 : Int) => (r6 = 0 ∨ r6 = 1) → ((r6 = 0 → K (-1) S) ∧ (¬ (r6 = 0) → (InR (aI S 0 2) → InR ((aI S 0 2) + x1) ∧ (((((aI S 0 2) + x1) ≤ 999 → w_M_keep S (fun (S13 : St) => ∃ n32 : Nat, l_M_pass_32 x1 K n32 0 S13)) ∧ (¬ (((aI S 0 2) + x1) ≤ 999) → K (-1) S)))))))
def l_M_four_3 (x1 : Int) (K : St → Prop) : Nat → Int → St → Prop
  | 0, _, _ => False
  | n + 1, x2, S => ((x2 < 0 → K S) ∧ (¬ (x2 < 0) → (InR (fI S 4) → (0 ≤ x2 ∧ x2 ≤ 31) ∧ (((0 : Int) ≤ fI S 4 ∧ fI S 4 < 300) ∧ ((∀ S7 : St, S7 = aset S 3 (fI S 4) ((x1 / 2 ^ (Int.toNat x2)) % 256) → (InR (fI S7 4) → InR ((fI S7 4) + 1) ∧ ((∀ S10 : St, S10 = fset S7 4 ((fI S7 4) + 1) → InR (x2 + (-8)) ∧ (l_M_four_3 x1 K n (x2 + (-8)) S10))))))))))
def w_M_four (x1 : Int) (S : St) (K : St → Prop) : Prop :=
  ∃ n3 : Nat, l_M_four_3 x1 K n3 24 S
def w_M_feed (x1 : Int) (x2 : Int) (x3 : Int) (x4 : Int) (x5 : Int) (S : St) (K : Int → St → Prop) : Prop :=
  (InR (fI S 4) → InR ((fI S 4) + 20) ∧ (((((fI S 4) + 20) ≤ 300 → w_M_four x1 S (fun (S5 : St) => w_M_four x2 S5 (fun (S7 : St) => w_M_four x3 S7 (fun (S9 : St) => w_M_four x4 S9 (fun (S11 : St) => w_M_four x5 S11 (fun (S13 : St) => (InR (fI S13 4) → K (fI S13 4) S13))))))) ∧ (¬ (((fI S 4) + 20) ≤ 300) → K (-1) S))))
def w_M_end (x1 : Int) (S : St) (K : Int → St → Prop) : Prop :=
  (InR (fI S 4) → w_M_isIn x1 0 (fI S 4) (fun (r2 : Int) => (r2 = 0 ∨ r2 = 1) → ((¬ r2 = 0 → (∀ S5 : St, S5 = fset S 4 x1 → K x1 S5)) ∧ (r2 = 0 → K (-1) S))))
def w_M_byteAt (x1 : Int) (S : St) (K : Int → Prop) : Prop :=
  (InR (fI S 4) → (((fI S 4) ≤ x1 → K (-1)) ∧ (¬ ((fI S 4) ≤ x1) → ((0 : Int) ≤ x1 ∧ x1 < 300) ∧ ((InR (aI S 3 x1) → K (aI S 3 x1))))))
def w_M_isDigit (x0 : Int) (K : Int → Prop) : Prop :=
  w_M_isIn x0 48 57 (fun (r1 : Int) => (r1 = 0 ∨ r1 = 1) → K r1)
def w_M_isLetter (x0 : Int) (K : Int → Prop) : Prop :=
  w_M_isIn x0 97 122 (fun (r1 : Int) => (r1 = 0 ∨ r1 = 1) → ((¬ r1 = 0 → K 1) ∧ (r1 = 0 → w_M_isIn x0 65 90 (fun (r4 : Int) => (r4 = 0 ∨ r4 = 1) → ((r4 = 0 → K 0) ∧ (¬ (r4 = 0) → K 1))))))
def j_M_nextToken_352 (x1 : Int) (S : St) (K : St → Prop) : Prop :=
  (InR (fI S 7) → w_M_byteAt (fI S 7) S (fun (r2 : Int) => InR r2 → ((¬ r2 = 61 → K S) ∧ (r2 = 61 → InR ((fI S 7) + 1) ∧ ((∀ S7 : St, S7 = fset S 7 ((fI S 7) + 1) → ((¬ x1 = 60 → (∀ S9 : St, S9 = fset S7 9 5 → K S9)) ∧ (x1 = 60 → (∀ S10 : St, S10 = fset S7 9 4 → K S10)))))))))
def j_M_nextToken_337 (x1 : Int) (y1 : Int) (S : St) (K : St → Prop) : Prop :=
  (∀ S11 : St, S11 = fset S 9 y1 → ((x1 = 60 → j_M_nextToken_352 x1 S11 K) ∧ (¬ (x1 = 60) → ((¬ x1 = 62 → K S11) ∧ (x1 = 62 → j_M_nextToken_352 x1 S11 K)))))
def j_M_nextToken_326 (x1 : Int) (y0 : Int) (S : St) (K : St → Prop) : Prop :=
  ((y0 = 0 → j_M_nextToken_337 x1 3 S K) ∧ (¬ (y0 = 0) → j_M_nextToken_337 x1 x1 S K))
def j_M_nextToken_321 (x1 : Int) (S : St) (K : St → Prop) : Prop :=
  j_M_nextToken_326 x1 1 S K
def j_M_nextToken_223 (S : St) (K : St → Prop) : Prop :=
  (InR (fI S 7) → (InR (fI S 8) → InR ((fI S 7) - (fI S 8)) ∧ (((((fI S 7) - (fI S 8)) ≤ 7 → K S) ∧ (¬ (((fI S 7) - (fI S 8)) ≤ 7) → (∀ S19 : St, S19 = fset S 11 0 → K S19))))))
def j_M_nextToken_210 (S : St) (K : St → Prop) (X223 : St → Prop) (C : St → Prop) : Prop :=
  (InR (fI S 7) → InR ((fI S 7) + 1) ∧ ((∀ S22 : St, S22 = fset S 7 ((fI S 7) + 1) → C S22)))
def l_M_nextToken_161 (K : St → Prop) (X223 : St → Prop) : Nat → St → Prop
  | 0, _ => False
  | n + 1, S => (InR (fI S 7) → w_M_byteAt (fI S 7) S (fun (r24 : Int) => InR r24 → w_M_isLetter r24 (fun (r26 : Int) => (r26 = 0 ∨ r26 = 1) → ((r26 = 0 → X223 S) ∧ (¬ (r26 = 0) → (InR (fI S 8) → InR ((fI S 7) - (fI S 8)) ∧ (((7 ≤ ((fI S 7) - (fI S 8)) → j_M_nextToken_210 S K X223 (l_M_nextToken_161 K X223 n)) ∧ (¬ (7 ≤ ((fI S 7) - (fI S 8))) → (InL (fI S 11) → InL ((fI S 11) * 2 ^ (Int.toNat 8)) ∧ (w_M_byteAt (fI S 7) S (fun (r36 : Int) => InR r36 → (∀ S39 : St, S39 = fset S 11 (jOr ((fI S 11) * 2 ^ (Int.toNat 8)) r36) → j_M_nextToken_210 S39 K X223 (l_M_nextToken_161 K X223 n))))))))))))))
def j_M_nextToken_131 (S : St) (K : St → Prop) (C : St → Prop) : Prop :=
  (InR (fI S 7) → InR ((fI S 7) + 1) ∧ ((∀ S42 : St, S42 = fset S 7 ((fI S 7) + 1) → C S42)))
def l_M_nextToken_85 (K : St → Prop) : Nat → St → Prop
  | 0, _ => False
  | n + 1, S => (InR (fI S 7) → w_M_byteAt (fI S 7) S (fun (r44 : Int) => InR r44 → w_M_isDigit r44 (fun (r46 : Int) => (r46 = 0 ∨ r46 = 1) → ((r46 = 0 → K S) ∧ (¬ (r46 = 0) → (InR (fI S 10) → ((100000 ≤ (fI S 10) → j_M_nextToken_131 S K (l_M_nextToken_85 K n)) ∧ (¬ (100000 ≤ (fI S 10)) → InR (10 * (fI S 10)) ∧ (w_M_byteAt (fI S 7) S (fun (r54 : Int) => InR r54 → InR ((10 * (fI S 10)) + r54) ∧ (InR (((10 * (fI S 10)) + r54) - 48) ∧ ((∀ S58 : St, S58 = fset S 10 (((10 * (fI S 10)) + r54) - 48) → j_M_nextToken_131 S58 K (l_M_nextToken_85 K n))))))))))))))
def j_M_nextToken_39 (S : St) (K : St → Prop) : Prop :=
  (InR (fI S 7) → (∀ S60 : St, S60 = fset S 8 (fI S 7) → (InR (fI S60 7) → w_M_byteAt (fI S60 7) S60 (fun (r62 : Int) => InR r62 → ((0 ≤ r62 → w_M_isDigit r62 (fun (r65 : Int) => (r65 = 0 ∨ r65 = 1) → ((r65 = 0 → w_M_isLetter r62 (fun (r68 : Int) => (r68 = 0 ∨ r68 = 1) → ((r68 = 0 → InR ((fI S60 7) + 1) ∧ ((∀ S73 : St, S73 = fset S60 7 ((fI S60 7) + 1) → ((r62 = 60 → j_M_nextToken_321 r62 S73 K) ∧ (¬ (r62 = 60) → ((r62 = 62 → j_M_nextToken_321 r62 S73 K) ∧ (¬ (r62 = 62) → ((r62 = 61 → j_M_nextToken_321 r62 S73 K) ∧ (¬ (r62 = 61) → ((r62 = 35 → j_M_nextToken_321 r62 S73 K) ∧ (¬ (r62 = 35) → ((r62 = 43 → j_M_nextToken_321 r62 S73 K) ∧ (¬ (r62 = 43) → ((r62 = 45 → j_M_nextToken_321 r62 S73 K) ∧ (¬ (r62 = 45) → ((r62 = 42 → j_M_nextToken_321 r62 S73 K) ∧ (¬ (r62 = 42) → ((r62 = 47 → j_M_nextToken_321 r62 S73 K) ∧ (¬ (r62 = 47) → ((r62 = 40 → j_M_nextToken_321 r62 S73 K) ∧ (¬ (r62 = 40) → ((r62 = 41 → j_M_nextToken_321 r62 S73 K) ∧ (¬ (r62 = 41) → ((¬ r62 = 59 → j_M_nextToken_326 r62 0 S73 K) ∧ (r62 = 59 → j_M_nextToken_321 r62 S73 K))))))))))))))))))))))))) ∧ (¬ (r68 = 0) → (∀ S85 : St, S85 = fset S60 9 2 → (∀ S86 : St, S86 = fset S85 11 0 → ∃ n161 : Nat, l_M_nextToken_161 K (fun (zS : St) => j_M_nextToken_223 zS K) n161 S86)))))) ∧ (¬ (r65 = 0) → (∀ S87 : St, S87 = fset S60 9 1 → (∀ S88 : St, S88 = fset S87 10 0 → ∃ n85 : Nat, l_M_nextToken_85 K n85 S88)))))) ∧ (¬ (0 ≤ r62) → (∀ S89 : St, S89 = fset S60 9 0 → K S89)))))))
def j_M_nextToken_26 (S : St) (K : St → Prop) (X39 : St → Prop) (C : St → Prop) : Prop :=
  (InR (fI S 7) → InR ((fI S 7) + 1) ∧ ((∀ S92 : St, S92 = fset S 7 ((fI S 7) + 1) → C S92)))
def l_M_nextToken_0 (K : St → Prop) (X39 : St → Prop) : Nat → St → Prop
  | 0, _ => False
  | n + 1, S => (InR (fI S 7) → w_M_byteAt (fI S 7) S (fun (r94 : Int) => InR r94 → ((r94 = 32 → j_M_nextToken_26 S K X39 (l_M_nextToken_0 K X39 n)) ∧ (¬ (r94 = 32) → w_M_byteAt (fI S 7) S (fun (r98 : Int) => InR r98 → ((¬ r98 = 10 → X39 S) ∧ (r98 = 10 → j_M_nextToken_26 S K X39 (l_M_nextToken_0 K X39 n))))))))
def w_M_nextToken (S : St) (K : St → Prop) : Prop :=
  ∃ n0 : Nat, l_M_nextToken_0 K (fun (zS : St) => j_M_nextToken_39 zS K) n0 S
def w_M_figure (x1 : Int) (x2 : Int) (x3 : Int) (S : St) (K : Int → St → Prop) : Prop :=
  (InR (fI S 9) → (((fI S 9) = 1 → (InR (fI S 10) → w_M_isIn (fI S 10) x2 x3 (fun (r4 : Int) => (r4 = 0 ∨ r4 = 1) → ((¬ r4 = 0 → ((0 : Int) ≤ x1 ∧ x1 < 2800) ∧ ((∀ S9 : St, S9 = aset S 2 x1 (fI S 10) → w_M_nextToken S9 (fun (S11 : St) => K 0 S11)))) ∧ (r4 = 0 → K 2 S))))) ∧ (¬ ((fI S 9) = 1) → K 1 S)))
def w_M_isTo (S : St) (K : Int → Prop) : Prop :=
  (InR (fI S 9) → ((¬ (fI S 9) = 2 → K 0) ∧ ((fI S 9) = 2 → (InL (fI S 11) → ((¬ (fI S 11) = 29807 → K 0) ∧ ((fI S 11) = 29807 → K 1))))))
def w_M_isWord (x1 : Int) (S : St) (K : Int → Prop) : Prop :=
  (InR (fI S 9) → ((¬ (fI S 9) = 2 → K 0) ∧ ((fI S 9) = 2 → (InL (fI S 11) → ((¬ (fI S 11) = x1 → K 0) ∧ ((fI S 11) = x1 → K 1))))))
def w_M_step (x1 : Int) (S : St) (K : Int → St → Prop) : Prop :=
  ((¬ x1 = 0 → w_M_nextToken S (fun (S3 : St) => K 0 S3)) ∧ (x1 = 0 → K 1 S))
def w_M_w3 (x0 : Int) (x1 : Int) (x2 : Int) (K : Int → Prop) : Prop :=
  InL (x0 * 2 ^ (Int.toNat 8)) ∧ (InL ((jOr (x0 * 2 ^ (Int.toNat 8)) x1) * 2 ^ (Int.toNat 8)) ∧ (K (jOr ((jOr (x0 * 2 ^ (Int.toNat 8)) x1) * 2 ^ (Int.toNat 8)) x2)))
def w_M_w4 (x0 : Int) (x1 : Int) (x2 : Int) (x3 : Int) (K : Int → Prop) : Prop :=
  w_M_w3 x0 x1 x2 (fun (r1 : Int) => InL r1 → InL (r1 * 2 ^ (Int.toNat 8)) ∧ (K (jOr (r1 * 2 ^ (Int.toNat 8)) x3)))
def j_M_kind_120 (x1 : Int) (x2 : Int) (S : St) (K : Int → St → Prop) : Prop :=
  ((x2 = 0 → InR (x1 + 2) ∧ (w_M_figure (x1 + 2) 1 9 S (fun (r3 : Int) (S4 : St) => InR r3 → K r3 S4))) ∧ (¬ (x2 = 0) → K x2 S))
def j_M_kind_85 (x1 : Int) (S : St) (K : Int → St → Prop) : Prop :=
  InR (x1 + 1) ∧ (w_M_figure (x1 + 1) 0 19 S (fun (r6 : Int) (S7 : St) => InR r6 → ((¬ r6 = 0 → j_M_kind_120 x1 r6 S7 K) ∧ (r6 = 0 → w_M_w4 109 97 110 121 (fun (r9 : Int) => InL r9 → w_M_isWord r9 S7 (fun (r11 : Int) => (r11 = 0 ∨ r11 = 1) → w_M_step r11 S7 (fun (r13 : Int) (S14 : St) => InR r13 → j_M_kind_120 x1 r13 S14 K)))))))
def j_M_kind_79 (x1 : Int) (x2 : Int) (S : St) (K : Int → St → Prop) (X85 : Prop) (C : Int → Prop) : Prop :=
  InR (x2 + 1) ∧ (C (x2 + 1))
def l_M_kind_23 (x1 : Int) (S : St) (K : Int → St → Prop) (X85 : Prop) : Nat → Int → Prop
  | 0, _ => False
  | n + 1, x2 => (InR (fI S 12) → ((0 : Int) ≤ fI S 12 ∧ fI S 12 < 2800) ∧ ((InR (aI S 2 (fI S 12)) → (((aI S 2 (fI S 12)) ≤ x2 → X85) ∧ (¬ ((aI S 2 (fI S 12)) ≤ x2) → InR ((fI S 12) + 1) ∧ (InR (4 * x2) ∧ (InR (((fI S 12) + 1) + (4 * x2)) ∧ (((0 : Int) ≤ ((fI S 12) + 1) + (4 * x2) ∧ ((fI S 12) + 1) + (4 * x2) < 2800) ∧ ((InR (aI S 2 (((fI S 12) + 1) + (4 * x2))) → ((¬ (aI S 2 (((fI S 12) + 1) + (4 * x2))) = 3 → j_M_kind_79 x1 x2 S K X85 (l_M_kind_23 x1 S K X85 n)) ∧ ((aI S 2 (((fI S 12) + 1) + (4 * x2))) = 3 → InR ((fI S 12) + 2) ∧ (InR (((fI S 12) + 2) + (4 * x2)) ∧ (((0 : Int) ≤ ((fI S 12) + 2) + (4 * x2) ∧ ((fI S 12) + 2) + (4 * x2) < 2800) ∧ ((InR (aI S 2 (((fI S 12) + 2) + (4 * x2))) → (InR (fI S 10) → ((¬ (aI S 2 (((fI S 12) + 2) + (4 * x2))) = (fI S 10) → j_M_kind_79 x1 x2 S K X85 (l_M_kind_23 x1 S K X85 n)) ∧ ((aI S 2 (((fI S 12) + 2) + (4 * x2))) = (fI S 10) → K 4 S)))))))))))))))))))
def w_M_kind (x1 : Int) (S : St) (K : Int → St → Prop) : Prop :=
  (InR (fI S 9) → ((¬ (fI S 9) = 1 → j_M_kind_85 x1 S K) ∧ ((fI S 9) = 1 → (InR (fI S 10) → w_M_isIn (fI S 10) 0 19 (fun (r37 : Int) => (r37 = 0 ∨ r37 = 1) → ((r37 = 0 → j_M_kind_85 x1 S K) ∧ (¬ (r37 = 0) → ∃ n23 : Nat, l_M_kind_23 x1 S K (j_M_kind_85 x1 S K) n23 0)))))))
def j_M_lent_61 (x1 : Int) (x2 : Int) (S : St) (K : Int → St → Prop) : Prop :=
  ((x2 = 0 → InR (x1 + 3) ∧ (w_M_figure (x1 + 3) 1 99 S (fun (r3 : Int) (S4 : St) => InR r3 → K r3 S4))) ∧ (¬ (x2 = 0) → K x2 S))
def j_M_lent_39 (x1 : Int) (x2 : Int) (S : St) (K : Int → St → Prop) : Prop :=
  ((¬ x2 = 0 → j_M_lent_61 x1 x2 S K) ∧ (x2 = 0 → w_M_w3 102 111 114 (fun (r6 : Int) => InL r6 → w_M_isWord r6 S (fun (r8 : Int) => (r8 = 0 ∨ r8 = 1) → w_M_step r8 S (fun (r10 : Int) (S11 : St) => InR r10 → j_M_lent_61 x1 r10 S11 K)))))
def j_M_lent_24 (x1 : Int) (x2 : Int) (S : St) (K : Int → St → Prop) : Prop :=
  ((¬ x2 = 0 → j_M_lent_39 x1 x2 S K) ∧ (x2 = 0 → InR (x1 + 2) ∧ (w_M_figure (x1 + 2) 0 9 S (fun (r14 : Int) (S15 : St) => InR r14 → j_M_lent_39 x1 r14 S15 K))))
def w_M_lent (x1 : Int) (S : St) (K : Int → St → Prop) : Prop :=
  InR (x1 + 1) ∧ (w_M_figure (x1 + 1) 0 15 S (fun (r17 : Int) (S18 : St) => InR r17 → ((¬ r17 = 0 → j_M_lent_24 x1 r17 S18 K) ∧ (r17 = 0 → w_M_isTo S18 (fun (r20 : Int) => (r20 = 0 ∨ r20 = 1) → w_M_step r20 S18 (fun (r22 : Int) (S23 : St) => InR r22 → j_M_lent_24 x1 r22 S23 K))))))
def j_M_done_103 (x1 : Int) (x2 : Int) (x3 : Int) (S : St) (K : Int → St → Prop) : Prop :=
  ((x3 = 0 → InR (x1 + 2) ∧ (((¬ x2 = 5 → w_M_figure (x1 + 2) 0 9 S (fun (r4 : Int) (S5 : St) => InR r4 → K r4 S5)) ∧ (x2 = 5 → w_M_figure (x1 + 2) 0 15 S (fun (r6 : Int) (S7 : St) => InR r6 → K r6 S7))))) ∧ (¬ (x3 = 0) → K x3 S))
def j_M_done_99 (x1 : Int) (x2 : Int) (y1 : Int) (S : St) (K : Int → St → Prop) : Prop :=
  w_M_step y1 S (fun (r8 : Int) (S9 : St) => InR r8 → j_M_done_103 x1 x2 r8 S9 K)
def j_M_done_34 (x1 : Int) (x2 : Int) (S : St) (K : Int → St → Prop) : Prop :=
  InR (x1 + 1) ∧ (((¬ x2 = 7 → w_M_figure (x1 + 1) 0 99 S (fun (r12 : Int) (S13 : St) => InR r12 → K r12 S13)) ∧ (x2 = 7 → w_M_figure (x1 + 1) 0 9 S (fun (r14 : Int) (S15 : St) => InR r14 → K r14 S15))))
def w_M_done (x1 : Int) (x2 : Int) (S : St) (K : Int → St → Prop) : Prop :=
  ((¬ x2 = 3 → ((¬ x2 = 4 → ((x2 = 7 → j_M_done_34 x1 x2 S K) ∧ (¬ (x2 = 7) → ((¬ x2 = 8 → InR (x1 + 1) ∧ (w_M_figure (x1 + 1) 0 15 S (fun (r21 : Int) (S22 : St) => InR r21 → ((¬ r21 = 0 → j_M_done_103 x1 x2 r21 S22 K) ∧ (r21 = 0 → ((¬ x2 = 5 → w_M_isTo S22 (fun (r25 : Int) => (r25 = 0 ∨ r25 = 1) → j_M_done_99 x1 x2 r25 S22 K)) ∧ (x2 = 5 → w_M_w4 119 105 116 104 (fun (r27 : Int) => InL r27 → w_M_isWord r27 S22 (fun (r29 : Int) => (r29 = 0 ∨ r29 = 1) → j_M_done_99 x1 x2 r29 S22 K))))))))) ∧ (x2 = 8 → j_M_done_34 x1 x2 S K))))) ∧ (x2 = 4 → w_M_lent x1 S (fun (r31 : Int) (S32 : St) => InR r31 → K r31 S32)))) ∧ (x2 = 3 → w_M_kind x1 S (fun (r33 : Int) (S34 : St) => InR r33 → K r33 S34)))
def w_M_compareOf (S : St) (K : Int → Prop) : Prop :=
  (InR (fI S 9) → ((¬ (fI S 9) = 60 → ((¬ (fI S 9) = 4 → ((¬ (fI S 9) = 62 → ((¬ (fI S 9) = 5 → ((¬ (fI S 9) = 61 → ((¬ (fI S 9) = 35 → K (-1)) ∧ ((fI S 9) = 35 → K 15))) ∧ ((fI S 9) = 61 → K 14))) ∧ ((fI S 9) = 5 → K 13))) ∧ ((fI S 9) = 62 → K 12))) ∧ ((fI S 9) = 4 → K 11))) ∧ ((fI S 9) = 60 → K 10)))
def w_M_emit (x1 : Int) (x2 : Int) (S : St) (K : St → Prop) : Prop :=
  (InR (fI S 12) → InR ((fI S 12) + 100) ∧ ((InR (fI S 14) → InR (2 * (fI S 14)) ∧ (InR (((fI S 12) + 100) + (2 * (fI S 14))) ∧ (((0 : Int) ≤ ((fI S 12) + 100) + (2 * (fI S 14)) ∧ ((fI S 12) + 100) + (2 * (fI S 14)) < 2800) ∧ ((∀ S7 : St, S7 = aset S 2 (((fI S 12) + 100) + (2 * (fI S 14))) x1 → (InR (fI S7 12) → InR ((fI S7 12) + 100) ∧ ((InR (fI S7 14) → InR (2 * (fI S7 14)) ∧ (InR (((fI S7 12) + 100) + (2 * (fI S7 14))) ∧ (InR ((((fI S7 12) + 100) + (2 * (fI S7 14))) + 1) ∧ (((0 : Int) ≤ (((fI S7 12) + 100) + (2 * (fI S7 14))) + 1 ∧ (((fI S7 12) + 100) + (2 * (fI S7 14))) + 1 < 2800) ∧ ((∀ S15 : St, S15 = aset S7 2 ((((fI S7 12) + 100) + (2 * (fI S7 14))) + 1) x2 → (InR (fI S15 14) → InR ((fI S15 14) + 1) ∧ ((∀ S18 : St, S18 = fset S15 14 ((fI S15 14) + 1) → K S18))))))))))))))))))
def w_M_isBarred (x1 : Int) (S : St) (K : Int → Prop) : Prop :=
  ((x1 ≤ 4 → K 0) ∧ (¬ (x1 ≤ 4) → (InR (fI S 20) → (((fI S 20) = 2 → K 0) ∧ (¬ ((fI S 20) = 2) → K 1)))))
def w_M_w5 (x0 : Int) (x1 : Int) (x2 : Int) (x3 : Int) (x4 : Int) (K : Int → Prop) : Prop :=
  w_M_w3 x0 x1 x2 (fun (r1 : Int) => InL r1 → InL (r1 * 2 ^ (Int.toNat 8)) ∧ (InL ((jOr (r1 * 2 ^ (Int.toNat 8)) x3) * 2 ^ (Int.toNat 8)) ∧ (K (jOr ((jOr (r1 * 2 ^ (Int.toNat 8)) x3) * 2 ^ (Int.toNat 8)) x4))))
def w_M_w6 (x0 : Int) (x1 : Int) (x2 : Int) (x3 : Int) (x4 : Int) (x5 : Int) (K : Int → Prop) : Prop :=
  w_M_w5 x0 x1 x2 x3 x4 (fun (r1 : Int) => InL r1 → InL (r1 * 2 ^ (Int.toNat 8)) ∧ (K (jOr (r1 * 2 ^ (Int.toNat 8)) x5)))
def w_M_nameOf (S : St) (K : Int → Prop) : Prop :=
  (InR (fI S 9) → (((fI S 9) = 2 → (InL (fI S 11) → w_M_w4 115 111 114 116 (fun (r4 : Int) => InL r4 → ((¬ (fI S 11) = r4 → w_M_w6 119 101 105 103 104 116 (fun (r8 : Int) => InL r8 → ((¬ (fI S 11) = r8 → w_M_w4 116 111 119 110 (fun (r12 : Int) => InL r12 → ((¬ (fI S 11) = r12 → w_M_w6 112 114 111 111 102 115 (fun (r16 : Int) => InL r16 → ((¬ (fI S 11) = r16 → w_M_w4 121 101 97 114 (fun (r20 : Int) => InL r20 → ((¬ (fI S 11) = r20 → w_M_w5 111 115 111 114 116 (fun (r24 : Int) => InL r24 → ((¬ (fI S 11) = r24 → w_M_w3 111 119 101 (fun (r28 : Int) => InL r28 → InL (r28 * 2 ^ (Int.toNat 32)) ∧ (w_M_w4 105 103 104 116 (fun (r31 : Int) => InL r31 → ((¬ (fI S 11) = (jOr (r28 * 2 ^ (Int.toNat 32)) r31) → w_M_w5 111 116 111 119 110 (fun (r35 : Int) => InL r35 → ((¬ (fI S 11) = r35 → K (-1)) ∧ ((fI S 11) = r35 → K 7)))) ∧ ((fI S 11) = (jOr (r28 * 2 ^ (Int.toNat 32)) r31) → K 6)))))) ∧ ((fI S 11) = r24 → K 5)))) ∧ ((fI S 11) = r20 → K 4)))) ∧ ((fI S 11) = r16 → K 3)))) ∧ ((fI S 11) = r12 → K 2)))) ∧ ((fI S 11) = r8 → K 1)))) ∧ ((fI S 11) = r4 → K 0))))) ∧ (¬ ((fI S 9) = 2) → K (-1))))
def w_M_push (x1 : Int) (S : St) (K : St → Prop) : Prop :=
  (InR (fI S 17) → ((0 : Int) ≤ fI S 17 ∧ fI S 17 < 160) ∧ ((∀ S3 : St, S3 = aset S 4 (fI S 17) x1 → (InR (fI S3 17) → InR ((fI S3 17) + 1) ∧ ((∀ S6 : St, S6 = fset S3 17 ((fI S3 17) + 1) → K S6))))))
def l_M_whole_5 (K : St → Prop) : Nat → St → Prop
  | 0, _ => False
  | n + 1, S => (InR (fI S 17) → (((fI S 17) ≤ 0 → K S) ∧ (¬ ((fI S 17) ≤ 0) → InR ((fI S 17) - 1) ∧ (((0 : Int) ≤ (fI S 17) - 1 ∧ (fI S 17) - 1 < 160) ∧ ((InR (aI S 4 ((fI S 17) - 1)) → ((¬ (aI S 4 ((fI S 17) - 1)) = 2 → K S) ∧ ((aI S 4 ((fI S 17) - 1)) = 2 → (∀ S9 : St, S9 = fset S 17 ((fI S 17) - 1) → (InR (fI S9 18) → InR ((fI S9 18) - 1) ∧ ((∀ S12 : St, S12 = fset S9 18 ((fI S9 18) - 1) → w_M_emit 2 0 S12 (fun (S14 : St) => l_M_whole_5 K n S14)))))))))))))
def w_M_whole (S : St) (K : St → Prop) : Prop :=
  (∀ S15 : St, S15 = fset S 19 1 → ∃ n5 : Nat, l_M_whole_5 K n5 S15)
def j_M_beginOne_106 (y0 : Int) (S : St) (K : Int → St → Prop) : Prop :=
  ((¬ y0 = 0 → (InR (fI S 18) → ((¬ (fI S 18) = 8 → InR ((fI S 18) + 1) ∧ ((∀ S6 : St, S6 = fset S 18 ((fI S 18) + 1) → w_M_push y0 S6 (fun (S8 : St) => w_M_nextToken S8 (fun (S10 : St) => K 0 S10))))) ∧ ((fI S 18) = 8 → K 3 S)))) ∧ (y0 = 0 → K 1 S))
def w_M_beginOne (S : St) (K : Int → St → Prop) : Prop :=
  (InR (fI S 9) → ((¬ (fI S 9) = 1 → w_M_nameOf S (fun (r13 : Int) => InR r13 → ((r13 < 0 → ((¬ (fI S 9) = 40 → ((¬ (fI S 9) = 45 → j_M_beginOne_106 0 S K) ∧ ((fI S 9) = 45 → j_M_beginOne_106 2 S K))) ∧ ((fI S 9) = 40 → j_M_beginOne_106 40 S K))) ∧ (¬ (r13 < 0) → w_M_nameOf S (fun (r20 : Int) => InR r20 → w_M_isBarred r20 S (fun (r22 : Int) => (r22 = 0 ∨ r22 = 1) → ((r22 = 0 → w_M_nameOf S (fun (r25 : Int) => InR r25 → w_M_emit 1 r25 S (fun (S28 : St) => w_M_nextToken S28 (fun (S30 : St) => w_M_whole S30 (fun (S32 : St) => K 0 S32))))) ∧ (¬ (r22 = 0) → K 5 S)))))))) ∧ ((fI S 9) = 1 → (InR (fI S 10) → (((fI S 10) ≤ 9999 → w_M_emit 0 (fI S 10) S (fun (S37 : St) => w_M_nextToken S37 (fun (S39 : St) => w_M_whole S39 (fun (S41 : St) => K 0 S41)))) ∧ (¬ ((fI S 10) ≤ 9999) → K 2 S))))))
def l_M_settle_0 (x1 : Int) (K : St → Prop) : Nat → St → Prop
  | 0, _ => False
  | n + 1, S => (InR (fI S 17) → (((fI S 17) ≤ 0 → K S) ∧ (¬ ((fI S 17) ≤ 0) → InR ((fI S 17) - 1) ∧ (((0 : Int) ≤ (fI S 17) - 1 ∧ (fI S 17) - 1 < 160) ∧ ((InR (aI S 4 ((fI S 17) - 1)) → ((40 ≤ (aI S 4 ((fI S 17) - 1)) → K S) ∧ (¬ (40 ≤ (aI S 4 ((fI S 17) - 1))) → ((0 : Int) ≤ (fI S 17) - 1 ∧ (fI S 17) - 1 < 160) ∧ ((((aI S 4 ((fI S 17) - 1)) < x1 → K S) ∧ (¬ ((aI S 4 ((fI S 17) - 1)) < x1) → (∀ S13 : St, S13 = fset S 17 ((fI S 17) - 1) → (InR (fI S13 17) → ((0 : Int) ≤ fI S13 17 ∧ fI S13 17 < 160) ∧ ((InR (aI S13 4 (fI S13 17)) → w_M_emit (aI S13 4 (fI S13 17)) 0 S13 (fun (S18 : St) => l_M_settle_0 x1 K n S18))))))))))))))))
def w_M_settle (x1 : Int) (S : St) (K : St → Prop) : Prop :=
  ∃ n0 : Nat, l_M_settle_0 x1 K n0 S
def j_M_behindOne_75 (y1 : Int) (S : St) (K : Int → St → Prop) : Prop :=
  w_M_push y1 S (fun (S2 : St) => (∀ S3 : St, S3 = fset S2 19 0 → w_M_nextToken S3 (fun (S5 : St) => K 0 S5)))
def j_M_behindOne_57 (x1 : Int) (S : St) (K : Int → St → Prop) : Prop :=
  w_M_settle 5 S (fun (S7 : St) => ((¬ x1 = 42 → j_M_behindOne_75 6 S7 K) ∧ (x1 = 42 → j_M_behindOne_75 5 S7 K)))
def j_M_behindOne_34 (y1 : Int) (S : St) (K : Int → St → Prop) : Prop :=
  w_M_push y1 S (fun (S10 : St) => (∀ S11 : St, S11 = fset S10 19 0 → w_M_nextToken S11 (fun (S13 : St) => K 0 S13)))
def j_M_behindOne_17 (x1 : Int) (S : St) (K : Int → St → Prop) : Prop :=
  w_M_settle 3 S (fun (S15 : St) => ((¬ x1 = 43 → j_M_behindOne_34 4 S15 K) ∧ (x1 = 43 → j_M_behindOne_34 3 S15 K)))
def w_M_behindOne (S : St) (K : Int → St → Prop) : Prop :=
  (InR (fI S 9) → (∀ v18 : Int, v18 = fI S 9 → InR v18 → ((v18 = 43 → j_M_behindOne_17 v18 S K) ∧ (¬ (v18 = 43) → ((¬ v18 = 45 → ((v18 = 42 → j_M_behindOne_57 v18 S K) ∧ (¬ (v18 = 42) → ((¬ v18 = 47 → w_M_settle 3 S (fun (S24 : St) => (InR (fI S24 17) → InR ((fI S24 17) - 1) ∧ ((∀ S27 : St, S27 = fset S24 17 ((fI S24 17) - 1) → (InR (fI S27 18) → InR ((fI S27 18) - 1) ∧ ((∀ S30 : St, S30 = fset S27 18 ((fI S27 18) - 1) → w_M_whole S30 (fun (S32 : St) => w_M_nextToken S32 (fun (S34 : St) => K 0 S34)))))))))) ∧ (v18 = 47 → j_M_behindOne_57 v18 S K))))) ∧ (v18 = 45 → j_M_behindOne_17 v18 S K))))))
def l_M_hasParen_2 (S : St) (K : Int → Prop) : Nat → Int → Prop
  | 0, _ => False
  | n + 1, x1 => (InR (fI S 17) → (((fI S 17) ≤ x1 → K 0) ∧ (¬ ((fI S 17) ≤ x1) → ((0 : Int) ≤ x1 ∧ x1 < 160) ∧ ((InR (aI S 4 x1) → ((¬ (aI S 4 x1) = 40 → InR (x1 + 1) ∧ (l_M_hasParen_2 S K n (x1 + 1))) ∧ ((aI S 4 x1) = 40 → K 1)))))))
def w_M_hasParen (S : St) (K : Int → Prop) : Prop :=
  ∃ n2 : Nat, l_M_hasParen_2 S K n2 0
def w_M_goesOn (S : St) (K : Int → Prop) : Prop :=
  (InR (fI S 9) → (((fI S 9) = 43 → K 1) ∧ (¬ ((fI S 9) = 43) → (((fI S 9) = 45 → K 1) ∧ (¬ ((fI S 9) = 45) → (((fI S 9) = 42 → K 1) ∧ (¬ ((fI S 9) = 42) → (((fI S 9) = 47 → K 1) ∧ (¬ ((fI S 9) = 47) → ((¬ (fI S 9) = 41 → K 0) ∧ ((fI S 9) = 41 → w_M_hasParen S (fun (r11 : Int) => (r11 = 0 ∨ r11 = 1) → ((r11 = 0 → K 0) ∧ (¬ (r11 = 0) → K 1))))))))))))))
def j_M_summed_52 (S : St) (K : Int → St → Prop) : Prop :=
  w_M_settle 3 S (fun (S2 : St) => (InR (fI S2 17) → (((fI S2 17) ≤ 0 → K 0 S2) ∧ (¬ ((fI S2 17) ≤ 0) → K 1 S2))))
def j_M_summed_42 (y0 : Int) (S : St) (K : Int → St → Prop) (X52 : St → Prop) (C : St → Prop) : Prop :=
  ((y0 = 0 → C S) ∧ (¬ (y0 = 0) → K y0 S))
def j_M_summed_24 (S : St) (K : Int → St → Prop) (X52 : St → Prop) (C : St → Prop) : Prop :=
  (InR (fI S 19) → ((fI S 19 = 0 ∨ fI S 19 = 1) → (((fI S 19) = 0 → w_M_beginOne S (fun (r8 : Int) (S9 : St) => InR r8 → j_M_summed_42 r8 S9 K X52 C)) ∧ (¬ ((fI S 19) = 0) → w_M_behindOne S (fun (r10 : Int) (S11 : St) => InR r10 → j_M_summed_42 r10 S11 K X52 C)))))
def l_M_summed_10 (K : Int → St → Prop) (X52 : St → Prop) : Nat → St → Prop
  | 0, _ => False
  | n + 1, S => (InR (fI S 19) → ((fI S 19 = 0 ∨ fI S 19 = 1) → (((fI S 19) = 0 → j_M_summed_24 S K X52 (l_M_summed_10 K X52 n)) ∧ (¬ ((fI S 19) = 0) → w_M_goesOn S (fun (r14 : Int) => (r14 = 0 ∨ r14 = 1) → ((r14 = 0 → X52 S) ∧ (¬ (r14 = 0) → j_M_summed_24 S K X52 (l_M_summed_10 K X52 n))))))))
def w_M_summed (S : St) (K : Int → St → Prop) : Prop :=
  (∀ S17 : St, S17 = fset S 17 0 → (∀ S18 : St, S18 = fset S17 19 0 → ∃ n10 : Nat, l_M_summed_10 K (fun (zS : St) => j_M_summed_52 zS K) n10 S18))
def l_M_asks_105 (x1 : Int) (K : Int → St → Prop) : Nat → Int → St → Prop
  | 0, _, _ => False
  | n + 1, x4, S => ((x1 ≤ x4 → K 0 S) ∧ (¬ (x1 ≤ x4) → w_M_emit 20 0 S (fun (S3 : St) => InR (x4 + 1) ∧ (l_M_asks_105 x1 K n (x4 + 1) S3))))
def j_M_asks_49 (x1 : Int) (S : St) (K : Int → St → Prop) : Prop :=
  w_M_summed S (fun (r5 : Int) (S6 : St) => InR r5 → ((r5 = 0 → w_M_compareOf S6 (fun (r8 : Int) => InR r8 → ((0 ≤ r8 → w_M_nextToken S6 (fun (S12 : St) => w_M_summed S12 (fun (r13 : Int) (S14 : St) => InR r13 → ((r13 = 0 → w_M_emit r8 0 S14 (fun (S17 : St) => (InR (fI S17 18) → InR ((fI S17 18) - x1) ∧ ((∀ S20 : St, S20 = fset S17 18 ((fI S17 18) - x1) → ∃ n105 : Nat, l_M_asks_105 x1 K n105 0 S20))))) ∧ (¬ (r13 = 0) → K r13 S14))))) ∧ (¬ (0 ≤ r8) → K 1 S6)))) ∧ (¬ (r5 = 0) → K r5 S6)))
def l_M_asks_2 (K : Int → St → Prop) (X49 : Int → St → Prop) : Nat → Int → St → Prop
  | 0, _, _ => False
  | n + 1, x1, S => w_M_w3 110 111 116 (fun (r21 : Int) => InL r21 → w_M_isWord r21 S (fun (r23 : Int) => (r23 = 0 ∨ r23 = 1) → ((r23 = 0 → X49 x1 S) ∧ (¬ (r23 = 0) → (InR (fI S 18) → ((¬ (fI S 18) = 8 → InR ((fI S 18) + 1) ∧ ((∀ S30 : St, S30 = fset S 18 ((fI S 18) + 1) → InR (x1 + 1) ∧ (w_M_nextToken S30 (fun (S33 : St) => l_M_asks_2 K X49 n (x1 + 1) S33))))) ∧ ((fI S 18) = 8 → K 3 S)))))))
def w_M_asks (S : St) (K : Int → St → Prop) : Prop :=
  ∃ n2 : Nat, l_M_asks_2 K (fun (z1 : Int) (zS : St) => j_M_asks_49 z1 zS K) n2 0 S
def j_M_either_116 (x1 : Int) (x2 : Int) (x3 : Int) (S : St) (K : Int → St → Prop) (C : Int → Int → Int → St → Prop) : Prop :=
  C x1 x2 x3 S
def j_M_either_107 (x1 : Int) (x2 : Int) (y0 : Int) (S : St) (K : Int → St → Prop) (C : Int → Int → Int → St → Prop) : Prop :=
  ((y0 = 0 → j_M_either_116 x1 x2 y0 S K C) ∧ (¬ (y0 = 0) → w_M_nextToken S (fun (S3 : St) => j_M_either_116 x1 x2 y0 S3 K C)))
def j_M_either_102 (x1 : Int) (x2 : Int) (S : St) (K : Int → St → Prop) (C : Int → Int → Int → St → Prop) : Prop :=
  j_M_either_107 x1 x2 1 S K C
def j_M_either_93 (x1 : Int) (x2 : Int) (x5 : Int) (S : St) (K : Int → St → Prop) (C : Int → Int → Int → St → Prop) : Prop :=
  ((¬ x1 = 0 → j_M_either_102 x1 x2 S K C) ∧ (x1 = 0 → ((x5 = 0 → j_M_either_107 x1 x2 0 S K C) ∧ (¬ (x5 = 0) → j_M_either_102 x1 x2 S K C))))
def j_M_either_90 (x1 : Int) (x5 : Int) (S : St) (K : Int → St → Prop) (C : Int → Int → Int → St → Prop) : Prop :=
  j_M_either_93 x1 x5 x5 S K C
def j_M_either_73 (x1 : Int) (x2 : Int) (y0 : Int) (S : St) (K : Int → St → Prop) (C : Int → Int → Int → St → Prop) : Prop :=
  ((¬ x1 = 0 → j_M_either_93 x1 x2 y0 S K C) ∧ (x1 = 0 → ((x2 = 0 → j_M_either_90 x1 y0 S K C) ∧ (¬ (x2 = 0) → w_M_emit 22 0 S (fun (S9 : St) => j_M_either_90 x1 y0 S9 K C)))))
def j_M_either_72 (x1 : Int) (x2 : Int) (S : St) (K : Int → St → Prop) (C : Int → Int → Int → St → Prop) : Prop :=
  j_M_either_73 x1 x2 0 S K C
def j_M_either_35 (x2 : Int) (S : St) (K : Int → St → Prop) (C : Int → Int → Int → St → Prop) : Prop :=
  w_M_w3 97 110 100 (fun (r10 : Int) => InL r10 → w_M_isWord r10 S (fun (r12 : Int) => (r12 = 0 ∨ r12 = 1) → (InR (fI S 9) → ((¬ (fI S 9) = 2 → j_M_either_72 r12 x2 S K C) ∧ ((fI S 9) = 2 → (InL (fI S 11) → ((¬ (fI S 11) = 28530 → j_M_either_72 r12 x2 S K C) ∧ ((fI S 11) = 28530 → j_M_either_73 r12 x2 1 S K C))))))))
def l_M_either_6 (K : Int → St → Prop) : Nat → Int → Int → Int → St → Prop
  | 0, _, _, _, _ => False
  | n + 1, x1, x2, x3, S => ((x3 = 0 → K 0 S) ∧ (¬ (x3 = 0) → w_M_asks S (fun (r19 : Int) (S20 : St) => InR r19 → ((r19 = 0 → ((x1 = 0 → j_M_either_35 x2 S20 K (l_M_either_6 K n)) ∧ (¬ (x1 = 0) → w_M_emit 21 0 S20 (fun (S24 : St) => j_M_either_35 x2 S24 K (l_M_either_6 K n))))) ∧ (¬ (r19 = 0) → K r19 S20)))))
def w_M_either (S : St) (K : Int → St → Prop) : Prop :=
  ∃ n6 : Nat, l_M_either_6 K n6 0 0 1 S
def w_M_sortOf (S : St) (K : Int → Prop) : Prop :=
  w_M_w4 119 111 114 110 (fun (r1 : Int) => InL r1 → w_M_isWord r1 S (fun (r3 : Int) => (r3 = 0 ∨ r3 = 1) → ((r3 = 0 → w_M_w4 104 111 108 121 (fun (r6 : Int) => InL r6 → w_M_isWord r6 S (fun (r8 : Int) => (r8 = 0 ∨ r8 = 1) → ((r8 = 0 → w_M_w6 117 110 108 105 107 101 (fun (r11 : Int) => InL r11 → w_M_isWord r11 S (fun (r13 : Int) => (r13 = 0 ∨ r13 = 1) → ((r13 = 0 → w_M_w4 107 105 110 100 (fun (r16 : Int) => InL r16 → w_M_isWord r16 S (fun (r18 : Int) => (r18 = 0 ∨ r18 = 1) → ((r18 = 0 → w_M_w4 108 101 110 100 (fun (r21 : Int) => InL r21 → w_M_isWord r21 S (fun (r23 : Int) => (r23 = 0 ∨ r23 = 1) → ((r23 = 0 → w_M_w4 115 119 97 112 (fun (r26 : Int) => InL r26 → w_M_isWord r26 S (fun (r28 : Int) => (r28 = 0 ∨ r28 = 1) → ((r28 = 0 → w_M_w5 115 116 101 97 108 (fun (r31 : Int) => InL r31 → w_M_isWord r31 S (fun (r33 : Int) => (r33 = 0 ∨ r33 = 1) → ((r33 = 0 → w_M_w4 98 117 114 110 (fun (r36 : Int) => InL r36 → w_M_isWord r36 S (fun (r38 : Int) => (r38 = 0 ∨ r38 = 1) → ((r38 = 0 → w_M_w4 112 97 115 115 (fun (r41 : Int) => InL r41 → w_M_isWord r41 S (fun (r43 : Int) => (r43 = 0 ∨ r43 = 1) → ((r43 = 0 → K (-1)) ∧ (¬ (r43 = 0) → K 8))))) ∧ (¬ (r38 = 0) → K 7))))) ∧ (¬ (r33 = 0) → K 6))))) ∧ (¬ (r28 = 0) → K 5))))) ∧ (¬ (r23 = 0) → K 4))))) ∧ (¬ (r18 = 0) → K 3))))) ∧ (¬ (r13 = 0) → K 2))))) ∧ (¬ (r8 = 0) → K 1))))) ∧ (¬ (r3 = 0) → K 0))))
def j_M_clause_165 (S : St) (K : Int → St → Prop) : Prop :=
  (InR (fI S 12) → ((0 : Int) ≤ fI S 12 ∧ fI S 12 < 2800) ∧ ((InR (aI S 2 (fI S 12)) → InR ((aI S 2 (fI S 12)) + 1) ∧ (((0 : Int) ≤ fI S 12 ∧ fI S 12 < 2800) ∧ ((∀ S6 : St, S6 = aset S 2 (fI S 12) ((aI S 2 (fI S 12)) + 1) → (InR (fI S6 9) → (((fI S6 9) = 59 → w_M_nextToken S6 (fun (S10 : St) => K 0 S10)) ∧ (¬ ((fI S6 9) = 59) → K 1 S6)))))))))
def j_M_clause_128 (x1 : Int) (x3 : Int) (x4 : Int) (y0 : Int) (S : St) (K : Int → St → Prop) : Prop :=
  ((y0 = 0 → ((3 ≤ x1 → j_M_clause_165 S K) ∧ (¬ (3 ≤ x1) → InR (x3 + 1) ∧ (((0 : Int) ≤ x3 + 1 ∧ x3 + 1 < 2800) ∧ ((∀ S15 : St, S15 = aset S 2 (x3 + 1) x4 → InR (x3 + 2) ∧ ((InR (fI S15 14) → ((0 : Int) ≤ x3 + 2 ∧ x3 + 2 < 2800) ∧ ((∀ S19 : St, S19 = aset S15 2 (x3 + 2) (fI S15 14) → j_M_clause_165 S19 K)))))))))) ∧ (¬ (y0 = 0) → K y0 S))
def j_M_clause_66 (x1 : Int) (x2 : Int) (S : St) (K : Int → St → Prop) : Prop :=
  (∀ S20 : St, S20 = fset S 20 x1 → w_M_nextToken S20 (fun (S22 : St) => (InR (fI S22 12) → InR ((fI S22 12) + 1) ∧ (InR (4 * x2) ∧ (InR (((fI S22 12) + 1) + (4 * x2)) ∧ ((∀ v27 : Int, v27 = ((fI S22 12) + 1) + (4 * x2) → InR v27 → ((0 : Int) ≤ v27 ∧ v27 < 2800) ∧ ((∀ S29 : St, S29 = aset S22 2 v27 x1 → (InR (fI S29 14) → (∀ v31 : Int, v31 = fI S29 14 → InR v31 → ((x1 < 3 → ((¬ x1 = 0 → w_M_either S29 (fun (r34 : Int) (S35 : St) => InR r34 → j_M_clause_128 x1 v27 v31 r34 S35 K)) ∧ (x1 = 0 → w_M_summed S29 (fun (r36 : Int) (S37 : St) => InR r36 → j_M_clause_128 x1 v27 v31 r36 S37 K)))) ∧ (¬ (x1 < 3) → w_M_done v27 x1 S29 (fun (r38 : Int) (S39 : St) => InR r38 → j_M_clause_128 x1 v27 v31 r38 S39 K))))))))))))))
def j_M_clause_30 (x1 : Int) (S : St) (K : Int → St → Prop) : Prop :=
  (InR (fI S 12) → ((0 : Int) ≤ fI S 12 ∧ fI S 12 < 2800) ∧ ((InR (aI S 2 (fI S 12)) → (∀ v43 : Int, v43 = aI S 2 (fI S 12) → InR v43 → ((¬ v43 = 24 → ((3 ≤ x1 → j_M_clause_66 x1 v43 S K) ∧ (¬ (3 ≤ x1) → (InR (fI S 21) → (0 ≤ x1 ∧ x1 ≤ 31) ∧ (InR (1 * 2 ^ (Int.toNat x1)) ∧ ((∀ S49 : St, S49 = fset S 21 (iOr (fI S 21) (1 * 2 ^ (Int.toNat x1))) → j_M_clause_66 x1 v43 S49 K))))))) ∧ (v43 = 24 → K 6 S))))))
def w_M_clause (S : St) (K : Int → St → Prop) : Prop :=
  w_M_sortOf S (fun (r50 : Int) => InR r50 → ((0 ≤ r50 → ((3 ≤ r50 → j_M_clause_30 r50 S K) ∧ (¬ (3 ≤ r50) → (InR (fI S 21) → (0 ≤ r50 ∧ r50 ≤ 31) ∧ (((¬ (((fI S 21) / 2 ^ (Int.toNat r50)) % 2) = 1 → j_M_clause_30 r50 S K) ∧ ((((fI S 21) / 2 ^ (Int.toNat r50)) % 2) = 1 → K 4 S))))))) ∧ (¬ (0 ≤ r50) → K 1 S)))
def l_M_readText_48 (K : Int → St → Prop) : Nat → St → Prop
  | 0, _ => False
  | n + 1, S => (InR (fI S 9) → (((fI S 9) = 0 → K 0 S) ∧ (¬ ((fI S 9) = 0) → w_M_clause S (fun (r3 : Int) (S4 : St) => InR r3 → ((r3 = 0 → l_M_readText_48 K n S4) ∧ (¬ (r3 = 0) → K r3 S4))))))
def w_M_readText (S : St) (K : Int → St → Prop) : Prop :=
  (InR (aI S 0 3) → InR (700 * (aI S 0 3)) ∧ ((∀ S8 : St, S8 = fset S 12 (700 * (aI S 0 3)) → (InR (fI S8 12) → ((0 : Int) ≤ fI S8 12 ∧ fI S8 12 < 2800) ∧ ((∀ S11 : St, S11 = aset S8 2 (fI S8 12) 0 → (∀ S12 : St, S12 = fset S11 14 0 → (∀ S13 : St, S13 = fset S12 18 0 → (∀ S14 : St, S14 = fset S13 21 0 → (∀ S15 : St, S15 = fset S14 7 0 → w_M_nextToken S15 (fun (S17 : St) => ∃ n48 : Nat, l_M_readText_48 K n48 S17)))))))))))
def j_M_text_36 (y1 : Int) (S : St) (K : Int → St → Prop) : Prop :=
  (∀ S1 : St, S1 = fset S 6 y1 → (∀ S2 : St, S2 = fset S1 4 0 → (InR (fI S2 5) → (((fI S2 5) = 0 → (InR (aI S2 0 3) → InR ((aI S2 0 3) + 1) ∧ ((∀ S7 : St, S7 = aset S2 0 3 ((aI S2 0 3) + 1) → (InR (aI S7 0 3) → InR ((aI S7 0 3) - 1) ∧ (K ((aI S7 0 3) - 1) S7)))))) ∧ (¬ ((fI S2 5) = 0) → K (-1) S2)))))
def w_M_text (S : St) (K : Int → St → Prop) : Prop :=
  (InR (aI S 0 3) → ((¬ (aI S 0 3) = 4 → w_M_readText S (fun (r12 : Int) (S13 : St) => InR r12 → (∀ S14 : St, S14 = fset S13 5 r12 → (InR (fI S14 5) → ((¬ (fI S14 5) = 0 → (InR (fI S14 8) → j_M_text_36 (fI S14 8) S14 K)) ∧ ((fI S14 5) = 0 → j_M_text_36 (-1) S14 K)))))) ∧ ((aI S 0 3) = 4 → K (-1) S)))
def w_M_fault (x1 : Int) (S : St) (K : Int → Prop) : Prop :=
  ((¬ x1 = 0 → ((¬ x1 = 1 → K (-1)) ∧ (x1 = 1 → (InR (fI S 6) → K (fI S 6))))) ∧ (x1 = 0 → (InR (fI S 5) → K (fI S 5))))
def w_M_by (x1 : Int) (S : St) (K : Int → St → Prop) : Prop :=
  (InR (aI S 0 3) → InR ((aI S 0 3) - 1) ∧ (w_M_isIn x1 (-1) ((aI S 0 3) - 1) (fun (r3 : Int) => (r3 = 0 ∨ r3 = 1) → ((¬ r3 = 0 → (∀ S6 : St, S6 = aset S 0 4 x1 → K 1 S6)) ∧ (r3 = 0 → K 0 S)))))
def w_M_isPlayed (x1 : Int) (S : St) (K : Int → St → Prop) : Prop :=
  InR (x1 + 1) ∧ (((0 : Int) ≤ x1 + 1 ∧ x1 + 1 < 2800) ∧ ((InR (aI S 2 (x1 + 1)) → (∀ v4 : Int, v4 = aI S 2 (x1 + 1) → InR v4 → InR (x1 + 2) ∧ (((0 : Int) ≤ x1 + 2 ∧ x1 + 2 < 2800) ∧ ((InR (aI S 2 (x1 + 2)) → (∀ v8 : Int, v8 = aI S 2 (x1 + 2) → InR v8 → ((0 : Int) ≤ x1 ∧ x1 < 2800) ∧ ((InR (aI S 2 x1) → (((aI S 2 x1) = 4 → InR (x1 + 3) ∧ (((0 : Int) ≤ x1 + 3 ∧ x1 + 3 < 2800) ∧ ((InR (aI S 2 (x1 + 3)) → w_M_lend v4 v8 (aI S 2 (x1 + 3)) S (fun (r15 : Int) (S16 : St) => InR r15 → ((r15 < 0 → K 0 S16) ∧ (¬ (r15 < 0) → K 1 S16))))))) ∧ ((aI S 2 x1) = 5 → w_M_swap v4 v8 S (fun (r18 : Int) (S19 : St) => (r18 = 0 ∨ r18 = 1) → K r18 S19)) ∧ ((aI S 2 x1) = 6 → w_M_steal v4 v8 S (fun (r20 : Int) (S21 : St) => (r20 = 0 ∨ r20 = 1) → K r20 S21)) ∧ ((aI S 2 x1) = 7 → w_M_burn v4 S (fun (r22 : Int) (S23 : St) => InR r22 → ((r22 < 0 → K 0 S23) ∧ (¬ (r22 < 0) → K 1 S23)))) ∧ ((aI S 2 x1) = 8 → w_M_pass v4 S (fun (r25 : Int) (S26 : St) => InR r25 → ((r25 < 0 → K 0 S26) ∧ (¬ (r25 < 0) → K 1 S26)))) ∧ (¬ (4 ≤ (aI S 2 x1) ∧ (aI S 2 x1) ≤ 8) → K 1 S))))))))))))
def l_M_played_21 (x1 : Int) (K : Int → St → Prop) : Nat → Int → St → Prop
  | 0, _, _ => False
  | n + 1, x2, S => InR (700 * x1) ∧ (((0 : Int) ≤ 700 * x1 ∧ 700 * x1 < 2800) ∧ ((InR (aI S 2 (700 * x1)) → (((aI S 2 (700 * x1)) ≤ x2 → K (-1) S) ∧ (¬ ((aI S 2 (700 * x1)) ≤ x2) → InR ((700 * x1) + 1) ∧ (InR (4 * x2) ∧ (InR (((700 * x1) + 1) + (4 * x2)) ∧ (w_M_isPlayed (((700 * x1) + 1) + (4 * x2)) S (fun (r8 : Int) (S9 : St) => (r8 = 0 ∨ r8 = 1) → ((¬ r8 = 0 → InR (x2 + 1) ∧ (l_M_played_21 x1 K n (x2 + 1) S9)) ∧ (r8 = 0 → K x2 S9)))))))))))
def w_M_played (x1 : Int) (S : St) (K : Int → St → Prop) : Prop :=
  (InR (aI S 0 3) → InR ((aI S 0 3) - 1) ∧ (w_M_isIn x1 0 ((aI S 0 3) - 1) (fun (r14 : Int) => (r14 = 0 ∨ r14 = 1) → ((¬ r14 = 0 → ∃ n21 : Nat, l_M_played_21 x1 K n21 0 S) ∧ (r14 = 0 → K (-2) S)))))
def w_M_isHoly (x1 : Int) (S : St) (K : Int → St → Prop) : Prop :=
  w_M_clauseOf 1 S (fun (r1 : Int) => InR r1 → ((0 ≤ r1 → w_M_name x1 0 S (fun (S5 : St) => w_M_work r1 S5 (fun (S7 : St) => (InR (aI S7 7 0) → ((aI S7 7 0 = 0 ∨ aI S7 7 0 = 1) → K (aI S7 7 0) S7))))) ∧ (¬ (0 ≤ r1) → K 1 S)))
def w_M_of (x1 : Int) (x2 : Int) (S : St) (K : Int → St → Prop) : Prop :=
  w_M_isBone x1 S (fun (r1 : Int) => (r1 = 0 ∨ r1 = 1) → ((¬ r1 = 0 → ((x2 = 0 → w_M_boneAt x1 (fun (r5 : Int) => InR r5 → InR (r5 + x2) ∧ (((0 : Int) ≤ r5 + x2 ∧ r5 + x2 < 1814) ∧ ((InR (aI S 0 (r5 + x2)) → K (aI S 0 (r5 + x2)) S))))) ∧ (x2 = 1 → w_M_boneAt x1 (fun (r10 : Int) => InR r10 → InR (r10 + x2) ∧ (((0 : Int) ≤ r10 + x2 ∧ r10 + x2 < 1814) ∧ ((InR (aI S 0 (r10 + x2)) → K (aI S 0 (r10 + x2)) S))))) ∧ (x2 = 2 → w_M_boneAt x1 (fun (r15 : Int) => InR r15 → InR (r15 + x2) ∧ (((0 : Int) ≤ r15 + x2 ∧ r15 + x2 < 1814) ∧ ((InR (aI S 0 (r15 + x2)) → K (aI S 0 (r15 + x2)) S))))) ∧ (x2 = 3 → w_M_boneAt x1 (fun (r20 : Int) => InR r20 → InR (r20 + x2) ∧ (((0 : Int) ≤ r20 + x2 ∧ r20 + x2 < 1814) ∧ ((InR (aI S 0 (r20 + x2)) → K (aI S 0 (r20 + x2)) S))))) ∧ (x2 = 4 → w_M_boneAt x1 (fun (r25 : Int) => InR r25 → InR (r25 + x2) ∧ (((0 : Int) ≤ r25 + x2 ∧ r25 + x2 < 1814) ∧ ((InR (aI S 0 (r25 + x2)) → K (aI S 0 (r25 + x2)) S))))) ∧ (x2 = 5 → w_M_boneAt x1 (fun (r30 : Int) => InR r30 → InR (r30 + 5) ∧ (((0 : Int) ≤ r30 + 5 ∧ r30 + 5 < 1814) ∧ ((InR (aI S 0 (r30 + 5)) → w_M_bits (aI S 0 (r30 + 5)) (fun (r35 : Int) => InR r35 → K r35 S)))))) ∧ (x2 = 6 → w_M_isHoly x1 S (fun (r37 : Int) (S38 : St) => (r37 = 0 ∨ r37 = 1) → ((r37 = 0 → K 0 S38) ∧ (¬ (r37 = 0) → K 1 S38)))) ∧ (¬ (0 ≤ x2 ∧ x2 ≤ 6) → K (-2) S))) ∧ (r1 = 0 → K (-2) S)))
def j_M_findAsked_66 (x1 : Int) (x2 : Int) (S : St) (K : St → Prop) (C : Int → St → Prop) : Prop :=
  InR (x2 + 1) ∧ (C (x2 + 1) S)
def l_M_findAsked_7 (x1 : Int) (K : St → Prop) : Nat → Int → St → Prop
  | 0, _, _ => False
  | n + 1, x2, S => (InR (aI S 0 1) → (((aI S 0 1) ≤ x2 → K S) ∧ (¬ ((aI S 0 1) ≤ x2) → w_M_boneAt x2 (fun (r4 : Int) => InR r4 → InR (r4 + 3) ∧ (((0 : Int) ≤ r4 + 3 ∧ r4 + 3 < 1814) ∧ ((InR (aI S 0 (r4 + 3)) → (0 ≤ aI S 0 (r4 + 3) ∧ aI S 0 (r4 + 3) ≤ 31) ∧ (((((x1 / 2 ^ (Int.toNat (aI S 0 (r4 + 3)))) % 2) = 0 → j_M_findAsked_66 x1 x2 S K (l_M_findAsked_7 x1 K n)) ∧ (¬ (((x1 / 2 ^ (Int.toNat (aI S 0 (r4 + 3)))) % 2) = 0) → w_M_isHoly x2 S (fun (r13 : Int) (S14 : St) => (r13 = 0 ∨ r13 = 1) → ((¬ r13 = 0 → (InR (fI S14 29) → ((0 : Int) ≤ fI S14 29 ∧ fI S14 29 < 16) ∧ ((∀ S18 : St, S18 = aset S14 8 (fI S14 29) x2 → (InR (fI S18 29) → InR ((fI S18 29) + 1) ∧ ((∀ S21 : St, S21 = fset S18 29 ((fI S18 29) + 1) → j_M_findAsked_66 x1 x2 S21 K (l_M_findAsked_7 x1 K n)))))))) ∧ (r13 = 0 → j_M_findAsked_66 x1 x2 S14 K (l_M_findAsked_7 x1 K n))))))))))))))
def w_M_findAsked (x1 : Int) (S : St) (K : St → Prop) : Prop :=
  (∀ S22 : St, S22 = fset S 29 0 → ∃ n7 : Nat, l_M_findAsked_7 x1 K n7 0 S22)
def w_M_isUnlike (x1 : Int) (x2 : Int) (S : St) (K : Int → St → Prop) : Prop :=
  w_M_clauseOf 2 S (fun (r1 : Int) => InR r1 → ((0 ≤ r1 → w_M_name x1 x2 S (fun (S5 : St) => w_M_work r1 S5 (fun (S7 : St) => (InR (aI S7 7 0) → ((aI S7 7 0 = 0 ∨ aI S7 7 0 = 1) → (((aI S7 7 0) = 0 → w_M_name x2 x1 S7 (fun (S11 : St) => w_M_work r1 S11 (fun (S13 : St) => (InR (aI S13 7 0) → ((aI S13 7 0 = 0 ∨ aI S13 7 0 = 1) → K (aI S13 7 0) S13))))) ∧ (¬ ((aI S7 7 0) = 0) → K 1 S7))))))) ∧ (¬ (0 ≤ r1) → K 0 S)))
def j_M_manyOf_78 (x1 : Int) (x2 : Int) (S : St) (K : Int → Prop) (C : Int → Prop) : Prop :=
  InR (x2 + 1) ∧ (C (x2 + 1))
def l_M_manyOf_2 (x1 : Int) (S : St) (K : Int → Prop) : Nat → Int → Prop
  | 0, _ => False
  | n + 1, x2 => (InR (aI S 0 4) → (((aI S 0 4) < 0 → K 1) ∧ (¬ ((aI S 0 4) < 0) → InR (700 * (aI S 0 4)) ∧ (((0 : Int) ≤ 700 * (aI S 0 4) ∧ 700 * (aI S 0 4) < 2800) ∧ ((InR (aI S 2 (700 * (aI S 0 4))) → (((aI S 2 (700 * (aI S 0 4))) ≤ x2 → K 1) ∧ (¬ ((aI S 2 (700 * (aI S 0 4))) ≤ x2) → InR ((700 * (aI S 0 4)) + 1) ∧ (InR (4 * x2) ∧ (InR (((700 * (aI S 0 4)) + 1) + (4 * x2)) ∧ ((∀ v13 : Int, v13 = ((700 * (aI S 0 4)) + 1) + (4 * x2) → InR v13 → ((0 : Int) ≤ v13 ∧ v13 < 2800) ∧ ((InR (aI S 2 v13) → ((¬ (aI S 2 v13) = 3 → j_M_manyOf_78 x1 x2 S K (l_M_manyOf_2 x1 S K n)) ∧ ((aI S 2 v13) = 3 → InR (v13 + 1) ∧ (((0 : Int) ≤ v13 + 1 ∧ v13 + 1 < 2800) ∧ ((InR (aI S 2 (v13 + 1)) → ((¬ (aI S 2 (v13 + 1)) = x1 → j_M_manyOf_78 x1 x2 S K (l_M_manyOf_2 x1 S K n)) ∧ ((aI S 2 (v13 + 1)) = x1 → InR (v13 + 2) ∧ (((0 : Int) ≤ v13 + 2 ∧ v13 + 2 < 2800) ∧ ((InR (aI S 2 (v13 + 2)) → K (aI S 2 (v13 + 2))))))))))))))))))))))))))
def w_M_manyOf (x1 : Int) (S : St) (K : Int → Prop) : Prop :=
  ∃ n2 : Nat, l_M_manyOf_2 x1 S K n2 0
def j_M_findBarred_93 (x1 : Int) (S : St) (K : St → Prop) (C : Int → St → Prop) : Prop :=
  InR (x1 + 1) ∧ (C (x1 + 1) S)
def j_M_findBarred_87 (x1 : Int) (x2 : Int) (S : St) (K : St → Prop) (X93 : St → Prop) (C : Int → St → Prop) : Prop :=
  InR (x2 + 1) ∧ (C (x2 + 1) S)
def l_M_findBarred_43 (x1 : Int) (K : St → Prop) (X93 : St → Prop) : Nat → Int → St → Prop
  | 0, _, _ => False
  | n + 1, x2, S => (InR (fI S 29) → (((fI S 29) ≤ x2 → X93 S) ∧ (¬ ((fI S 29) ≤ x2) → ((x1 = x2 → j_M_findBarred_87 x1 x2 S K X93 (l_M_findBarred_43 x1 K X93 n)) ∧ (¬ (x1 = x2) → ((0 : Int) ≤ x1 ∧ x1 < 16) ∧ ((InR (aI S 8 x1) → ((0 : Int) ≤ x2 ∧ x2 < 16) ∧ ((InR (aI S 8 x2) → w_M_isUnlike (aI S 8 x1) (aI S 8 x2) S (fun (r10 : Int) (S11 : St) => (r10 = 0 ∨ r10 = 1) → ((r10 = 0 → j_M_findBarred_87 x1 x2 S11 K X93 (l_M_findBarred_43 x1 K X93 n)) ∧ (¬ (r10 = 0) → ((0 : Int) ≤ x1 ∧ x1 < 16) ∧ ((InR (aI S11 9 x1) → (0 ≤ x2 ∧ x2 ≤ 31) ∧ (InR (1 * 2 ^ (Int.toNat x2)) ∧ (((0 : Int) ≤ x1 ∧ x1 < 16) ∧ ((∀ S18 : St, S18 = aset S11 9 x1 (iOr (aI S11 9 x1) (1 * 2 ^ (Int.toNat x2))) → j_M_findBarred_87 x1 x2 S18 K X93 (l_M_findBarred_43 x1 K X93 n)))))))))))))))))))
def l_M_findBarred_2 (K : St → Prop) : Nat → Int → St → Prop
  | 0, _, _ => False
  | n + 1, x1, S => (InR (fI S 29) → (((fI S 29) ≤ x1 → K S) ∧ (¬ ((fI S 29) ≤ x1) → ((0 : Int) ≤ x1 ∧ x1 < 16) ∧ ((∀ S22 : St, S22 = aset S 9 x1 0 → ((0 : Int) ≤ x1 ∧ x1 < 16) ∧ ((InR (aI S22 8 x1) → w_M_boneAt (aI S22 8 x1) (fun (r25 : Int) => InR r25 → ((0 : Int) ≤ r25 ∧ r25 < 1814) ∧ ((InR (aI S22 0 r25) → w_M_manyOf (aI S22 0 r25) S22 (fun (r29 : Int) => InR r29 → ((0 : Int) ≤ x1 ∧ x1 < 16) ∧ ((∀ S32 : St, S32 = aset S22 10 x1 r29 → ∃ n43 : Nat, l_M_findBarred_43 x1 K (fun (zS : St) => j_M_findBarred_93 x1 zS K (l_M_findBarred_2 K n)) n43 0 S32)))))))))))))
def w_M_findBarred (S : St) (K : St → Prop) : Prop :=
  ∃ n2 : Nat, l_M_findBarred_2 K n2 0 S
def j_M_canHave_88 (x1 : Int) (x3 : Int) (S : St) (K : Int → Prop) : Prop :=
  ((0 : Int) ≤ x1 ∧ x1 < 16) ∧ ((InR (aI S 10 x1) → (((aI S 10 x1) < x3 → K 0) ∧ (¬ ((aI S 10 x1) < x3) → K 1))))
def j_M_canHave_82 (x1 : Int) (x2 : Int) (x3 : Int) (x4 : Int) (S : St) (K : Int → Prop) (X88 : Int → Prop) (C : Int → Int → Prop) : Prop :=
  InR (x4 + 1) ∧ (C x3 (x4 + 1))
def j_M_canHave_80 (x1 : Int) (x2 : Int) (x4 : Int) (y0 : Int) (y1 : Int) (S : St) (K : Int → Prop) (X88 : Int → Prop) (C : Int → Int → Prop) : Prop :=
  InR (y0 + y1) ∧ ((∀ v6 : Int, v6 = y0 + y1 → InR v6 → j_M_canHave_82 x1 x2 v6 x4 S K X88 C))
def l_M_canHave_5 (x1 : Int) (x2 : Int) (S : St) (K : Int → Prop) (X88 : Int → Prop) : Nat → Int → Int → Prop
  | 0, _, _ => False
  | n + 1, x3, x4 => ((x1 ≤ x4 → X88 x3) ∧ (¬ (x1 ≤ x4) → ((0 : Int) ≤ x4 ∧ x4 < 17) ∧ ((InR (aI S 11 x4) → (((aI S 11 x4) = x2 → ((0 : Int) ≤ x1 ∧ x1 < 16) ∧ ((InR (aI S 9 x1) → (0 ≤ x4 ∧ x4 ≤ 31) ∧ (((¬ (((aI S 9 x1) / 2 ^ (Int.toNat x4)) % 2) = 1 → ((0 : Int) ≤ x4 ∧ x4 < 16) ∧ ((InR (aI S 8 x4) → w_M_boneAt (aI S 8 x4) (fun (r19 : Int) => InR r19 → ((0 : Int) ≤ r19 ∧ r19 < 1814) ∧ ((InR (aI S 0 r19) → ((0 : Int) ≤ x1 ∧ x1 < 16) ∧ ((InR (aI S 8 x1) → w_M_boneAt (aI S 8 x1) (fun (r25 : Int) => InR r25 → ((0 : Int) ≤ r25 ∧ r25 < 1814) ∧ ((InR (aI S 0 r25) → ((¬ (aI S 0 r19) = (aI S 0 r25) → j_M_canHave_80 x1 x2 x4 x3 0 S K X88 (l_M_canHave_5 x1 x2 S K X88 n)) ∧ ((aI S 0 r19) = (aI S 0 r25) → j_M_canHave_80 x1 x2 x4 x3 1 S K X88 (l_M_canHave_5 x1 x2 S K X88 n)))))))))))))) ∧ ((((aI S 9 x1) / 2 ^ (Int.toNat x4)) % 2) = 1 → K 0)))))) ∧ (¬ ((aI S 11 x4) = x2) → j_M_canHave_82 x1 x2 x3 x4 S K X88 (l_M_canHave_5 x1 x2 S K X88 n)))))))
def w_M_canHave (x1 : Int) (x2 : Int) (S : St) (K : Int → Prop) : Prop :=
  ∃ n5 : Nat, l_M_canHave_5 x1 x2 S K (fun (z3 : Int) => j_M_canHave_88 x1 z3 S K) n5 1 0
def j_M_used_28 (x1 : Int) (x2 : Int) (x3 : Int) (S : St) (K : Int → Prop) (C : Int → Int → Prop) : Prop :=
  InR (x3 + 1) ∧ (C x2 (x3 + 1))
def l_M_used_4 (x1 : Int) (S : St) (K : Int → Prop) : Nat → Int → Int → Prop
  | 0, _, _ => False
  | n + 1, x2, x3 => ((x1 ≤ x3 → K x2) ∧ (¬ (x1 ≤ x3) → ((0 : Int) ≤ x3 ∧ x3 < 17) ∧ ((InR (aI S 11 x3) → (((aI S 11 x3) < x2 → j_M_used_28 x1 x2 x3 S K (l_M_used_4 x1 S K n)) ∧ (¬ ((aI S 11 x3) < x2) → ((0 : Int) ≤ x3 ∧ x3 < 17) ∧ (InR ((aI S 11 x3) + 1) ∧ ((∀ v9 : Int, v9 = (aI S 11 x3) + 1 → InR v9 → j_M_used_28 x1 v9 x3 S K (l_M_used_4 x1 S K n))))))))))
def w_M_used (x1 : Int) (S : St) (K : Int → Prop) : Prop :=
  ∃ n4 : Nat, l_M_used_4 x1 S K n4 0 0
def j_M_share_104 (x1 : Int) (x2 : Int) (S : St) (K : Int → St → Prop) (C : Int → St → Prop) : Prop :=
  InR (x2 + (-1)) ∧ (C (x2 + (-1)) S)
def j_M_share_84 (x1 : Int) (x2 : Int) (x3 : Int) (S : St) (K : Int → St → Prop) (C : Int → St → Prop) : Prop :=
  ((0 : Int) ≤ x2 ∧ x2 < 17) ∧ ((InR (aI S 11 x2) → ((x3 < (aI S 11 x2) → j_M_share_104 x1 x2 S K C) ∧ (¬ (x3 < (aI S 11 x2)) → ((0 : Int) ≤ x2 ∧ x2 < 17) ∧ ((((aI S 11 x2) < x1 → InR (x2 + 1) ∧ (((0 : Int) ≤ x2 + 1 ∧ x2 + 1 < 17) ∧ ((∀ S10 : St, S10 = aset S 11 (x2 + 1) (-1) → C (x2 + 1) S10)))) ∧ (¬ ((aI S 11 x2) < x1) → j_M_share_104 x1 x2 S K C)))))))
def l_M_share_37 (x1 : Int) (x2 : Int) (x3 : Int) (K : Int → St → Prop) (X84 : St → Prop) : Nat → St → Prop
  | 0, _ => False
  | n + 1, S => ((0 : Int) ≤ x2 ∧ x2 < 17) ∧ ((InR (aI S 11 x2) → ((x3 < (aI S 11 x2) → X84 S) ∧ (¬ (x3 < (aI S 11 x2)) → ((0 : Int) ≤ x2 ∧ x2 < 17) ∧ (((x1 ≤ (aI S 11 x2) → X84 S) ∧ (¬ (x1 ≤ (aI S 11 x2)) → ((0 : Int) ≤ x2 ∧ x2 < 17) ∧ (w_M_canHave x2 (aI S 11 x2) S (fun (r19 : Int) => (r19 = 0 ∨ r19 = 1) → ((¬ r19 = 0 → X84 S) ∧ (r19 = 0 → ((0 : Int) ≤ x2 ∧ x2 < 17) ∧ (InR ((aI S 11 x2) + 1) ∧ (((0 : Int) ≤ x2 ∧ x2 < 17) ∧ ((∀ S26 : St, S26 = aset S 11 x2 ((aI S 11 x2) + 1) → l_M_share_37 x1 x2 x3 K X84 n S26)))))))))))))))
def l_M_share_9 (x1 : Int) (K : Int → St → Prop) : Nat → Int → St → Prop
  | 0, _, _ => False
  | n + 1, x2, S => ((x2 < 0 → ((x2 < 0 → K 0 S) ∧ (¬ (x2 < 0) → K 1 S))) ∧ (¬ (x2 < 0) → (InR (fI S 29) → (((fI S 29) ≤ x2 → ((x2 < 0 → K 0 S) ∧ (¬ (x2 < 0) → K 1 S))) ∧ (¬ ((fI S 29) ≤ x2) → w_M_used x2 S (fun (r32 : Int) => InR r32 → ((0 : Int) ≤ x2 ∧ x2 < 17) ∧ ((InR (aI S 11 x2) → InR ((aI S 11 x2) + 1) ∧ (((0 : Int) ≤ x2 ∧ x2 < 17) ∧ ((∀ S38 : St, S38 = aset S 11 x2 ((aI S 11 x2) + 1) → ∃ n37 : Nat, l_M_share_37 x1 x2 r32 K (fun (zS : St) => j_M_share_84 x1 x2 r32 zS K (l_M_share_9 x1 K n)) n37 S38)))))))))))
def w_M_share (x1 : Int) (S : St) (K : Int → St → Prop) : Prop :=
  (∀ S39 : St, S39 = aset S 11 0 (-1) → ∃ n9 : Nat, l_M_share_9 x1 K n9 0 S39)
def l_M_saints_81 (x2 : Int) (S : St) (K : Int → St → Prop) : Nat → Int → Prop
  | 0, _ => False
  | n + 1, x4 => (InR (fI S 29) → (((fI S 29) ≤ x4 → K (-1) S) ∧ (¬ ((fI S 29) ≤ x4) → ((0 : Int) ≤ x4 ∧ x4 < 16) ∧ ((InR (aI S 8 x4) → ((¬ (aI S 8 x4) = x2 → InR (x4 + 1) ∧ (l_M_saints_81 x2 S K n (x4 + 1))) ∧ ((aI S 8 x4) = x2 → ((0 : Int) ≤ x4 ∧ x4 < 17) ∧ ((InR (aI S 11 x4) → K (aI S 11 x4) S)))))))))
def j_M_saints_71 (x2 : Int) (x3 : Int) (S : St) (K : Int → St → Prop) : Prop :=
  ((¬ x2 = (-1) → ∃ n81 : Nat, l_M_saints_81 x2 S K n81 0) ∧ (x2 = (-1) → K x3 S))
def l_M_saints_57 (x2 : Int) (K : Int → St → Prop) (X71 : Int → St → Prop) : Nat → Int → St → Prop
  | 0, _, _ => False
  | n + 1, x3, S => w_M_share x3 S (fun (r10 : Int) (S11 : St) => (r10 = 0 ∨ r10 = 1) → ((¬ r10 = 0 → X71 x3 S11) ∧ (r10 = 0 → InR (x3 + 1) ∧ (l_M_saints_57 x2 K X71 n (x3 + 1) S11))))
def j_M_saints_34 (x1 : Int) (x2 : Int) (S : St) (K : Int → St → Prop) : Prop :=
  w_M_findAsked x1 S (fun (S15 : St) => (InR (fI S15 29) → (((fI S15 29) ≤ 12 → w_M_findBarred S15 (fun (S19 : St) => ∃ n57 : Nat, l_M_saints_57 x2 K (fun (z3 : Int) (zS : St) => j_M_saints_71 x2 z3 zS K) n57 0 S19)) ∧ (¬ ((fI S15 29) ≤ 12) → K (-2) S15))))
def w_M_saints (x1 : Int) (x2 : Int) (S : St) (K : Int → St → Prop) : Prop :=
  (InR (aI S 0 0) → (0 ≤ aI S 0 0 ∧ aI S 0 0 ≤ 31) ∧ (InR (1 * 2 ^ (Int.toNat (aI S 0 0))) ∧ (InR ((1 * 2 ^ (Int.toNat (aI S 0 0))) - 1) ∧ (w_M_isIn x1 0 ((1 * 2 ^ (Int.toNat (aI S 0 0))) - 1) (fun (r24 : Int) => (r24 = 0 ∨ r24 = 1) → ((r24 = 0 → K (-2) S) ∧ (¬ (r24 = 0) → ((x2 = (-1) → j_M_saints_34 x1 x2 S K) ∧ (¬ (x2 = (-1)) → w_M_isBone x2 S (fun (r28 : Int) => (r28 = 0 ∨ r28 = 1) → ((¬ r28 = 0 → j_M_saints_34 x1 x2 S K) ∧ (r28 = 0 → K (-2) S))))))))))))
def w_M_rules (x1 : Int) (x2 : Int) (S : St) (K : Int → St → Prop) : Prop :=
  w_M_isIn x1 0 9 (fun (r1 : Int) => (r1 = 0 ∨ r1 = 1) → ((r1 = 0 → K 0 S) ∧ (¬ (r1 = 0) → w_M_isIn x2 1 99 (fun (r4 : Int) => (r4 = 0 ∨ r4 = 1) → ((¬ r4 = 0 → (∀ S7 : St, S7 = aset S 0 7 x1 → (∀ S8 : St, S8 = aset S7 0 8 x2 → K 1 S8))) ∧ (r4 = 0 → K 0 S))))))
def w_M_seen (x1 : Int) (x2 : Int) (x3 : Int) (x4 : Int) (S : St) (K : Int → St → Prop) : Prop :=
  w_M_isTown x1 S (fun (r1 : Int) => (r1 = 0 ∨ r1 = 1) → ((r1 = 0 → K (-1) S) ∧ (¬ (r1 = 0) → w_M_isIn x2 0 19 (fun (r4 : Int) => (r4 = 0 ∨ r4 = 1) → ((r4 = 0 → K (-1) S) ∧ (¬ (r4 = 0) → w_M_isIn x3 1 999 (fun (r7 : Int) => (r7 = 0 ∨ r7 = 1) → ((r7 = 0 → K (-1) S) ∧ (¬ (r7 = 0) → w_M_isIn x4 0 999 (fun (r10 : Int) => (r10 = 0 ∨ r10 = 1) → ((r10 = 0 → K (-1) S) ∧ (¬ (r10 = 0) → (InR (aI S 0 6) → ((¬ (aI S 0 6) = 12 → InR (4 * (aI S 0 6)) ∧ (InR (126 + (4 * (aI S 0 6))) ∧ ((∀ v18 : Int, v18 = 126 + (4 * (aI S 0 6)) → InR v18 → ((0 : Int) ≤ v18 ∧ v18 < 1814) ∧ ((∀ S20 : St, S20 = aset S 0 v18 x1 → InR (v18 + 1) ∧ (((0 : Int) ≤ v18 + 1 ∧ v18 + 1 < 1814) ∧ ((∀ S23 : St, S23 = aset S20 0 (v18 + 1) x2 → InR (v18 + 2) ∧ (((0 : Int) ≤ v18 + 2 ∧ v18 + 2 < 1814) ∧ ((∀ S26 : St, S26 = aset S23 0 (v18 + 2) x3 → InR (v18 + 3) ∧ (((0 : Int) ≤ v18 + 3 ∧ v18 + 3 < 1814) ∧ ((∀ S29 : St, S29 = aset S26 0 (v18 + 3) x4 → (InR (aI S29 0 6) → InR ((aI S29 0 6) + 1) ∧ ((∀ S32 : St, S32 = aset S29 0 6 ((aI S29 0 6) + 1) → (InR (aI S32 0 6) → InR ((aI S32 0 6) - 1) ∧ (K ((aI S32 0 6) - 1) S32)))))))))))))))))))) ∧ ((aI S 0 6) = 12 → K (-1) S)))))))))))))))
def w_M_forget (S : St) (K : Int → St → Prop) : Prop :=
  (InR (aI S 0 6) → (∀ v2 : Int, v2 = aI S 0 6 → InR v2 → (∀ S3 : St, S3 = aset S 0 6 0 → K v2 S3)))
def w_M_apart (x0 : Int) (x1 : Int) (K : Int → Prop) : Prop :=
  ((x1 ≤ x0 → InR (x0 - x1) ∧ (K (x0 - x1))) ∧ (¬ (x1 ≤ x0) → InR (x1 - x0) ∧ (K (x1 - x0))))
def w_M_miles (x1 : Int) (x2 : Int) (S : St) (K : Int → Prop) : Prop :=
  InR (2 * x1) ∧ (InR (10 + (2 * x1)) ∧ (((0 : Int) ≤ 10 + (2 * x1) ∧ 10 + (2 * x1) < 1814) ∧ ((InR (aI S 0 (10 + (2 * x1))) → InR (2 * x2) ∧ (InR (10 + (2 * x2)) ∧ (((0 : Int) ≤ 10 + (2 * x2) ∧ 10 + (2 * x2) < 1814) ∧ ((InR (aI S 0 (10 + (2 * x2))) → w_M_apart (aI S 0 (10 + (2 * x1))) (aI S 0 (10 + (2 * x2))) (fun (r9 : Int) => InR r9 → InR ((10 + (2 * x1)) + 1) ∧ (((0 : Int) ≤ (10 + (2 * x1)) + 1 ∧ (10 + (2 * x1)) + 1 < 1814) ∧ ((InR (aI S 0 ((10 + (2 * x1)) + 1)) → InR ((10 + (2 * x2)) + 1) ∧ (((0 : Int) ≤ (10 + (2 * x2)) + 1 ∧ (10 + (2 * x2)) + 1 < 1814) ∧ ((InR (aI S 0 ((10 + (2 * x2)) + 1)) → w_M_apart (aI S 0 ((10 + (2 * x1)) + 1)) (aI S 0 ((10 + (2 * x2)) + 1)) (fun (r17 : Int) => InR r17 → InR (r9 + r17) ∧ (K (r9 + r17))))))))))))))))))
def w_M_same (x1 : Int) (x2 : Int) (S : St) (K : Int → Prop) : Prop :=
  (InR (aI S 0 6) → InR ((aI S 0 6) - 1) ∧ (w_M_isIn x1 0 ((aI S 0 6) - 1) (fun (r3 : Int) => (r3 = 0 ∨ r3 = 1) → ((r3 = 0 → K 0) ∧ (¬ (r3 = 0) → w_M_isIn x2 0 ((aI S 0 6) - 1) (fun (r7 : Int) => (r7 = 0 ∨ r7 = 1) → ((¬ r7 = 0 → InR (4 * x1) ∧ (InR (126 + (4 * x1)) ∧ ((∀ v12 : Int, v12 = 126 + (4 * x1) → InR v12 → InR (4 * x2) ∧ (InR (126 + (4 * x2)) ∧ ((∀ v15 : Int, v15 = 126 + (4 * x2) → InR v15 → InR (v15 + 3) ∧ (((0 : Int) ≤ v15 + 3 ∧ v15 + 3 < 1814) ∧ ((InR (aI S 0 (v15 + 3)) → InR (v12 + 3) ∧ (((0 : Int) ≤ v12 + 3 ∧ v12 + 3 < 1814) ∧ ((InR (aI S 0 (v12 + 3)) → InR ((aI S 0 (v15 + 3)) - (aI S 0 (v12 + 3))) ∧ ((∀ v23 : Int, v23 = (aI S 0 (v15 + 3)) - (aI S 0 (v12 + 3)) → InR v23 → InR (v12 + 1) ∧ (((0 : Int) ≤ v12 + 1 ∧ v12 + 1 < 1814) ∧ ((InR (aI S 0 (v12 + 1)) → InR (v15 + 1) ∧ (((0 : Int) ≤ v15 + 1 ∧ v15 + 1 < 1814) ∧ ((InR (aI S 0 (v15 + 1)) → ((¬ (aI S 0 (v12 + 1)) = (aI S 0 (v15 + 1)) → K 0) ∧ ((aI S 0 (v12 + 1)) = (aI S 0 (v15 + 1)) → ((v23 ≤ 0 → K 0) ∧ (¬ (v23 ≤ 0) → InR (v12 + 2) ∧ (((0 : Int) ≤ v12 + 2 ∧ v12 + 2 < 1814) ∧ ((InR (aI S 0 (v12 + 2)) → InR (v15 + 2) ∧ (((0 : Int) ≤ v15 + 2 ∧ v15 + 2 < 1814) ∧ ((InR (aI S 0 (v15 + 2)) → InR ((aI S 0 (v12 + 2)) - (aI S 0 (v15 + 2))) ∧ ((InR (aI S 0 7) → InR ((aI S 0 7) * v23) ∧ (w_M_isIn ((aI S 0 (v12 + 2)) - (aI S 0 (v15 + 2))) 0 ((aI S 0 7) * v23) (fun (r41 : Int) => (r41 = 0 ∨ r41 = 1) → ((¬ r41 = 0 → ((0 : Int) ≤ v12 ∧ v12 < 1814) ∧ ((InR (aI S 0 v12) → ((0 : Int) ≤ v15 ∧ v15 < 1814) ∧ ((InR (aI S 0 v15) → w_M_miles (aI S 0 v12) (aI S 0 v15) S (fun (r48 : Int) => InR r48 → (InR (aI S 0 8) → ¬ (aI S 0 8) = 0 ∧ (InR (Int.tdiv r48 (aI S 0 8)) ∧ (((v23 < (Int.tdiv r48 (aI S 0 8)) → K 0) ∧ (¬ (v23 < (Int.tdiv r48 (aI S 0 8))) → K 1))))))))))) ∧ (r41 = 0 → K 0))))))))))))))))))))))))))))))))))))) ∧ (r7 = 0 → K 0))))))))
def w_M_behind (x1 : Int) (x2 : Int) (x3 : Int) (S : St) (K : Int → Prop) : Prop :=
  InR (x1 + 1) ∧ (InR (4096 * (x1 + 1)) ∧ (((0 ≤ x2 → (0 ≤ x2 ∧ x2 ≤ 31) ∧ (InR (1 * 2 ^ (Int.toNat x2)) ∧ (InR ((4096 * (x1 + 1)) + (iOr x3 (1 * 2 ^ (Int.toNat x2)))) ∧ (K ((4096 * (x1 + 1)) + (iOr x3 (1 * 2 ^ (Int.toNat x2)))))))) ∧ (¬ (0 ≤ x2) → InR ((4096 * (x1 + 1)) + x3) ∧ (K ((4096 * (x1 + 1)) + x3))))))
def w_M_costOf (x1 : Int) (x2 : Int) (S : St) (K : Int → Prop) : Prop :=
  ((0 ≤ x2 → InR (4 * x1) ∧ (InR (126 + (4 * x1)) ∧ (((0 : Int) ≤ 126 + (4 * x1) ∧ 126 + (4 * x1) < 1814) ∧ ((InR (aI S 0 (126 + (4 * x1))) → InR (4 * x2) ∧ (InR (126 + (4 * x2)) ∧ (((0 : Int) ≤ 126 + (4 * x2) ∧ 126 + (4 * x2) < 1814) ∧ ((InR (aI S 0 (126 + (4 * x2))) → (((aI S 0 (126 + (4 * x1))) = (aI S 0 (126 + (4 * x2))) → K 0) ∧ (¬ ((aI S 0 (126 + (4 * x1))) = (aI S 0 (126 + (4 * x2)))) → K 1))))))))))) ∧ (¬ (0 ≤ x2) → K 100))
def w_M_mayBe (x1 : Int) (x2 : Int) (x3 : Int) (S : St) (K : Int → Prop) : Prop :=
  ((x2 < 0 → K 1) ∧ (¬ (x2 < 0) → (0 ≤ x2 ∧ x2 ≤ 31) ∧ (((¬ ((x3 / 2 ^ (Int.toNat x2)) % 2) = 0 → K 0) ∧ (((x3 / 2 ^ (Int.toNat x2)) % 2) = 0 → InR (12 * x2) ∧ (InR ((12 * x2) + x1) ∧ (((0 : Int) ≤ (12 * x2) + x1 ∧ (12 * x2) + x1 < 144) ∧ ((InR (aI S 14 ((12 * x2) + x1)) → ((aI S 14 ((12 * x2) + x1) = 0 ∨ aI S 14 ((12 * x2) + x1) = 1) → (((aI S 14 ((12 * x2) + x1)) = 0 → K 0) ∧ (¬ ((aI S 14 ((12 * x2) + x1)) = 0) → K 1))))))))))))
def j_M_reckonOne_109 (x1 : Int) (x2 : Int) (x3 : Int) (x4 : Int) (S : St) (K : St → Prop) : Prop :=
  InR (4096 * x1) ∧ (InR ((4096 * x1) + x2) ∧ (((0 : Int) ≤ (4096 * x1) + x2 ∧ (4096 * x1) + x2 < 53248) ∧ ((∀ S4 : St, S4 = aset S 12 ((4096 * x1) + x2) x3 → ((0 : Int) ≤ (4096 * x1) + x2 ∧ (4096 * x1) + x2 < 53248) ∧ ((∀ S6 : St, S6 = aset S4 13 ((4096 * x1) + x2) x4 → K S6))))))
def j_M_reckonOne_103 (x1 : Int) (x2 : Int) (x3 : Int) (x4 : Int) (x6 : Int) (S : St) (K : St → Prop) (X109 : Int → Int → Prop) (C : Int → Int → Int → Prop) : Prop :=
  InR (x6 + 1) ∧ (C x3 x4 (x6 + 1))
def j_M_reckonOne_98 (x1 : Int) (x2 : Int) (x6 : Int) (x8 : Int) (y0 : Int) (S : St) (K : St → Prop) (X109 : Int → Int → Prop) (C : Int → Int → Int → Prop) : Prop :=
  j_M_reckonOne_103 x1 x2 x8 y0 x6 S K X109 C
def l_M_reckonOne_10 (x1 : Int) (x2 : Int) (S : St) (K : St → Prop) (X109 : Int → Int → Prop) : Nat → Int → Int → Int → Prop
  | 0, _, _, _ => False
  | n + 1, x3, x4, x6 => (InR (aI S 0 6) → (((aI S 0 6) ≤ x6 → X109 x3 x4) ∧ (¬ ((aI S 0 6) ≤ x6) → w_M_mayBe x1 x6 x2 S (fun (r10 : Int) => (r10 = 0 ∨ r10 = 1) → ((¬ r10 = 0 → w_M_behind x1 x6 x2 S (fun (r13 : Int) => InR r13 → w_M_costOf x1 x6 S (fun (r15 : Int) => InR r15 → ((0 : Int) ≤ r13 ∧ r13 < 53248) ∧ ((InR (aI S 12 r13) → InR (r15 + (aI S 12 r13)) ∧ ((∀ v20 : Int, v20 = r15 + (aI S 12 r13) → InR v20 → ((v20 ≤ x3 → ((¬ v20 = x3 → ((0 : Int) ≤ r13 ∧ r13 < 53248) ∧ ((InL (aI S 13 r13) → j_M_reckonOne_98 x1 x2 x6 v20 (aI S 13 r13) S K X109 (l_M_reckonOne_10 x1 x2 S K X109 n)))) ∧ (v20 = x3 → ((0 : Int) ≤ r13 ∧ r13 < 53248) ∧ ((InL (aI S 13 r13) → InL (x4 + (aI S 13 r13)) ∧ (j_M_reckonOne_98 x1 x2 x6 v20 (x4 + (aI S 13 r13)) S K X109 (l_M_reckonOne_10 x1 x2 S K X109 n))))))) ∧ (¬ (v20 ≤ x3) → j_M_reckonOne_103 x1 x2 x3 x4 x6 S K X109 (l_M_reckonOne_10 x1 x2 S K X109 n)))))))))) ∧ (r10 = 0 → j_M_reckonOne_103 x1 x2 x3 x4 x6 S K X109 (l_M_reckonOne_10 x1 x2 S K X109 n)))))))
def w_M_reckonOne (x1 : Int) (x2 : Int) (S : St) (K : St → Prop) : Prop :=
  ∃ n10 : Nat, l_M_reckonOne_10 x1 x2 S K (fun (z3 : Int) (z4 : Int) => j_M_reckonOne_109 x1 x2 z3 z4 S K) n10 1000000 0 (-1)
def j_M_reckon_121 (x1 : Int) (x2 : Int) (S : St) (K : St → Prop) (C : Int → St → Prop) : Prop :=
  InR (x2 + (-1)) ∧ (C (x2 + (-1)) S)
def l_M_reckon_102 (x1 : Int) (x2 : Int) (K : St → Prop) (X121 : St → Prop) : Nat → Int → St → Prop
  | 0, _, _ => False
  | n + 1, x3, S => (0 ≤ x1 ∧ x1 ≤ 31) ∧ (InR (1 * 2 ^ (Int.toNat x1)) ∧ ((((1 * 2 ^ (Int.toNat x1)) ≤ x3 → X121 S) ∧ (¬ ((1 * 2 ^ (Int.toNat x1)) ≤ x3) → w_M_reckonOne x2 x3 S (fun (S6 : St) => InR (x3 + 1) ∧ (l_M_reckon_102 x1 x2 K X121 n (x3 + 1) S6))))))
def l_M_reckon_96 (x1 : Int) (K : St → Prop) : Nat → Int → St → Prop
  | 0, _, _ => False
  | n + 1, x2, S => ((x2 < 0 → K S) ∧ (¬ (x2 < 0) → ∃ n102 : Nat, l_M_reckon_102 x1 x2 K (fun (zS : St) => j_M_reckon_121 x1 x2 zS K (l_M_reckon_96 x1 K n)) n102 0 S))
def j_M_reckon_92 (x1 : Int) (S : St) (K : St → Prop) : Prop :=
  InR (x1 - 1) ∧ ((∀ v10 : Int, v10 = x1 - 1 → InR v10 → ∃ n96 : Nat, l_M_reckon_96 x1 K n96 v10 S))
def l_M_reckon_53 (x1 : Int) (K : St → Prop) (X92 : St → Prop) : Nat → Int → St → Prop
  | 0, _, _ => False
  | n + 1, x2, S => (0 ≤ x1 ∧ x1 ≤ 31) ∧ (InR (1 * 2 ^ (Int.toNat x1)) ∧ ((((1 * 2 ^ (Int.toNat x1)) ≤ x2 → X92 S) ∧ (¬ ((1 * 2 ^ (Int.toNat x1)) ≤ x2) → InR (4096 * x1) ∧ (InR ((4096 * x1) + x2) ∧ (((0 : Int) ≤ (4096 * x1) + x2 ∧ (4096 * x1) + x2 < 53248) ∧ ((∀ S17 : St, S17 = aset S 12 ((4096 * x1) + x2) 0 → ((0 : Int) ≤ (4096 * x1) + x2 ∧ (4096 * x1) + x2 < 53248) ∧ ((∀ S19 : St, S19 = aset S17 13 ((4096 * x1) + x2) 1 → InR (x2 + 1) ∧ (l_M_reckon_53 x1 K X92 n (x2 + 1) S19)))))))))))
def j_M_reckon_51 (x1 : Int) (S : St) (K : St → Prop) : Prop :=
  ∃ n53 : Nat, l_M_reckon_53 x1 K (fun (zS : St) => j_M_reckon_92 x1 zS K) n53 0 S
def j_M_reckon_45 (x1 : Int) (x2 : Int) (S : St) (K : St → Prop) (X51 : St → Prop) (C : Int → St → Prop) : Prop :=
  InR (x2 + 1) ∧ (C (x2 + 1) S)
def l_M_reckon_17 (x1 : Int) (x2 : Int) (K : St → Prop) (X45 : St → Prop) : Nat → Int → St → Prop
  | 0, _, _ => False
  | n + 1, x3, S => ((x1 ≤ x3 → X45 S) ∧ (¬ (x1 ≤ x3) → InR (12 * x2) ∧ (InR ((12 * x2) + x3) ∧ (w_M_same x2 x3 S (fun (r25 : Int) => (r25 = 0 ∨ r25 = 1) → ((0 : Int) ≤ (12 * x2) + x3 ∧ (12 * x2) + x3 < 144) ∧ ((∀ S28 : St, S28 = aset S 14 ((12 * x2) + x3) r25 → InR (x3 + 1) ∧ (l_M_reckon_17 x1 x2 K X45 n (x3 + 1) S28))))))))
def l_M_reckon_10 (x1 : Int) (K : St → Prop) (X51 : St → Prop) : Nat → Int → St → Prop
  | 0, _, _ => False
  | n + 1, x2, S => ((x1 ≤ x2 → X51 S) ∧ (¬ (x1 ≤ x2) → ∃ n17 : Nat, l_M_reckon_17 x1 x2 K (fun (zS : St) => j_M_reckon_45 x1 x2 zS K X51 (l_M_reckon_10 x1 K X51 n)) n17 0 S))
def w_M_reckon (S : St) (K : St → Prop) : Prop :=
  (InR (aI S 0 6) → (∀ v32 : Int, v32 = aI S 0 6 → InR v32 → ∃ n10 : Nat, l_M_reckon_10 v32 K (fun (zS : St) => j_M_reckon_51 v32 zS K) n10 0 S))
def w_M_best (x1 : Int) (S : St) (K : Int → St → Prop) : Prop :=
  w_M_isIn x1 0 1 (fun (r1 : Int) => (r1 = 0 ∨ r1 = 1) → ((¬ r1 = 0 → w_M_reckon S (fun (S5 : St) => ((¬ x1 = 0 → (InR (aI S5 12 0) → InR (Int.tmod (aI S5 12 0) 100) ∧ (K (Int.tmod (aI S5 12 0) 100) S5))) ∧ (x1 = 0 → (InR (aI S5 12 0) → InR (Int.tdiv (aI S5 12 0) 100) ∧ (K (Int.tdiv (aI S5 12 0) 100) S5)))))) ∧ (r1 = 0 → K (-1) S)))
def w_M_histories (S : St) (K : Int → St → Prop) : Prop :=
  w_M_reckon S (fun (S2 : St) => (InL (aI S2 13 0) → K (aI S2 13 0) S2))
def j_M_led_95 (x1 : Int) (x2 : Int) (x3 : Int) (x4 : Int) (S : St) (K : Int → St → Prop) (C : Int → Int → Prop) : Prop :=
  ((¬ x3 = x1 → w_M_behind x3 x4 x2 S (fun (r2 : Int) => InR r2 → InR (x3 + 1) ∧ (InR (4096 * (x3 + 1)) ∧ (InR (r2 - (4096 * (x3 + 1))) ∧ ((∀ v7 : Int, v7 = r2 - (4096 * (x3 + 1)) → InR v7 → C v7 (x3 + 1))))))) ∧ (x3 = x1 → K x4 S))
def j_M_led_89 (x1 : Int) (x2 : Int) (x3 : Int) (x4 : Int) (S : St) (K : Int → St → Prop) (X95 : Int → Prop) (C : Int → Prop) : Prop :=
  InR (x4 + 1) ∧ (C (x4 + 1))
def l_M_led_42 (x1 : Int) (x2 : Int) (x3 : Int) (S : St) (K : Int → St → Prop) (X95 : Int → Prop) : Nat → Int → Prop
  | 0, _ => False
  | n + 1, x4 => w_M_mayBe x3 x4 x2 S (fun (r9 : Int) => (r9 = 0 ∨ r9 = 1) → ((r9 = 0 → j_M_led_89 x1 x2 x3 x4 S K X95 (l_M_led_42 x1 x2 x3 S K X95 n)) ∧ (¬ (r9 = 0) → w_M_costOf x3 x4 S (fun (r12 : Int) => InR r12 → w_M_behind x3 x4 x2 S (fun (r14 : Int) => InR r14 → ((0 : Int) ≤ r14 ∧ r14 < 53248) ∧ ((InR (aI S 12 r14) → InR (r12 + (aI S 12 r14)) ∧ (InR (4096 * x3) ∧ (InR ((4096 * x3) + x2) ∧ (((0 : Int) ≤ (4096 * x3) + x2 ∧ (4096 * x3) + x2 < 53248) ∧ ((InR (aI S 12 ((4096 * x3) + x2)) → (((r12 + (aI S 12 r14)) = (aI S 12 ((4096 * x3) + x2)) → X95 x4) ∧ (¬ ((r12 + (aI S 12 r14)) = (aI S 12 ((4096 * x3) + x2))) → j_M_led_89 x1 x2 x3 x4 S K X95 (l_M_led_42 x1 x2 x3 S K X95 n)))))))))))))))
def l_M_led_28 (x1 : Int) (S : St) (K : Int → St → Prop) : Nat → Int → Int → Prop
  | 0, _, _ => False
  | n + 1, x2, x3 => (InR (aI S 0 6) → (((aI S 0 6) ≤ x3 → K (-1) S) ∧ (¬ ((aI S 0 6) ≤ x3) → ∃ n42 : Nat, l_M_led_42 x1 x2 x3 S K (fun (z4 : Int) => j_M_led_95 x1 x2 x3 z4 S K (l_M_led_28 x1 S K n)) n42 (-1))))
def w_M_led (x1 : Int) (S : St) (K : Int → St → Prop) : Prop :=
  (InR (aI S 0 6) → InR ((aI S 0 6) - 1) ∧ (w_M_isIn x1 0 ((aI S 0 6) - 1) (fun (r28 : Int) => (r28 = 0 ∨ r28 = 1) → ((¬ r28 = 0 → w_M_reckon S (fun (S32 : St) => ∃ n28 : Nat, l_M_led_28 x1 S32 K n28 0 0)) ∧ (r28 = 0 → K (-2) S)))))
def l_M_choices_5 (x0 : Int) (x1 : Int) (K : Int → Prop) : Nat → Int → Int → Prop
  | 0, _, _ => False
  | n + 1, x2, x4 => ((x1 < x4 → K x2) ∧ (¬ (x1 < x4) → InR (x0 - x1) ∧ (InR ((x0 - x1) + x4) ∧ (InL (x2 * ((x0 - x1) + x4)) ∧ (¬ x4 = 0 ∧ (InL (Int.tdiv (x2 * ((x0 - x1) + x4)) x4) ∧ ((∀ v9 : Int, v9 = Int.tdiv (x2 * ((x0 - x1) + x4)) x4 → InL v9 → InR (x4 + 1) ∧ (l_M_choices_5 x0 x1 K n v9 (x4 + 1))))))))))
def w_M_choices (x0 : Int) (x1 : Int) (K : Int → Prop) : Prop :=
  ∃ n5 : Nat, l_M_choices_5 x0 x1 K n5 1 1
def l_M_common_6 (K : Int → Prop) : Nat → Int → Int → Prop
  | 0, _, _ => False
  | n + 1, x4, x6 => ((x6 = 0 → K x4) ∧ (¬ (x6 = 0) → ¬ x6 = 0 ∧ (InL (Int.tmod x4 x6) ∧ ((∀ v4 : Int, v4 = Int.tmod x4 x6 → InL v4 → l_M_common_6 K n x6 v4)))))
def w_M_common (x0 : Int) (x2 : Int) (K : Int → Prop) : Prop :=
  ∃ n6 : Nat, l_M_common_6 K n6 x0 x2
def l_M_power_5 (x0 : Int) (x1 : Int) (K : Int → Prop) : Nat → Int → Int → Prop
  | 0, _, _ => False
  | n + 1, x2, x4 => ((x1 ≤ x4 → K x2) ∧ (¬ (x1 ≤ x4) → InL (x2 * x0) ∧ ((∀ v4 : Int, v4 = x2 * x0 → InL v4 → InR (x4 + 1) ∧ (l_M_power_5 x0 x1 K n v4 (x4 + 1))))))
def w_M_power (x0 : Int) (x1 : Int) (K : Int → Prop) : Prop :=
  ∃ n5 : Nat, l_M_power_5 x0 x1 K n5 1 0
def j_M_chance_91 (x1 : Int) (x4 : Int) (x5 : Int) (S : St) (K : Int → Prop) : Prop :=
  w_M_power 6 x1 (fun (r1 : Int) => InL r1 → ((¬ x4 = 0 → w_M_common x5 r1 (fun (r4 : Int) => InL r4 → ¬ r4 = 0 ∧ (InL (Int.tdiv r1 r4) ∧ (K (Int.tdiv r1 r4))))) ∧ (x4 = 0 → w_M_common x5 r1 (fun (r8 : Int) => InL r8 → ¬ r8 = 0 ∧ (InL (Int.tdiv x5 r8) ∧ (K (Int.tdiv x5 r8)))))))
def l_M_chance_49 (x1 : Int) (x3 : Int) (x4 : Int) (S : St) (K : Int → Prop) (X91 : Int → Prop) : Nat → Int → Int → Prop
  | 0, _, _ => False
  | n + 1, x5, x7 => ((x1 < x7 → X91 x5) ∧ (¬ (x1 < x7) → w_M_choices x1 x7 (fun (r13 : Int) => InL r13 → w_M_power x3 x7 (fun (r15 : Int) => InL r15 → InL (r13 * r15) ∧ (InR (6 - x3) ∧ (InR (x1 - x7) ∧ (w_M_power (6 - x3) (x1 - x7) (fun (r20 : Int) => InL r20 → InL ((r13 * r15) * r20) ∧ (InL (x5 + ((r13 * r15) * r20)) ∧ ((∀ v24 : Int, v24 = x5 + ((r13 * r15) * r20) → InL v24 → InR (x7 + 1) ∧ (l_M_chance_49 x1 x3 x4 S K X91 n v24 (x7 + 1)))))))))))))
def w_M_chance (x1 : Int) (x2 : Int) (x3 : Int) (x4 : Int) (S : St) (K : Int → Prop) : Prop :=
  w_M_isIn x1 0 20 (fun (r26 : Int) => (r26 = 0 ∨ r26 = 1) → ((r26 = 0 → K (-1)) ∧ (¬ (r26 = 0) → w_M_isIn x2 0 x1 (fun (r29 : Int) => (r29 = 0 ∨ r29 = 1) → ((r29 = 0 → K (-1)) ∧ (¬ (r29 = 0) → w_M_isIn x3 0 6 (fun (r32 : Int) => (r32 = 0 ∨ r32 = 1) → ((r32 = 0 → K (-1)) ∧ (¬ (r32 = 0) → w_M_isIn x4 0 1 (fun (r35 : Int) => (r35 = 0 ∨ r35 = 1) → ((¬ r35 = 0 → ∃ n49 : Nat, l_M_chance_49 x1 x3 x4 S K (fun (z5 : Int) => j_M_chance_91 x1 x4 z5 S K) n49 0 x2) ∧ (r35 = 0 → K (-1)))))))))))))
def j_M_milesOf_35 (x1 : Int) (x3 : Int) (y0 : Int) (y2 : Int) (y4 : Int) (S : St) (K : Int → Prop) (C : Int → Int → Prop) : Prop :=
  ((0 : Int) ≤ y4 ∧ y4 < 8) ∧ ((InR (aI S 15 y4) → w_M_miles y2 (aI S 15 y4) S (fun (r3 : Int) => InR r3 → InR (y0 + r3) ∧ ((∀ v6 : Int, v6 = y0 + r3 → InR v6 → InR (x3 + 1) ∧ (C v6 (x3 + 1)))))))
def l_M_milesOf_4 (x1 : Int) (S : St) (K : Int → Prop) : Nat → Int → Int → Prop
  | 0, _, _ => False
  | n + 1, x2, x3 => ((x1 ≤ x3 → K x2) ∧ (¬ (x1 ≤ x3) → ((0 : Int) ≤ x3 ∧ x3 < 8) ∧ ((InR (aI S 15 x3) → InR (x3 + 1) ∧ (((¬ (x3 + 1) = x1 → j_M_milesOf_35 x1 x3 x2 (aI S 15 x3) (x3 + 1) S K (l_M_milesOf_4 x1 S K n)) ∧ ((x3 + 1) = x1 → j_M_milesOf_35 x1 x3 x2 (aI S 15 x3) 0 S K (l_M_milesOf_4 x1 S K n))))))))
def w_M_milesOf (x1 : Int) (S : St) (K : Int → Prop) : Prop :=
  ∃ n4 : Nat, l_M_milesOf_4 x1 S K n4 0 0
def w_M_exchange (x1 : Int) (x2 : Int) (S : St) (K : St → Prop) : Prop :=
  ((0 : Int) ≤ x1 ∧ x1 < 8) ∧ ((InR (aI S 15 x1) → (∀ v3 : Int, v3 = aI S 15 x1 → InR v3 → ((0 : Int) ≤ x2 ∧ x2 < 8) ∧ ((InR (aI S 15 x2) → ((0 : Int) ≤ x1 ∧ x1 < 8) ∧ ((∀ S7 : St, S7 = aset S 15 x1 (aI S 15 x2) → ((0 : Int) ≤ x2 ∧ x2 < 8) ∧ ((∀ S9 : St, S9 = aset S7 15 x2 v3 → K S9)))))))))
def l_M_nextOrder_80 (K : Int → St → Prop) : Nat → Int → Int → St → Prop
  | 0, _, _, _ => False
  | n + 1, x4, x5, S => ((x5 ≤ x4 → K 1 S) ∧ (¬ (x5 ≤ x4) → w_M_exchange x4 x5 S (fun (S3 : St) => InR (x4 + 1) ∧ (InR (x5 + (-1)) ∧ (l_M_nextOrder_80 K n (x4 + 1) (x5 + (-1)) S3)))))
def j_M_nextOrder_64 (x1 : Int) (x2 : Int) (x3 : Int) (S : St) (K : Int → St → Prop) : Prop :=
  w_M_exchange x2 x3 S (fun (S7 : St) => InR (x2 + 1) ∧ ((∀ v9 : Int, v9 = x2 + 1 → InR v9 → InR (x1 - 1) ∧ ((∀ v11 : Int, v11 = x1 - 1 → InR v11 → ∃ n80 : Nat, l_M_nextOrder_80 K n80 v9 v11 S7)))))
def l_M_nextOrder_43 (x1 : Int) (x2 : Int) (S : St) (K : Int → St → Prop) (X64 : Int → Prop) : Nat → Int → Prop
  | 0, _ => False
  | n + 1, x3 => ((0 : Int) ≤ x3 ∧ x3 < 8) ∧ ((InR (aI S 15 x3) → ((0 : Int) ≤ x2 ∧ x2 < 8) ∧ ((InR (aI S 15 x2) → (((aI S 15 x2) ≤ (aI S 15 x3) → X64 x3) ∧ (¬ ((aI S 15 x2) ≤ (aI S 15 x3)) → InR (x3 + (-1)) ∧ (l_M_nextOrder_43 x1 x2 S K X64 n (x3 + (-1)))))))))
def j_M_nextOrder_32 (x1 : Int) (x2 : Int) (S : St) (K : Int → St → Prop) : Prop :=
  ((1 ≤ x2 → InR (x1 - 1) ∧ ((∀ v20 : Int, v20 = x1 - 1 → InR v20 → ∃ n43 : Nat, l_M_nextOrder_43 x1 x2 S K (fun (z3 : Int) => j_M_nextOrder_64 x1 x2 z3 S K) n43 v20))) ∧ (¬ (1 ≤ x2) → K 0 S))
def l_M_nextOrder_4 (x1 : Int) (S : St) (K : Int → St → Prop) (X32 : Int → Prop) : Nat → Int → Prop
  | 0, _ => False
  | n + 1, x2 => ((x2 < 1 → X32 x2) ∧ (¬ (x2 < 1) → ((0 : Int) ≤ x2 ∧ x2 < 8) ∧ ((InR (aI S 15 x2) → InR (x2 + 1) ∧ (((0 : Int) ≤ x2 + 1 ∧ x2 + 1 < 8) ∧ ((InR (aI S 15 (x2 + 1)) → (((aI S 15 x2) ≤ (aI S 15 (x2 + 1)) → X32 x2) ∧ (¬ ((aI S 15 x2) ≤ (aI S 15 (x2 + 1))) → InR (x2 + (-1)) ∧ (l_M_nextOrder_4 x1 S K X32 n (x2 + (-1))))))))))))
def w_M_nextOrder (x1 : Int) (S : St) (K : Int → St → Prop) : Prop :=
  InR (x1 - 2) ∧ ((∀ v30 : Int, v30 = x1 - 2 → InR v30 → ∃ n4 : Nat, l_M_nextOrder_4 x1 S K (fun (z2 : Int) => j_M_nextOrder_32 x1 z2 S K) n4 v30))
def j_M_round_160 (x2 : Int) (x4 : Int) (S : St) (K : Int → St → Prop) : Prop :=
  ((¬ x2 = (-1) → ((0 : Int) ≤ x2 ∧ x2 < 8) ∧ ((InR (aI S 16 x2) → K (aI S 16 x2) S))) ∧ (x2 = (-1) → K x4 S))
def j_M_round_150 (x2 : Int) (x3 : Int) (x4 : Int) (S : St) (K : Int → St → Prop) (X160 : Int → St → Prop) (C : Int → Int → St → Prop) : Prop :=
  w_M_nextOrder x3 S (fun (r4 : Int) (S5 : St) => (r4 = 0 ∨ r4 = 1) → C x4 r4 S5)
def l_M_round_124 (x2 : Int) (x3 : Int) (x4 : Int) (K : Int → St → Prop) (X150 : St → Prop) : Nat → Int → St → Prop
  | 0, _, _ => False
  | n + 1, x7, S => ((x3 ≤ x7 → X150 S) ∧ (¬ (x3 ≤ x7) → ((0 : Int) ≤ x7 ∧ x7 < 8) ∧ ((InR (aI S 15 x7) → ((0 : Int) ≤ x7 ∧ x7 < 8) ∧ ((∀ S10 : St, S10 = aset S 16 x7 (aI S 15 x7) → InR (x7 + 1) ∧ (l_M_round_124 x2 x3 x4 K X150 n (x7 + 1) S10)))))))
def j_M_round_117 (x2 : Int) (x3 : Int) (x6 : Int) (S : St) (K : Int → St → Prop) (X160 : Int → St → Prop) (C : Int → Int → St → Prop) : Prop :=
  ∃ n124 : Nat, l_M_round_124 x2 x3 x6 K (fun (zS : St) => j_M_round_150 x2 x3 x6 zS K X160 C) n124 0 S
def l_M_round_93 (x2 : Int) (x3 : Int) (K : Int → St → Prop) (X160 : Int → St → Prop) : Nat → Int → Int → St → Prop
  | 0, _, _, _ => False
  | n + 1, x4, x5, S => ((x5 = 0 → X160 x4 S) ∧ (¬ (x5 = 0) → w_M_milesOf x3 S (fun (r13 : Int) => InR r13 → ((x4 < 0 → j_M_round_117 x2 x3 r13 S K X160 (l_M_round_93 x2 x3 K X160 n)) ∧ (¬ (x4 < 0) → ((x4 ≤ r13 → j_M_round_150 x2 x3 x4 S K X160 (l_M_round_93 x2 x3 K X160 n)) ∧ (¬ (x4 ≤ r13) → j_M_round_117 x2 x3 r13 S K X160 (l_M_round_93 x2 x3 K X160 n))))))))
def j_M_round_87 (x2 : Int) (x3 : Int) (S : St) (K : Int → St → Prop) : Prop :=
  ∃ n93 : Nat, l_M_round_93 x2 x3 K (fun (z4 : Int) (zS : St) => j_M_round_160 x2 z4 zS K) n93 (-1) 1 S
def j_M_round_81 (x1 : Int) (x2 : Int) (x3 : Int) (x4 : Int) (S : St) (K : Int → St → Prop) (X87 : Int → St → Prop) (C : Int → Int → St → Prop) : Prop :=
  InR (x4 + 1) ∧ (C x3 (x4 + 1) S)
def l_M_round_47 (x1 : Int) (x2 : Int) (K : Int → St → Prop) (X87 : Int → St → Prop) : Nat → Int → Int → St → Prop
  | 0, _, _, _ => False
  | n + 1, x3, x4, S => (InR (aI S 0 0) → (((aI S 0 0) ≤ x4 → X87 x3 S) ∧ (¬ ((aI S 0 0) ≤ x4) → (0 ≤ x4 ∧ x4 ≤ 31) ∧ (((¬ ((x1 / 2 ^ (Int.toNat x4)) % 2) = 0 → ((0 : Int) ≤ x3 ∧ x3 < 8) ∧ ((∀ S25 : St, S25 = aset S 15 x3 x4 → InR (x3 + 1) ∧ (j_M_round_81 x1 x2 (x3 + 1) x4 S25 K X87 (l_M_round_47 x1 x2 K X87 n))))) ∧ (((x1 / 2 ^ (Int.toNat x4)) % 2) = 0 → j_M_round_81 x1 x2 x3 x4 S K X87 (l_M_round_47 x1 x2 K X87 n)))))))
def w_M_round (x1 : Int) (x2 : Int) (S : St) (K : Int → St → Prop) : Prop :=
  (InR (aI S 0 0) → (0 ≤ aI S 0 0 ∧ aI S 0 0 ≤ 31) ∧ (InR (1 * 2 ^ (Int.toNat (aI S 0 0))) ∧ (InR ((1 * 2 ^ (Int.toNat (aI S 0 0))) - 1) ∧ (w_M_isIn x1 1 ((1 * 2 ^ (Int.toNat (aI S 0 0))) - 1) (fun (r31 : Int) => (r31 = 0 ∨ r31 = 1) → ((r31 = 0 → K (-1) S) ∧ (¬ (r31 = 0) → w_M_bits x1 (fun (r34 : Int) => InR r34 → ((8 < r34 → K (-1) S) ∧ (¬ (8 < r34) → ((x2 < (-1) → K (-1) S) ∧ (¬ (x2 < (-1)) → w_M_bits x1 (fun (r38 : Int) => InR r38 → ((x2 < r38 → ∃ n47 : Nat, l_M_round_47 x1 x2 K (fun (z3 : Int) (zS : St) => j_M_round_87 x2 z3 zS K) n47 0 0 S) ∧ (¬ (x2 < r38) → K (-1) S)))))))))))))))
def w_M_draw (x1 : Int) (S : St) (K : Int → St → Prop) : Prop :=
  (InR (fI S 35) → ¬ x1 = 0 ∧ (InR (Int.tmod (fI S 35) x1) ∧ ((∀ v4 : Int, v4 = Int.tmod (fI S 35) x1 → InR v4 → InL ((fI S 35) * 173) ∧ (InL (((fI S 35) * 173) + 41) ∧ (InL (Int.tmod (((fI S 35) * 173) + 41) 30103) ∧ (InR (Int.tmod (((fI S 35) * 173) + 41) 30103) ∧ ((∀ S11 : St, S11 = fset S 35 (Int.tmod (((fI S 35) * 173) + 41) 30103) → K v4 S11)))))))))
def j_M_isHolyTown_37 (x1 : Int) (x2 : Int) (S : St) (K : Int → St → Prop) (C : Int → St → Prop) : Prop :=
  InR (x2 + 1) ∧ (C (x2 + 1) S)
def l_M_isHolyTown_2 (x1 : Int) (K : Int → St → Prop) : Nat → Int → St → Prop
  | 0, _, _ => False
  | n + 1, x2, S => (InR (aI S 0 1) → (((aI S 0 1) ≤ x2 → K 0 S) ∧ (¬ ((aI S 0 1) ≤ x2) → w_M_boneAt x2 (fun (r4 : Int) => InR r4 → InR (r4 + 3) ∧ (((0 : Int) ≤ r4 + 3 ∧ r4 + 3 < 1814) ∧ ((InR (aI S 0 (r4 + 3)) → ((¬ (aI S 0 (r4 + 3)) = x1 → j_M_isHolyTown_37 x1 x2 S K (l_M_isHolyTown_2 x1 K n)) ∧ ((aI S 0 (r4 + 3)) = x1 → w_M_isHoly x2 S (fun (r10 : Int) (S11 : St) => (r10 = 0 ∨ r10 = 1) → ((r10 = 0 → j_M_isHolyTown_37 x1 x2 S11 K (l_M_isHolyTown_2 x1 K n)) ∧ (¬ (r10 = 0) → K 1 S11))))))))))))
def w_M_isHolyTown (x1 : Int) (S : St) (K : Int → St → Prop) : Prop :=
  ∃ n2 : Nat, l_M_isHolyTown_2 x1 K n2 0 S
def j_M_pilgrims_106 (x2 : Int) (x3 : Int) (x4 : Int) (x5 : Int) (x6 : Int) (S : St) (K : Int → St → Prop) (C : Int → Int → St → Prop) : Prop :=
  InR (x6 + 1) ∧ (C x5 (x6 + 1) S)
def l_M_pilgrims_59 (x2 : Int) (x3 : Int) (x4 : Int) (K : Int → St → Prop) : Nat → Int → Int → St → Prop
  | 0, _, _, _ => False
  | n + 1, x5, x6, S => ((x2 ≤ x6 → K x5 S) ∧ (¬ (x2 ≤ x6) → (InR (aI S 0 0) → w_M_draw (aI S 0 0) S (fun (r4 : Int) (S5 : St) => InR r4 → w_M_isHolyTown r4 S5 (fun (r6 : Int) (S7 : St) => (r6 = 0 ∨ r6 = 1) → ((r6 = 0 → j_M_pilgrims_106 x2 x3 x4 x5 x6 S7 K (l_M_pilgrims_59 x2 x3 x4 K n)) ∧ (¬ (r6 = 0) → w_M_draw 6 S7 (fun (r9 : Int) (S10 : St) => InR r9 → ((x3 ≤ r9 → j_M_pilgrims_106 x2 x3 x4 x5 x6 S10 K (l_M_pilgrims_59 x2 x3 x4 K n)) ∧ (¬ (x3 ≤ r9) → ((¬ r4 = x4 → j_M_pilgrims_106 x2 x3 x4 x5 x6 S10 K (l_M_pilgrims_59 x2 x3 x4 K n)) ∧ (r4 = x4 → InR (x5 + 1) ∧ (j_M_pilgrims_106 x2 x3 x4 (x5 + 1) x6 S10 K (l_M_pilgrims_59 x2 x3 x4 K n))))))))))))))
def w_M_pilgrims (x1 : Int) (x2 : Int) (x3 : Int) (x4 : Int) (S : St) (K : Int → St → Prop) : Prop :=
  w_M_isIn x1 0 9999 (fun (r14 : Int) => (r14 = 0 ∨ r14 = 1) → ((r14 = 0 → K (-1) S) ∧ (¬ (r14 = 0) → w_M_isIn x2 1 99 (fun (r17 : Int) => (r17 = 0 ∨ r17 = 1) → ((r17 = 0 → K (-1) S) ∧ (¬ (r17 = 0) → w_M_isIn x3 0 6 (fun (r20 : Int) => (r20 = 0 ∨ r20 = 1) → ((r20 = 0 → K (-1) S) ∧ (¬ (r20 = 0) → w_M_isTown x4 S (fun (r23 : Int) => (r23 = 0 ∨ r23 = 1) → ((¬ r23 = 0 → InR (x1 * 7) ∧ (InR ((x1 * 7) + 15) ∧ ((∀ S28 : St, S28 = fset S 35 ((x1 * 7) + 15) → ∃ n59 : Nat, l_M_pilgrims_59 x2 x3 x4 K n59 0 0 S28)))) ∧ (r23 = 0 → K (-1) S))))))))))))
def w_M_image (S : St) (K : Int → St → Prop) : Prop :=
  w_M_copy_0_1 S (fun (S2 : St) => (InR (aI S2 0 2) → K (aI S2 0 2) S2))
def w_M_back (S : St) (K : Int → St → Prop) : Prop :=
  w_M_copy_1_0 S (fun (S2 : St) => (InR (aI S2 0 2) → K (aI S2 0 2) S2))
def j_M_bonesAt_35 (x1 : Int) (x3 : Int) (y0 : Int) (y1 : Int) (S : St) (K : Int → Prop) (C : Int → Int → Prop) : Prop :=
  InR (y0 + y1) ∧ ((∀ v2 : Int, v2 = y0 + y1 → InR v2 → InR (x3 + 1) ∧ (C v2 (x3 + 1))))
def l_M_bonesAt_4 (x1 : Int) (S : St) (K : Int → Prop) : Nat → Int → Int → Prop
  | 0, _, _ => False
  | n + 1, x2, x3 => (InR (aI S 0 1) → (((aI S 0 1) ≤ x3 → K x2) ∧ (¬ ((aI S 0 1) ≤ x3) → w_M_boneAt x3 (fun (r6 : Int) => InR r6 → InR (r6 + 3) ∧ (((0 : Int) ≤ r6 + 3 ∧ r6 + 3 < 1814) ∧ ((InR (aI S 0 (r6 + 3)) → ((¬ (aI S 0 (r6 + 3)) = x1 → j_M_bonesAt_35 x1 x3 x2 0 S K (l_M_bonesAt_4 x1 S K n)) ∧ ((aI S 0 (r6 + 3)) = x1 → j_M_bonesAt_35 x1 x3 x2 1 S K (l_M_bonesAt_4 x1 S K n))))))))))
def w_M_bonesAt (x1 : Int) (S : St) (K : Int → Prop) : Prop :=
  ∃ n4 : Nat, l_M_bonesAt_4 x1 S K n4 0 0
def w_M_about (x1 : Int) (S : St) (K : Int → Prop) : Prop :=
  (InR (aI S 0 0) → InR (9 + (aI S 0 0)) ∧ (w_M_isIn x1 10 (9 + (aI S 0 0)) (fun (r3 : Int) => (r3 = 0 ∨ r3 = 1) → ((r3 = 0 → InR (19 + (aI S 0 0)) ∧ (w_M_isIn x1 20 (19 + (aI S 0 0)) (fun (r8 : Int) => (r8 = 0 ∨ r8 = 1) → ((r8 = 0 → ((x1 = 0 → ((0 : Int) ≤ x1 ∧ x1 < 1814) ∧ ((InR (aI S 0 x1) → K (aI S 0 x1)))) ∧ (x1 = 1 → ((0 : Int) ≤ x1 ∧ x1 < 1814) ∧ ((InR (aI S 0 x1) → K (aI S 0 x1)))) ∧ (x1 = 2 → ((0 : Int) ≤ x1 ∧ x1 < 1814) ∧ ((InR (aI S 0 x1) → K (aI S 0 x1)))) ∧ (x1 = 3 → ((0 : Int) ≤ x1 ∧ x1 < 1814) ∧ ((InR (aI S 0 x1) → K (aI S 0 x1)))) ∧ (x1 = 4 → ((0 : Int) ≤ x1 ∧ x1 < 1814) ∧ ((InR (aI S 0 x1) → K (aI S 0 x1)))) ∧ (x1 = 5 → ((0 : Int) ≤ x1 ∧ x1 < 1814) ∧ ((InR (aI S 0 x1) → K (aI S 0 x1)))) ∧ (x1 = 6 → ((0 : Int) ≤ x1 ∧ x1 < 1814) ∧ ((InR (aI S 0 x1) → K (aI S 0 x1)))) ∧ (x1 = 7 → ((0 : Int) ≤ x1 ∧ x1 < 1814) ∧ ((InR (aI S 0 x1) → K (aI S 0 x1)))) ∧ (x1 = 8 → ((0 : Int) ≤ x1 ∧ x1 < 1814) ∧ ((InR (aI S 0 x1) → K (aI S 0 x1)))) ∧ (x1 = 9 → (InR (fI S 4) → K (fI S 4))) ∧ (¬ (0 ≤ x1 ∧ x1 ≤ 9) → K (-2)))) ∧ (¬ (r8 = 0) → InR (x1 - 20) ∧ (w_M_bonesAt (x1 - 20) S (fun (r32 : Int) => InR r32 → K r32))))))) ∧ (¬ (r3 = 0) → InR (x1 - 10) ∧ (w_M_proofsOf (x1 - 10) S (fun (r35 : Int) => InR r35 → K r35)))))))
