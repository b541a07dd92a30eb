def wX_ft129 : Nat → Nat ⊕ Nat × Nat := fun k => match k with
  | 0 => .inl 130
  | 1 => .inl 131
  | 2 => .inl 8
  | 3 => .inr (0, 3)
  | 4 => .inr (0, 4)
  | 5 => .inr (0, 5)
  | 6 => .inl 9
  | 7 => .inl 10
  | 8 => .inl 11
  | 9 => .inl 136
  | 10 => .inl 137
  | 11 => .inr (0, 11)
  | 12 => .inr (0, 12)
  | 13 => .inl 138
  | 14 => .inl 139
  | 15 => .inl 12
  | 16 => .inl 13
  | 17 => .inl 14
  | 18 => .inr (0, 18)
  | 19 => .inr (0, 19)
  | 20 => .inr (0, 20)
  | _ => .inl 0
def wX_ft130 : Nat → Nat ⊕ Nat × Nat := fun k => match k with
  | 0 => .inl 0
  | 1 => .inl 1
  | 2 => .inl 2
  | 3 => .inl 3
  | 4 => .inl 132
  | 5 => .inl 134
  | 6 => .inl 140
  | _ => .inl 0
def wX_ft131 : Nat → Nat ⊕ Nat × Nat := fun k => match k with
  | 0 => .inl 4
  | 1 => .inl 5
  | 2 => .inl 6
  | 3 => .inl 7
  | 4 => .inl 133
  | 5 => .inl 135
  | 6 => .inl 141
  | _ => .inl 0
def wX_cd : Nat → Cd := fun k => match k with
  | 0 => .inl (0, 8)
  | 1 => .inl (0, 10)
  | 2 => .inl (0, 10)
  | 3 => .inl (0, 91)
  | 4 => .inl (0, 8)
  | 5 => .inl (0, 10)
  | 6 => .inl (0, 10)
  | 7 => .inl (0, 91)
  | 8 => .inl (3, 300)
  | 9 => .inl (0, 8)
  | 10 => .inl (0, 12)
  | 11 => .inl (0, 12)
  | 12 => .inl (0, 8)
  | 13 => .inl (0, 8)
  | 14 => .inl (0, 8)
  | 15 => .inl (0, 91)
  | 16 => .inl (0, 91)
  | 17 => .inl (0, 91)
  | 18 => .inl (0, 91)
  | 19 => .inl (0, 91)
  | 20 => .inl (0, 91)
  | 21 => .inl (0, 91)
  | 22 => .inl (0, 91)
  | 23 => .inl (0, 91)
  | 24 => .inl (0, 91)
  | 25 => .inl (0, 91)
  | 26 => .inl (0, 91)
  | 27 => .inl (0, 91)
  | 28 => .inl (0, 91)
  | 29 => .inl (0, 91)
  | 30 => .inl (0, 91)
  | 31 => .inl (0, 91)
  | 32 => .inl (0, 91)
  | 33 => .inl (0, 91)
  | 34 => .inl (0, 91)
  | 35 => .inl (0, 91)
  | 36 => .inl (0, 91)
  | 37 => .inl (0, 91)
  | 38 => .inl (0, 91)
  | 39 => .inl (0, 91)
  | 40 => .inl (0, 91)
  | 41 => .inl (0, 91)
  | 42 => .inl (0, 91)
  | 43 => .inl (0, 91)
  | 44 => .inl (0, 91)
  | 45 => .inl (0, 91)
  | 46 => .inl (0, 91)
  | 47 => .inl (0, 91)
  | 48 => .inl (0, 91)
  | 49 => .inl (0, 91)
  | 50 => .inl (0, 91)
  | 51 => .inl (0, 91)
  | 52 => .inl (0, 91)
  | 53 => .inl (0, 91)
  | 54 => .inl (0, 91)
  | 55 => .inl (0, 4)
  | 56 => .inl (0, 4)
  | 57 => .inl (0, 4)
  | 58 => .inl (0, 4)
  | 59 => .inl (0, 4)
  | 60 => .inl (0, 4)
  | 61 => .inl (0, 4)
  | 62 => .inl (0, 4)
  | 63 => .inl (0, 4)
  | 64 => .inl (0, 4)
  | 65 => .inl (0, 4)
  | 66 => .inl (0, 4)
  | 67 => .inl (0, 4)
  | 68 => .inl (0, 4)
  | 69 => .inl (0, 4)
  | 70 => .inl (0, 4)
  | 71 => .inl (0, 4)
  | 72 => .inl (0, 4)
  | 73 => .inl (0, 4)
  | 74 => .inl (0, 4)
  | 75 => .inl (0, 4)
  | 76 => .inl (0, 4)
  | 77 => .inl (0, 4)
  | 78 => .inl (0, 4)
  | 79 => .inl (0, 20)
  | 80 => .inl (0, 20)
  | 81 => .inl (0, 20)
  | 82 => .inl (0, 20)
  | 83 => .inl (0, 20)
  | 84 => .inl (0, 20)
  | 85 => .inl (0, 20)
  | 86 => .inl (0, 20)
  | 87 => .inl (0, 20)
  | 88 => .inl (0, 20)
  | 89 => .inl (0, 20)
  | 90 => .inl (0, 20)
  | 91 => .inl (2, 12)
  | 92 => .inl (2, 12)
  | 93 => .inl (2, 12)
  | 94 => .inl (2, 12)
  | 95 => .inl (2, 12)
  | 96 => .inl (2, 12)
  | 97 => .inl (2, 12)
  | 98 => .inl (2, 12)
  | 99 => .inl (2, 12)
  | 100 => .inl (2, 12)
  | 101 => .inl (2, 12)
  | 102 => .inl (2, 12)
  | 103 => .inl (0, 4096)
  | 104 => .inl (0, 4096)
  | 105 => .inl (0, 4096)
  | 106 => .inl (0, 4096)
  | 107 => .inl (0, 4096)
  | 108 => .inl (0, 4096)
  | 109 => .inl (0, 4096)
  | 110 => .inl (0, 4096)
  | 111 => .inl (0, 4096)
  | 112 => .inl (0, 4096)
  | 113 => .inl (0, 4096)
  | 114 => .inl (0, 4096)
  | 115 => .inl (0, 4096)
  | 116 => .inl (1, 4096)
  | 117 => .inl (1, 4096)
  | 118 => .inl (1, 4096)
  | 119 => .inl (1, 4096)
  | 120 => .inl (1, 4096)
  | 121 => .inl (1, 4096)
  | 122 => .inl (1, 4096)
  | 123 => .inl (1, 4096)
  | 124 => .inl (1, 4096)
  | 125 => .inl (1, 4096)
  | 126 => .inl (1, 4096)
  | 127 => .inl (1, 4096)
  | 128 => .inl (1, 4096)
  | 129 => .inr (.inl (0, 21, wX_ft129))
  | 130 => .inr (.inl (1, 7, wX_ft130))
  | 131 => .inr (.inl (1, 7, wX_ft131))
  | 132 => .inr (.inr (.inl (4, 20, 15)))
  | 133 => .inr (.inr (.inl (4, 20, 35)))
  | 134 => .inr (.inr (.inl (4, 12, 55)))
  | 135 => .inr (.inr (.inl (4, 12, 67)))
  | 136 => .inr (.inr (.inl (4, 12, 79)))
  | 137 => .inr (.inr (.inl (5, 12, 91)))
  | 138 => .inr (.inr (.inl (4, 13, 103)))
  | 139 => .inr (.inr (.inl (6, 13, 116)))
  | 140 => .inr (.inr (.inr (7, 4)))
  | 141 => .inr (.inr (.inr (7, 4)))
  | _ => .inl (0, 0)
def wX : Wd := (142, wX_cd, fun _ => 0)
theorem wX_0 : wX.2.1 0 = .inl (0, 8) := rfl
theorem wX_1 : wX.2.1 1 = .inl (0, 10) := rfl
theorem wX_2 : wX.2.1 2 = .inl (0, 10) := rfl
theorem wX_3 : wX.2.1 3 = .inl (0, 91) := rfl
theorem wX_4 : wX.2.1 4 = .inl (0, 8) := rfl
theorem wX_5 : wX.2.1 5 = .inl (0, 10) := rfl
theorem wX_6 : wX.2.1 6 = .inl (0, 10) := rfl
theorem wX_7 : wX.2.1 7 = .inl (0, 91) := rfl
theorem wX_8 : wX.2.1 8 = .inl (3, 300) := rfl
theorem wX_9 : wX.2.1 9 = .inl (0, 8) := rfl
theorem wX_10 : wX.2.1 10 = .inl (0, 12) := rfl
theorem wX_11 : wX.2.1 11 = .inl (0, 12) := rfl
theorem wX_12 : wX.2.1 12 = .inl (0, 8) := rfl
theorem wX_13 : wX.2.1 13 = .inl (0, 8) := rfl
theorem wX_14 : wX.2.1 14 = .inl (0, 8) := rfl
theorem wX_129 : wX.2.1 129 = .inr (.inl (0, 21, wX_ft129)) := rfl
theorem wX_130 : wX.2.1 130 = .inr (.inl (1, 7, wX_ft130)) := rfl
theorem wX_131 : wX.2.1 131 = .inr (.inl (1, 7, wX_ft131)) := rfl
theorem wX_132 : wX.2.1 132 = .inr (.inr (.inl (4, 20, 15))) := rfl
theorem wX_133 : wX.2.1 133 = .inr (.inr (.inl (4, 20, 35))) := rfl
theorem wX_134 : wX.2.1 134 = .inr (.inr (.inl (4, 12, 55))) := rfl
theorem wX_135 : wX.2.1 135 = .inr (.inr (.inl (4, 12, 67))) := rfl
theorem wX_136 : wX.2.1 136 = .inr (.inr (.inl (4, 12, 79))) := rfl
theorem wX_137 : wX.2.1 137 = .inr (.inr (.inl (5, 12, 91))) := rfl
theorem wX_138 : wX.2.1 138 = .inr (.inr (.inl (4, 13, 103))) := rfl
theorem wX_139 : wX.2.1 139 = .inr (.inr (.inl (6, 13, 116))) := rfl
theorem wX_140 : wX.2.1 140 = .inr (.inr (.inr (7, 4))) := rfl
theorem wX_141 : wX.2.1 141 = .inr (.inr (.inr (7, 4))) := rfl
/-- whose field a number is -/
def wX_own : Nat → Nat × Nat := fun k => match k with
  | 3 => (129, 3)
  | 4 => (129, 4)
  | 5 => (129, 5)
  | 11 => (129, 11)
  | 12 => (129, 12)
  | 18 => (129, 18)
  | 19 => (129, 19)
  | 20 => (129, 20)
  | _ => (142, 0)
theorem wX_fts129 : (List.range 21).all (fun i => match wX_ft129 i with | .inl _ => true | .inr y => (wX_own y.2).1 == 129 && (wX_own y.2).2 == i && y.1 == wX.2.2 y.2) = true := by decide +kernel
theorem wX_fts130 : (List.range 7).all (fun i => match wX_ft130 i with | .inl _ => true | .inr y => (wX_own y.2).1 == 130 && (wX_own y.2).2 == i && y.1 == wX.2.2 y.2) = true := by decide +kernel
theorem wX_fts131 : (List.range 7).all (fun i => match wX_ft131 i with | .inl _ => true | .inr y => (wX_own y.2).1 == 131 && (wX_own y.2).2 == i && y.1 == wX.2.2 y.2) = true := by decide +kernel
theorem wX_obj {k : Nat} {q : Nat × Nat × (Nat → Nat ⊕ Nat × Nat)} (h : wX.2.1 k = .inr (.inl q)) : (k = 129 ∧ q = (0, 21, wX_ft129)) ∨ (k = 130 ∧ q = (1, 7, wX_ft130)) ∨ (k = 131 ∧ q = (1, 7, wX_ft131)) := by
  have h : wX_cd k = .inr (.inl q) := h
  unfold wX_cd at h
  split at h <;> first | (cases h; exact Or.inl ⟨rfl, rfl⟩) | (cases h; exact Or.inr (Or.inl ⟨rfl, rfl⟩)) | (cases h; exact Or.inr (Or.inr (⟨rfl, rfl⟩))) | cases h
theorem wX_fld {k : Nat} {q : Nat × Nat × (Nat → Nat ⊕ Nat × Nat)} (h : wX.2.1 k = .inr (.inl q)) {i : Nat} (hi : i < q.2.1) {y : Nat × Nat} (hy : q.2.2 i = .inr y) : wX_own y.2 = (k, i) ∧ y.1 = wX.2.2 y.2 := by
  rcases wX_obj h with ⟨rfl, rfl⟩ | ⟨rfl, rfl⟩ | ⟨rfl, rfl⟩
  · have h2 := List.all_eq_true.mp wX_fts129 i (List.mem_range.mpr hi)
    have hy : wX_ft129 i = .inr y := hy
    rw [hy] at h2
    simp at h2
    exact ⟨Prod.ext h2.1.1 h2.1.2, h2.2⟩
  · have h2 := List.all_eq_true.mp wX_fts130 i (List.mem_range.mpr hi)
    have hy : wX_ft130 i = .inr y := hy
    rw [hy] at h2
    simp at h2
    exact ⟨Prod.ext h2.1.1 h2.1.2, h2.2⟩
  · have h2 := List.all_eq_true.mp wX_fts131 i (List.mem_range.mpr hi)
    have hy : wX_ft131 i = .inr y := hy
    rw [hy] at h2
    simp at h2
    exact ⟨Prod.ext h2.1.1 h2.1.2, h2.2⟩
theorem wX_U : wU wX := by
  intro k k' q q' hk hk' i i' hi hi' y y' hy hy' hyy
  obtain ⟨h1, h2⟩ := wX_fld hk hi hy
  obtain ⟨h3, h4⟩ := wX_fld hk' hi' hy'
  rw [hyy, h3] at h1
  exact ⟨(congrArg Prod.fst h1).symm, (congrArg Prod.snd h1).symm, h2⟩
theorem wX_q103 : wX.2.1 103 = .inl (0, 4096) := rfl
theorem wX_q116 : wX.2.1 116 = .inl (1, 4096) := rfl
theorem wX_rw132 {i : Int} (h : 0 ≤ i ∧ i < 20) : wX.2.1 (15 + Int.toNat i) = .inl (0, 91) := by
  have h1 : ∀ k, k < 20 → wX_cd (15 + k) = .inl (0, 91) := by
    intro k hk
    have hc : k = 0 ∨ k = 1 ∨ k = 2 ∨ k = 3 ∨ k = 4 ∨ k = 5 ∨ k = 6 ∨ k = 7 ∨ k = 8 ∨ k = 9 ∨ k = 10 ∨ k = 11 ∨ k = 12 ∨ k = 13 ∨ k = 14 ∨ k = 15 ∨ k = 16 ∨ k = 17 ∨ k = 18 ∨ k = 19 := by omega
    rcases hc with rfl | rfl | rfl | rfl | rfl | rfl | rfl | rfl | rfl | rfl | rfl | rfl | rfl | rfl | rfl | rfl | rfl | rfl | rfl | rfl <;> rfl
  exact h1 _ (by omega)
theorem wX_rk132 {i : Int} (h : 0 ≤ i ∧ i < 20) : 15 + Int.toNat i < wX.1 := by
  show _ < 142
  omega
theorem wX_rw133 {i : Int} (h : 0 ≤ i ∧ i < 20) : wX.2.1 (35 + Int.toNat i) = .inl (0, 91) := by
  have h1 : ∀ k, k < 20 → wX_cd (35 + k) = .inl (0, 91) := by
    intro k hk
    have hc : k = 0 ∨ k = 1 ∨ k = 2 ∨ k = 3 ∨ k = 4 ∨ k = 5 ∨ k = 6 ∨ k = 7 ∨ k = 8 ∨ k = 9 ∨ k = 10 ∨ k = 11 ∨ k = 12 ∨ k = 13 ∨ k = 14 ∨ k = 15 ∨ k = 16 ∨ k = 17 ∨ k = 18 ∨ k = 19 := by omega
    rcases hc with rfl | rfl | rfl | rfl | rfl | rfl | rfl | rfl | rfl | rfl | rfl | rfl | rfl | rfl | rfl | rfl | rfl | rfl | rfl | rfl <;> rfl
  exact h1 _ (by omega)
theorem wX_rk133 {i : Int} (h : 0 ≤ i ∧ i < 20) : 35 + Int.toNat i < wX.1 := by
  show _ < 142
  omega
theorem wX_rw134 {i : Int} (h : 0 ≤ i ∧ i < 12) : wX.2.1 (55 + Int.toNat i) = .inl (0, 4) := by
  have h1 : ∀ k, k < 12 → wX_cd (55 + k) = .inl (0, 4) := by
    intro k hk
    have hc : k = 0 ∨ k = 1 ∨ k = 2 ∨ k = 3 ∨ k = 4 ∨ k = 5 ∨ k = 6 ∨ k = 7 ∨ k = 8 ∨ k = 9 ∨ k = 10 ∨ k = 11 := by omega
    rcases hc with rfl | rfl | rfl | rfl | rfl | rfl | rfl | rfl | rfl | rfl | rfl | rfl <;> rfl
  exact h1 _ (by omega)
theorem wX_rk134 {i : Int} (h : 0 ≤ i ∧ i < 12) : 55 + Int.toNat i < wX.1 := by
  show _ < 142
  omega
theorem wX_rw135 {i : Int} (h : 0 ≤ i ∧ i < 12) : wX.2.1 (67 + Int.toNat i) = .inl (0, 4) := by
  have h1 : ∀ k, k < 12 → wX_cd (67 + k) = .inl (0, 4) := by
    intro k hk
    have hc : k = 0 ∨ k = 1 ∨ k = 2 ∨ k = 3 ∨ k = 4 ∨ k = 5 ∨ k = 6 ∨ k = 7 ∨ k = 8 ∨ k = 9 ∨ k = 10 ∨ k = 11 := by omega
    rcases hc with rfl | rfl | rfl | rfl | rfl | rfl | rfl | rfl | rfl | rfl | rfl | rfl <;> rfl
  exact h1 _ (by omega)
theorem wX_rk135 {i : Int} (h : 0 ≤ i ∧ i < 12) : 67 + Int.toNat i < wX.1 := by
  show _ < 142
  omega
theorem wX_rw136 {i : Int} (h : 0 ≤ i ∧ i < 12) : wX.2.1 (79 + Int.toNat i) = .inl (0, 20) := by
  have h1 : ∀ k, k < 12 → wX_cd (79 + k) = .inl (0, 20) := by
    intro k hk
    have hc : k = 0 ∨ k = 1 ∨ k = 2 ∨ k = 3 ∨ k = 4 ∨ k = 5 ∨ k = 6 ∨ k = 7 ∨ k = 8 ∨ k = 9 ∨ k = 10 ∨ k = 11 := by omega
    rcases hc with rfl | rfl | rfl | rfl | rfl | rfl | rfl | rfl | rfl | rfl | rfl | rfl <;> rfl
  exact h1 _ (by omega)
theorem wX_rk136 {i : Int} (h : 0 ≤ i ∧ i < 12) : 79 + Int.toNat i < wX.1 := by
  show _ < 142
  omega
theorem wX_rw137 {i : Int} (h : 0 ≤ i ∧ i < 12) : wX.2.1 (91 + Int.toNat i) = .inl (2, 12) := by
  have h1 : ∀ k, k < 12 → wX_cd (91 + k) = .inl (2, 12) := by
    intro k hk
    have hc : k = 0 ∨ k = 1 ∨ k = 2 ∨ k = 3 ∨ k = 4 ∨ k = 5 ∨ k = 6 ∨ k = 7 ∨ k = 8 ∨ k = 9 ∨ k = 10 ∨ k = 11 := by omega
    rcases hc with rfl | rfl | rfl | rfl | rfl | rfl | rfl | rfl | rfl | rfl | rfl | rfl <;> rfl
  exact h1 _ (by omega)
theorem wX_rk137 {i : Int} (h : 0 ≤ i ∧ i < 12) : 91 + Int.toNat i < wX.1 := by
  show _ < 142
  omega
theorem wX_rw138 {i : Int} (h : 0 ≤ i ∧ i < 13) : wX.2.1 (103 + Int.toNat i) = .inl (0, 4096) := by
  have h1 : ∀ k, k < 13 → wX_cd (103 + k) = .inl (0, 4096) := by
    intro k hk
    have hc : k = 0 ∨ k = 1 ∨ k = 2 ∨ k = 3 ∨ k = 4 ∨ k = 5 ∨ k = 6 ∨ k = 7 ∨ k = 8 ∨ k = 9 ∨ k = 10 ∨ k = 11 ∨ k = 12 := by omega
    rcases hc with rfl | rfl | rfl | rfl | rfl | rfl | rfl | rfl | rfl | rfl | rfl | rfl | rfl <;> rfl
  exact h1 _ (by omega)
theorem wX_rk138 {i : Int} (h : 0 ≤ i ∧ i < 13) : 103 + Int.toNat i < wX.1 := by
  show _ < 142
  omega
theorem wX_rw139 {i : Int} (h : 0 ≤ i ∧ i < 13) : wX.2.1 (116 + Int.toNat i) = .inl (1, 4096) := by
  have h1 : ∀ k, k < 13 → wX_cd (116 + k) = .inl (1, 4096) := by
    intro k hk
    have hc : k = 0 ∨ k = 1 ∨ k = 2 ∨ k = 3 ∨ k = 4 ∨ k = 5 ∨ k = 6 ∨ k = 7 ∨ k = 8 ∨ k = 9 ∨ k = 10 ∨ k = 11 ∨ k = 12 := by omega
    rcases hc with rfl | rfl | rfl | rfl | rfl | rfl | rfl | rfl | rfl | rfl | rfl | rfl | rfl <;> rfl
  exact h1 _ (by omega)
theorem wX_rk139 {i : Int} (h : 0 ≤ i ∧ i < 13) : 116 + Int.toNat i < wX.1 := by
  show _ < 142
  omega
def w_J12_bitCount (x0 : Int) (K : Int → Prop) : Prop :=
  InR (x0 - (iAnd (iUshr x0 1) 1431655765)) ∧ ((∀ v2 : Int, v2 = x0 - (iAnd (iUshr x0 1) 1431655765) → InR v2 → InR ((iAnd v2 858993459) + (iAnd (iUshr v2 2) 858993459)) ∧ ((∀ v4 : Int, v4 = (iAnd v2 858993459) + (iAnd (iUshr v2 2) 858993459) → InR v4 → InR (v4 + (iUshr v4 4)) ∧ ((∀ v6 : Int, v6 = iAnd (v4 + (iUshr v4 4)) 252645135 → InR v6 → InR (v6 + (iUshr v6 8)) ∧ ((∀ v8 : Int, v8 = v6 + (iUshr v6 8) → InR v8 → InR (v8 + (iUshr v8 16)) ∧ ((∀ v10 : Int, v10 = v8 + (iUshr v8 16) → InR v10 → K (v10 % 64)))))))))))
def l_J14_fill_5 (k0 n0 : Nat) (x1 : Int) (x3 : Int) (K : St → Prop) : Nat → Int → St → Prop
  | 0, _, _ => False
  | n + 1, x2, S => ((x3 ≤ x2 → K S) ∧ (¬ (x3 ≤ x2) → ((0 : Int) ≤ x2 ∧ x2 < (n0 : Int)) ∧ ((∀ S3 : St, S3 = aset S k0 x2 x1 → InR (x2 + 1) ∧ (l_J14_fill_5 k0 n0 x1 x3 K n (x2 + 1) S3)))))
def w_J14_fill (k0 n0 : Nat) (x1 : Int) (S : St) (K : St → Prop) : Prop :=
  (∀ v5 : Int, v5 = (n0 : Int) → InR v5 → ∃ n5 : Nat, l_J14_fill_5 k0 n0 x1 v5 K n5 0 S)
def l_J14_fill_2_6 (k0 n0 : Nat) (x1 : Int) (x4 : Int) (K : St → Prop) : Nat → Int → St → Prop
  | 0, _, _ => False
  | n + 1, x3, S => ((x4 ≤ x3 → K S) ∧ (¬ (x4 ≤ x3) → ((0 : Int) ≤ x3 ∧ x3 < (n0 : Int)) ∧ ((∀ S3 : St, S3 = aset S k0 x3 x1 → InR (x3 + 1) ∧ (l_J14_fill_2_6 k0 n0 x1 x4 K n (x3 + 1) S3)))))
def w_J14_fill_2 (k0 n0 : Nat) (x1 : Int) (S : St) (K : St → Prop) : Prop :=
  (∀ v5 : Int, v5 = (n0 : Int) → InR v5 → ∃ n6 : Nat, l_J14_fill_2_6 k0 n0 x1 v5 K n6 0 S)
def w_X1_copy (k0 n0 : Nat) (k1 n1 : Nat) (S : St) (K : St → Prop) : Prop :=
  ((0 : Int) ≤ 0 ∧ (0 : Int) ≤ 0 ∧ (0 : Int) ≤ (n0 : Int) ∧ 0 + (n0 : Int) ≤ (n0 : Int) ∧ 0 + (n0 : Int) ≤ (n1 : Int)) ∧ (∀ S1 : St, S1 = pcpy S (aI S k0) 0 k1 0 (n0 : Int) → K S1)
def w_X1_copy_q (k1 n1 : Nat) (x0 : Nat) (S : St) (K : St → Prop) : Prop :=
  (∃ (pn1 : Nat) (pf2 : Int → Int), gI S x0 = some (.inl (0, pn1, pf2)) ∧ (InR (pn1 : Int) → (∃ (pn6 : Nat) (pf7 : Int → Int), gI S x0 = some (.inl (0, pn6, pf7)) ∧ ((0 : Int) ≤ 0 ∧ (0 : Int) ≤ 0 ∧ (0 : Int) ≤ (pn1 : Int) ∧ 0 + (pn1 : Int) ≤ (pn6 : Int) ∧ 0 + (pn1 : Int) ≤ (n1 : Int)) ∧ (∀ S5 : St, S5 = pcpy S pf7 0 k1 0 (pn1 : Int) → K S5))))
def j_X1_keeps_52 (S : St) (K : St → Prop) : Prop :=
  (InR (aI S 0 4) → ((0 : Int) ≤ aI S 0 4 ∧ aI S 0 4 < 20) ∧ (w_X1_copy 3 91 (15 + Int.toNat (aI S 0 4)) 91 S (fun (S4 : St) => (InR (aI S4 0 4) → InR ((aI S4 0 4) + 1) ∧ ((∀ S7 : St, S7 = aset S4 0 4 ((aI S4 0 4) + 1) → K S7))))))
def j_X1_keeps_42 (S : St) (K : St → Prop) : Prop :=
  (InR (aI S 0 4) → InR ((aI S 0 4) - 1) ∧ ((∀ S10 : St, S10 = aset S 0 4 ((aI S 0 4) - 1) → j_X1_keeps_52 S10 K)))
def l_X1_keeps_13 (K : St → Prop) (X42 : St → Prop) : Nat → Int → St → Prop
  | 0, _, _ => False
  | n + 1, x1, S => ((20 ≤ x1 → X42 S) ∧ (¬ (20 ≤ x1) → ((0 : Int) ≤ x1 ∧ x1 < 20) ∧ (InR (x1 - 1) ∧ (((0 : Int) ≤ x1 - 1 ∧ x1 - 1 < 20) ∧ (w_X1_copy (15 + Int.toNat x1) 91 (15 + Int.toNat (x1 - 1)) 91 S (fun (S16 : St) => InR (x1 + 1) ∧ (l_X1_keeps_13 K X42 n (x1 + 1) S16)))))))
def w_X1_keeps (S : St) (K : St → Prop) : Prop :=
  (InR (aI S 0 4) → ((¬ (aI S 0 4) = 20 → j_X1_keeps_52 S K) ∧ ((aI S 0 4) = 20 → ∃ n13 : Nat, l_X1_keeps_13 K (fun (zS : St) => j_X1_keeps_42 zS K) n13 1 S)))
def w_X_in (x0 : Int) (x1 : Int) (x2 : Int) (K : Int → Prop) : Prop :=
  ((x0 < x1 → K 0) ∧ (¬ (x0 < x1) → ((x2 < x0 → K 0) ∧ (¬ (x2 < x0) → K 1))))
def w_X_town (x1 : Int) (x2 : Int) (S : St) (K : Int → St → Prop) : Prop :=
  (InR (aI S 0 0) → (∀ v2 : Int, v2 = aI S 0 0 → InR v2 → w_X_in x1 0 99 (fun (r3 : Int) => (r3 = 0 ∨ r3 = 1) → ((r3 = 0 → K (-1) S) ∧ (¬ (r3 = 0) → w_X_in x2 0 99 (fun (r6 : Int) => (r6 = 0 ∨ r6 = 1) → ((r6 = 0 → K (-1) S) ∧ (¬ (r6 = 0) → ((¬ v2 = 10 → ((0 : Int) ≤ v2 ∧ v2 < 10) ∧ ((∀ S11 : St, S11 = aset S 1 v2 x1 → ((0 : Int) ≤ v2 ∧ v2 < 10) ∧ ((∀ S13 : St, S13 = aset S11 2 v2 x2 → (InR (aI S13 0 0) → InR ((aI S13 0 0) + 1) ∧ ((∀ S16 : St, S16 = aset S13 0 0 ((aI S13 0 0) + 1) → K v2 S16)))))))) ∧ (v2 = 10 → K (-1) S))))))))))
def w_X_isTown (x1 : Int) (S : St) (K : Int → Prop) : Prop :=
  (InR (aI S 0 0) → InR ((aI S 0 0) - 1) ∧ (w_X_in x1 0 ((aI S 0 0) - 1) (fun (r3 : Int) => (r3 = 0 ∨ r3 = 1) → K r3)))
def w_X_puts (x1 : Int) (x2 : Int) (x3 : Int) (S : St) (K : St → Prop) : Prop :=
  InR (x1 * 5) ∧ (InR ((x1 * 5) + x2) ∧ (((0 : Int) ≤ (x1 * 5) + x2 ∧ (x1 * 5) + x2 < 91) ∧ ((∀ S4 : St, S4 = aset S 3 ((x1 * 5) + x2) x3 → K S4))))
def j_X_bone_146 (x4 : Int) (S : St) (K : Int → St → Prop) : Prop :=
  (InR (aI S 0 1) → InR ((aI S 0 1) + 1) ∧ ((∀ S3 : St, S3 = aset S 0 1 ((aI S 0 1) + 1) → K x4 S3)))
def l_X_bone_105 (x4 : Int) (x5 : Nat) (K : Int → St → Prop) (X146 : St → Prop) : Nat → Int → St → Prop
  | 0, _, _ => False
  | n + 1, x6, S => (InR (aI S 0 4) → (((aI S 0 4) ≤ x6 → X146 S) ∧ (¬ ((aI S 0 4) ≤ x6) → ((0 : Int) ≤ x6 ∧ x6 < 20) ∧ (InR (x4 * 5) ∧ ((∃ (pn9 : Nat) (pf10 : Int → Int), gI S x5 = some (.inl (0, pn9, pf10)) ∧ ((0 : Int) ≤ 0 ∧ (0 : Int) ≤ (x4 * 5) ∧ (0 : Int) ≤ 5 ∧ 0 + 5 ≤ (pn9 : Int) ∧ (x4 * 5) + 5 ≤ (91 : Int)) ∧ (∀ S8 : St, S8 = pcpy S pf10 0 (15 + Int.toNat x6) (x4 * 5) 5 → InR (x6 + 1) ∧ (l_X_bone_105 x4 x5 K X146 n (x6 + 1) S8))))))))
def j_X_bone_102 (x4 : Int) (x5 : Nat) (S : St) (K : Int → St → Prop) : Prop :=
  ∃ n105 : Nat, l_X_bone_105 x4 x5 K (fun (zS : St) => j_X_bone_146 x4 zS K) n105 0 S
def l_X_bone_77 (x4 : Int) (x5 : Nat) (K : Int → St → Prop) (X102 : St → Prop) : Nat → Int → St → Prop
  | 0, _, _ => False
  | n + 1, x6, S => ((5 ≤ x6 → X102 S) ∧ (¬ (5 ≤ x6) → (∃ (pn15 : Nat) (pf16 : Int → Int), gI S x5 = some (.inl (0, pn15, pf16)) ∧ ((0 : Int) ≤ x6 ∧ x6 < (pn15 : Int)) ∧ (InR (pf16 x6) → w_X_puts x4 x6 (pf16 x6) S (fun (S21 : St) => InR (x6 + 1) ∧ (l_X_bone_77 x4 x5 K X102 n (x6 + 1) S21))))))
def w_X_bone (x1 : Int) (x2 : Int) (x3 : Int) (S : St) (K : Int → St → Prop) : Prop :=
  (InR (aI S 0 1) → (∀ v24 : Int, v24 = aI S 0 1 → InR v24 → w_X_in x1 0 19 (fun (r25 : Int) => (r25 = 0 ∨ r25 = 1) → ((r25 = 0 → K (-1) S) ∧ (¬ (r25 = 0) → w_X_in x2 1 999 (fun (r28 : Int) => (r28 = 0 ∨ r28 = 1) → ((r28 = 0 → K (-1) S) ∧ (¬ (r28 = 0) → w_X_isTown x3 S (fun (r31 : Int) => (r31 = 0 ∨ r31 = 1) → ((r31 = 0 → K (-1) S) ∧ (¬ (r31 = 0) → ((¬ v24 = 16 → (∀ (q35 : Nat) (S36 : St), gI S q35 = none → S36 = gset S q35 (.inl (0, 5, fun _ => 0)) → (∃ (pn37 : Nat) (pf38 : Int → Int), gI S36 q35 = some (.inl (0, pn37, pf38)) ∧ ((0 : Int) ≤ 0 ∧ 0 < (pn37 : Int)) ∧ (∀ S41 : St, S41 = gset S36 q35 (.inl (0, pn37, fun y => if y = 0 then x1 else pf38 y)) → (∃ (pn42 : Nat) (pf43 : Int → Int), gI S41 q35 = some (.inl (0, pn42, pf43)) ∧ ((0 : Int) ≤ 1 ∧ 1 < (pn42 : Int)) ∧ (∀ S46 : St, S46 = gset S41 q35 (.inl (0, pn42, fun y => if y = 1 then x2 else pf43 y)) → (∃ (pn47 : Nat) (pf48 : Int → Int), gI S46 q35 = some (.inl (0, pn47, pf48)) ∧ ((0 : Int) ≤ 2 ∧ 2 < (pn47 : Int)) ∧ (∀ S51 : St, S51 = gset S46 q35 (.inl (0, pn47, fun y => if y = 2 then x3 else pf48 y)) → (∃ (pn52 : Nat) (pf53 : Int → Int), gI S51 q35 = some (.inl (0, pn52, pf53)) ∧ ((0 : Int) ≤ 3 ∧ 3 < (pn52 : Int)) ∧ (∀ S56 : St, S56 = gset S51 q35 (.inl (0, pn52, fun y => if y = 3 then x3 else pf53 y)) → (∃ (pn57 : Nat) (pf58 : Int → Int), gI S56 q35 = some (.inl (0, pn57, pf58)) ∧ ((0 : Int) ≤ 4 ∧ 4 < (pn57 : Int)) ∧ (∀ S61 : St, S61 = gset S56 q35 (.inl (0, pn57, fun y => if y = 4 then (-1) else pf58 y)) → ∃ n77 : Nat, l_X_bone_77 v24 q35 K (fun (zS : St) => j_X_bone_102 v24 q35 zS K) n77 0 S61)))))))))))) ∧ (v24 = 16 → K (-1) S)))))))))))))
def w_X_hasProof (x1 : Int) (x2 : Int) (S : St) (K : Int → Prop) : Prop :=
  InR (80 + x1) ∧ (((0 : Int) ≤ 80 + x1 ∧ 80 + x1 < 91) ∧ ((InR (aI S 3 (80 + x1)) → (0 ≤ x2 ∧ x2 ≤ 31) ∧ (((¬ (((aI S 3 (80 + x1)) / 2 ^ (Int.toNat x2)) % 2) = 1 → K 0) ∧ ((((aI S 3 (80 + x1)) / 2 ^ (Int.toNat x2)) % 2) = 1 → K 1))))))
def w_X_isBone (x1 : Int) (S : St) (K : Int → Prop) : Prop :=
  (InR (aI S 0 1) → InR ((aI S 0 1) - 1) ∧ (w_X_in x1 0 ((aI S 0 1) - 1) (fun (r3 : Int) => (r3 = 0 ∨ r3 = 1) → K r3)))
def w_X_prove (x1 : Int) (x2 : Int) (S : St) (K : Int → St → Prop) : Prop :=
  w_X_isTown x1 S (fun (r1 : Int) => (r1 = 0 ∨ r1 = 1) → ((r1 = 0 → K 0 S) ∧ (¬ (r1 = 0) → w_X_isBone x2 S (fun (r4 : Int) => (r4 = 0 ∨ r4 = 1) → ((r4 = 0 → K 0 S) ∧ (¬ (r4 = 0) → w_X_hasProof x1 x2 S (fun (r7 : Int) => (r7 = 0 ∨ r7 = 1) → ((r7 = 0 → w_X1_keeps S (fun (S11 : St) => InR (80 + x1) ∧ (((0 : Int) ≤ 80 + x1 ∧ 80 + x1 < 91) ∧ ((InR (aI S11 3 (80 + x1)) → (0 ≤ x2 ∧ x2 ≤ 31) ∧ (InR (1 * 2 ^ (Int.toNat x2)) ∧ (((0 : Int) ≤ 80 + x1 ∧ 80 + x1 < 91) ∧ ((∀ S18 : St, S18 = aset S11 3 (80 + x1) (iOr (aI S11 3 (80 + x1)) (1 * 2 ^ (Int.toNat x2))) → K 1 S18))))))))) ∧ (¬ (r7 = 0) → K 0 S)))))))))
def l_X_put_3 (x1 : Int) (K : St → Prop) : Nat → Int → St → Prop
  | 0, _, _ => False
  | n + 1, x2, S => ((x2 < 0 → K S) ∧ (¬ (x2 < 0) → (InR (fI S 3) → (0 ≤ x2 ∧ x2 ≤ 31) ∧ (((0 : Int) ≤ fI S 3 ∧ fI S 3 < 300) ∧ ((∀ S8 : St, S8 = aset S 8 (fI S 3) (Int.bmod (x1 / 2 ^ (Int.toNat x2)) 256) → (InR (fI S8 3) → InR ((fI S8 3) + 1) ∧ ((∀ S11 : St, S11 = fset S8 3 ((fI S8 3) + 1) → InR (x2 + (-8)) ∧ (l_X_put_3 x1 K n (x2 + (-8)) S11))))))))))
def w_X_put (x1 : Int) (S : St) (K : St → Prop) : Prop :=
  ∃ n3 : Nat, l_X_put_3 x1 K n3 24 S
def w_X_feed (x1 : Int) (x2 : Int) (x3 : Int) (x4 : Int) (x5 : Int) (S : St) (K : Int → St → Prop) : Prop :=
  (InR (fI S 3) → InR ((fI S 3) + 20) ∧ (((((fI S 3) + 20) ≤ 300 → w_X_put x1 S (fun (S5 : St) => w_X_put x2 S5 (fun (S7 : St) => w_X_put x3 S7 (fun (S9 : St) => w_X_put x4 S9 (fun (S11 : St) => w_X_put x5 S11 (fun (S13 : St) => (InR (fI S13 3) → K (fI S13 3) S13))))))) ∧ (¬ (((fI S 3) + 20) ≤ 300) → K (-1) S))))
def w_X_end (x1 : Int) (S : St) (K : Int → St → Prop) : Prop :=
  (InR (fI S 3) → w_X_in x1 0 (fI S 3) (fun (r2 : Int) => (r2 = 0 ∨ r2 = 1) → ((¬ r2 = 0 → (∀ S5 : St, S5 = fset S 3 x1 → K x1 S5)) ∧ (r2 = 0 → K (-1) S))))
def w_X_fault (x1 : Int) (S : St) (K : Int → Prop) : Prop :=
  ((¬ x1 = 0 → ((¬ x1 = 1 → K (-1)) ∧ (x1 = 1 → (InR (fI S 5) → K (fI S 5))))) ∧ (x1 = 0 → (InR (fI S 4) → K (fI S 4))))
def w_X_isText (x1 : Int) (S : St) (K : Int → Prop) : Prop :=
  (InR (aI S 0 2) → InR ((aI S 0 2) - 1) ∧ (w_X_in x1 0 ((aI S 0 2) - 1) (fun (r3 : Int) => (r3 = 0 ∨ r3 = 1) → K r3)))
def w_X_by (x1 : Int) (S : St) (K : Int → St → Prop) : Prop :=
  ((x1 = (-1) → (∀ S2 : St, S2 = aset S 0 3 x1 → K 1 S2)) ∧ (¬ (x1 = (-1)) → w_X_isText x1 S (fun (r3 : Int) => (r3 = 0 ∨ r3 = 1) → ((¬ r3 = 0 → (∀ S6 : St, S6 = aset S 0 3 x1 → K 1 S6)) ∧ (r3 = 0 → K 0 S)))))
def w_X_bone_2 (x1 : Int) (x2 : Int) (S : St) (K : Int → Prop) : Prop :=
  InR (x1 * 5) ∧ (InR ((x1 * 5) + x2) ∧ (((0 : Int) ≤ (x1 * 5) + x2 ∧ (x1 * 5) + x2 < 91) ∧ ((InR (aI S 3 ((x1 * 5) + x2)) → K (aI S 3 ((x1 * 5) + x2))))))
def w_X_year (S : St) (K : Int → Prop) : Prop :=
  (InR (aI S 3 90) → K (aI S 3 90))
def w_X_canLend (x1 : Int) (x2 : Int) (x3 : Int) (S : St) (K : Int → Prop) : Prop :=
  w_X_isBone x1 S (fun (r1 : Int) => (r1 = 0 ∨ r1 = 1) → ((r1 = 0 → K 0) ∧ (¬ (r1 = 0) → w_X_isTown x2 S (fun (r4 : Int) => (r4 = 0 ∨ r4 = 1) → ((r4 = 0 → K 0) ∧ (¬ (r4 = 0) → w_X_in x3 1 99 (fun (r7 : Int) => (r7 = 0 ∨ r7 = 1) → ((r7 = 0 → K 0) ∧ (¬ (r7 = 0) → w_X_year S (fun (r10 : Int) => InR r10 → InR (r10 + x3) ∧ (((999 < (r10 + x3) → K 0) ∧ (¬ (999 < (r10 + x3)) → w_X_bone_2 x1 3 S (fun (r14 : Int) => InR r14 → w_X_bone_2 x1 2 S (fun (r16 : Int) => InR r16 → ((¬ r14 = r16 → K 0) ∧ (r14 = r16 → w_X_bone_2 x1 4 S (fun (r19 : Int) => InR r19 → ((¬ r19 = (-1) → K 0) ∧ (r19 = (-1) → w_X_bone_2 x1 3 S (fun (r22 : Int) => InR r22 → ((r22 = x2 → K 0) ∧ (¬ (r22 = x2) → K 1)))))))))))))))))))))))
def w_X_lends (x1 : Int) (x2 : Int) (x3 : Int) (S : St) (K : Int → St → Prop) : Prop :=
  w_X_canLend x1 x2 x3 S (fun (r1 : Int) => (r1 = 0 ∨ r1 = 1) → ((¬ r1 = 0 → w_X1_keeps S (fun (S5 : St) => w_X_puts x1 3 x2 S5 (fun (S7 : St) => w_X_year S7 (fun (r8 : Int) => InR r8 → InR (r8 + x3) ∧ (w_X_puts x1 4 (r8 + x3) S7 (fun (S12 : St) => K 1 S12)))))) ∧ (r1 = 0 → K 0 S)))
def w_X_lend (x1 : Int) (x2 : Int) (x3 : Int) (S : St) (K : Int → St → Prop) : Prop :=
  w_X_lends x1 x2 x3 S (fun (r1 : Int) (S2 : St) => (r1 = 0 ∨ r1 = 1) → ((r1 = 0 → K (-1) S2) ∧ (¬ (r1 = 0) → w_X_bone_2 x1 4 S2 (fun (r4 : Int) => InR r4 → K r4 S2))))
def w_X_swap (x1 : Int) (x2 : Int) (S : St) (K : Int → St → Prop) : Prop :=
  w_X_isBone x1 S (fun (r1 : Int) => (r1 = 0 ∨ r1 = 1) → ((r1 = 0 → K 0 S) ∧ (¬ (r1 = 0) → w_X_isBone x2 S (fun (r4 : Int) => (r4 = 0 ∨ r4 = 1) → ((r4 = 0 → K 0 S) ∧ (¬ (r4 = 0) → w_X_bone_2 x1 3 S (fun (r7 : Int) => InR r7 → w_X_bone_2 x2 3 S (fun (r9 : Int) => InR r9 → ((¬ r7 = r9 → w_X1_keeps S (fun (S13 : St) => w_X_bone_2 x1 3 S13 (fun (r14 : Int) => InR r14 → w_X_bone_2 x2 3 S13 (fun (r16 : Int) => InR r16 → w_X_puts x1 3 r16 S13 (fun (S19 : St) => w_X_puts x2 3 r14 S19 (fun (S21 : St) => K 1 S21)))))) ∧ (r7 = r9 → K 0 S))))))))))
def w_X_steal (x1 : Int) (x2 : Int) (S : St) (K : Int → St → Prop) : Prop :=
  w_X_isBone x1 S (fun (r1 : Int) => (r1 = 0 ∨ r1 = 1) → ((r1 = 0 → K 0 S) ∧ (¬ (r1 = 0) → w_X_isTown x2 S (fun (r4 : Int) => (r4 = 0 ∨ r4 = 1) → ((r4 = 0 → K 0 S) ∧ (¬ (r4 = 0) → w_X_bone_2 x1 3 S (fun (r7 : Int) => InR r7 → ((¬ r7 = x2 → w_X1_keeps S (fun (S11 : St) => w_X_puts x1 3 x2 S11 (fun (S13 : St) => w_X_puts x1 2 x2 S13 (fun (S15 : St) => w_X_puts x1 4 (-1) S15 (fun (S17 : St) => K 1 S17))))) ∧ (r7 = x2 → K 0 S)))))))))
def w_X_burn (x1 : Int) (S : St) (K : Int → St → Prop) : Prop :=
  w_X_isTown x1 S (fun (r1 : Int) => (r1 = 0 ∨ r1 = 1) → ((¬ r1 = 0 → w_X1_keeps S (fun (S5 : St) => InR (80 + x1) ∧ (((0 : Int) ≤ 80 + x1 ∧ 80 + x1 < 91) ∧ ((InR (aI S5 3 (80 + x1)) → w_J12_bitCount (aI S5 3 (80 + x1)) (fun (r9 : Int) => InR r9 → ((0 : Int) ≤ 80 + x1 ∧ 80 + x1 < 91) ∧ ((∀ S12 : St, S12 = aset S5 3 (80 + x1) 0 → K r9 S12)))))))) ∧ (r1 = 0 → K (-1) S)))
def j_X_proofsOf_32 (x1 : Int) (x3 : Int) (y0 : Int) (y1 : Int) (S : St) (K : Int → Prop) (C : Int → Int → Prop) : Prop :=
  InR (y0 + y1) ∧ ((∀ v2 : Int, v2 = y0 + y1 → InR v2 → InR (x3 + 1) ∧ (C v2 (x3 + 1))))
def l_X_proofsOf_4 (x1 : Int) (S : St) (K : Int → Prop) : Nat → Int → Int → Prop
  | 0, _, _ => False
  | n + 1, x2, x3 => (InR (aI S 0 0) → (((aI S 0 0) ≤ x3 → K x2) ∧ (¬ ((aI S 0 0) ≤ x3) → w_X_hasProof x3 x1 S (fun (r6 : Int) => (r6 = 0 ∨ r6 = 1) → ((r6 = 0 → j_X_proofsOf_32 x1 x3 x2 0 S K (l_X_proofsOf_4 x1 S K n)) ∧ (¬ (r6 = 0) → j_X_proofsOf_32 x1 x3 x2 1 S K (l_X_proofsOf_4 x1 S K n)))))))
def w_X_proofsOf (x1 : Int) (S : St) (K : Int → Prop) : Prop :=
  ∃ n4 : Nat, l_X_proofsOf_4 x1 S K n4 0 0
def w_X_names (x1 : Int) (S : St) (K : St → Prop) : Prop :=
  w_X_bone_2 x1 0 S (fun (r1 : Int) => InR r1 → (∀ S3 : St, S3 = aset S 9 0 r1 → w_X_bone_2 x1 1 S3 (fun (r4 : Int) => InR r4 → (∀ S6 : St, S6 = aset S3 9 1 r4 → w_X_bone_2 x1 3 S6 (fun (r7 : Int) => InR r7 → (∀ S9 : St, S9 = aset S6 9 2 r7 → w_X_proofsOf x1 S9 (fun (r10 : Int) => InR r10 → (∀ S12 : St, S12 = aset S9 9 3 r10 → w_X_year S12 (fun (r13 : Int) => InR r13 → (∀ S15 : St, S15 = aset S12 9 4 r13 → K S15))))))))))
def w_X_undo (S : St) (K : Int → St → Prop) : Prop :=
  (InR (aI S 0 4) → ((¬ (aI S 0 4) = 0 → InR ((aI S 0 4) - 1) ∧ ((∀ S5 : St, S5 = aset S 0 4 ((aI S 0 4) - 1) → (InR (aI S5 0 4) → ((0 : Int) ≤ aI S5 0 4 ∧ aI S5 0 4 < 20) ∧ (w_X1_copy (15 + Int.toNat (aI S5 0 4)) 91 3 91 S5 (fun (S9 : St) => (InR (aI S9 0 4) → K (aI S9 0 4) S9))))))) ∧ ((aI S 0 4) = 0 → K (-1) S)))
def w_X_rules_2 (x1 : Int) (x2 : Int) (S : St) (K : Int → St → Prop) : Prop :=
  w_X_in x1 0 9 (fun (r1 : Int) => (r1 = 0 ∨ r1 = 1) → ((r1 = 0 → K 0 S) ∧ (¬ (r1 = 0) → w_X_in x2 1 99 (fun (r4 : Int) => (r4 = 0 ∨ r4 = 1) → ((¬ r4 = 0 → (∀ S7 : St, S7 = aset S 0 6 x1 → (∀ S8 : St, S8 = aset S7 0 7 x2 → K 1 S8))) ∧ (r4 = 0 → K 0 S))))))
def w_X_seen (x1 : Int) (x2 : Int) (x3 : Int) (x4 : Int) (S : St) (K : Int → St → Prop) : Prop :=
  w_X_isTown x1 S (fun (r1 : Int) => (r1 = 0 ∨ r1 = 1) → ((r1 = 0 → K (-1) S) ∧ (¬ (r1 = 0) → w_X_in x2 0 19 (fun (r4 : Int) => (r4 = 0 ∨ r4 = 1) → ((r4 = 0 → K (-1) S) ∧ (¬ (r4 = 0) → w_X_in x3 1 999 (fun (r7 : Int) => (r7 = 0 ∨ r7 = 1) → ((r7 = 0 → K (-1) S) ∧ (¬ (r7 = 0) → w_X_in x4 0 999 (fun (r10 : Int) => (r10 = 0 ∨ r10 = 1) → ((r10 = 0 → K (-1) S) ∧ (¬ (r10 = 0) → (InR (aI S 0 5) → ((¬ (aI S 0 5) = 12 → (∀ (q15 : Nat) (S16 : St), gI S q15 = none → S16 = gset S q15 (.inl (0, 4, fun _ => 0)) → (∃ (pn17 : Nat) (pf18 : Int → Int), gI S16 q15 = some (.inl (0, pn17, pf18)) ∧ ((0 : Int) ≤ 0 ∧ 0 < (pn17 : Int)) ∧ (∀ S21 : St, S21 = gset S16 q15 (.inl (0, pn17, fun y => if y = 0 then x1 else pf18 y)) → (∃ (pn22 : Nat) (pf23 : Int → Int), gI S21 q15 = some (.inl (0, pn22, pf23)) ∧ ((0 : Int) ≤ 1 ∧ 1 < (pn22 : Int)) ∧ (∀ S26 : St, S26 = gset S21 q15 (.inl (0, pn22, fun y => if y = 1 then x2 else pf23 y)) → (∃ (pn27 : Nat) (pf28 : Int → Int), gI S26 q15 = some (.inl (0, pn27, pf28)) ∧ ((0 : Int) ≤ 2 ∧ 2 < (pn27 : Int)) ∧ (∀ S31 : St, S31 = gset S26 q15 (.inl (0, pn27, fun y => if y = 2 then x3 else pf28 y)) → (∃ (pn32 : Nat) (pf33 : Int → Int), gI S31 q15 = some (.inl (0, pn32, pf33)) ∧ ((0 : Int) ≤ 3 ∧ 3 < (pn32 : Int)) ∧ (∀ S36 : St, S36 = gset S31 q15 (.inl (0, pn32, fun y => if y = 3 then x4 else pf33 y)) → (InR (aI S36 0 5) → ((0 : Int) ≤ aI S36 0 5 ∧ aI S36 0 5 < 12) ∧ (w_X1_copy_q (55 + Int.toNat (aI S36 0 5)) 4 q15 S36 (fun (S40 : St) => (InR (aI S40 0 5) → InR ((aI S40 0 5) + 1) ∧ ((∀ S43 : St, S43 = aset S40 0 5 ((aI S40 0 5) + 1) → (InR (aI S43 0 5) → InR ((aI S43 0 5) - 1) ∧ (K ((aI S43 0 5) - 1) S43)))))))))))))))))) ∧ ((aI S 0 5) = 12 → K (-1) S)))))))))))))))
def w_X_forget (S : St) (K : Int → St → Prop) : Prop :=
  (InR (aI S 0 5) → (∀ v2 : Int, v2 = aI S 0 5 → InR v2 → (∀ S3 : St, S3 = aset S 0 5 0 → K v2 S3)))
def w_X_miles (x1 : Int) (x2 : Int) (S : St) (K : Int → Prop) : Prop :=
  ((0 : Int) ≤ x1 ∧ x1 < 10) ∧ ((InR (aI S 1 x1) → ((0 : Int) ≤ x2 ∧ x2 < 10) ∧ ((InR (aI S 1 x2) → InR ((aI S 1 x1) - (aI S 1 x2)) ∧ (InR (-((aI S 1 x1) - (aI S 1 x2))) ∧ (((0 : Int) ≤ x1 ∧ x1 < 10) ∧ ((InR (aI S 2 x1) → ((0 : Int) ≤ x2 ∧ x2 < 10) ∧ ((InR (aI S 2 x2) → InR ((aI S 2 x1) - (aI S 2 x2)) ∧ (InR (-((aI S 2 x1) - (aI S 2 x2))) ∧ (InR ((max ((aI S 1 x1) - (aI S 1 x2)) (-((aI S 1 x1) - (aI S 1 x2)))) + (max ((aI S 2 x1) - (aI S 2 x2)) (-((aI S 2 x1) - (aI S 2 x2))))) ∧ (K ((max ((aI S 1 x1) - (aI S 1 x2)) (-((aI S 1 x1) - (aI S 1 x2)))) + (max ((aI S 2 x1) - (aI S 2 x2)) (-((aI S 2 x1) - (aI S 2 x2))))))))))))))))))
def w_X_isSame (x1 : Int) (x2 : Int) (S : St) (K : Int → Prop) : Prop :=
  ((0 : Int) ≤ x1 ∧ x1 < 12) ∧ (((0 : Int) ≤ x2 ∧ x2 < 12) ∧ ((InR (aI S (55 + Int.toNat x2) 3) → (InR (aI S (55 + Int.toNat x1) 3) → InR ((aI S (55 + Int.toNat x2) 3) - (aI S (55 + Int.toNat x1) 3)) ∧ ((∀ v6 : Int, v6 = (aI S (55 + Int.toNat x2) 3) - (aI S (55 + Int.toNat x1) 3) → InR v6 → (InR (aI S (55 + Int.toNat x1) 2) → (InR (aI S (55 + Int.toNat x2) 2) → InR ((aI S (55 + Int.toNat x1) 2) - (aI S (55 + Int.toNat x2) 2)) ∧ ((∀ v10 : Int, v10 = (aI S (55 + Int.toNat x1) 2) - (aI S (55 + Int.toNat x2) 2) → InR v10 → (InR (aI S (55 + Int.toNat x1) 1) → (InR (aI S (55 + Int.toNat x2) 1) → ((¬ (aI S (55 + Int.toNat x1) 1) = (aI S (55 + Int.toNat x2) 1) → K 0) ∧ ((aI S (55 + Int.toNat x1) 1) = (aI S (55 + Int.toNat x2) 1) → ((v6 ≤ 0 → K 0) ∧ (¬ (v6 ≤ 0) → (InR (aI S 0 6) → InR ((aI S 0 6) * v6) ∧ (w_X_in v10 0 ((aI S 0 6) * v6) (fun (r17 : Int) => (r17 = 0 ∨ r17 = 1) → ((r17 = 0 → K 0) ∧ (¬ (r17 = 0) → (InR (aI S (55 + Int.toNat x1) 0) → (InR (aI S (55 + Int.toNat x2) 0) → w_X_miles (aI S (55 + Int.toNat x1) 0) (aI S (55 + Int.toNat x2) 0) S (fun (r22 : Int) => InR r22 → (InR (aI S 0 7) → ¬ (aI S 0 7) = 0 ∧ (InR (Int.tdiv r22 (aI S 0 7)) ∧ (((v6 < (Int.tdiv r22 (aI S 0 7)) → K 0) ∧ (¬ (v6 < (Int.tdiv r22 (aI S 0 7))) → K 1)))))))))))))))))))))))))))))
def w_X_isSeen (x1 : Int) (S : St) (K : Int → Prop) : Prop :=
  (InR (aI S 0 5) → InR ((aI S 0 5) - 1) ∧ (w_X_in x1 0 ((aI S 0 5) - 1) (fun (r3 : Int) => (r3 = 0 ∨ r3 = 1) → K r3)))
def w_X_same (x1 : Int) (x2 : Int) (S : St) (K : Int → Prop) : Prop :=
  w_X_isSeen x1 S (fun (r1 : Int) => (r1 = 0 ∨ r1 = 1) → ((r1 = 0 → K 0) ∧ (¬ (r1 = 0) → w_X_isSeen x2 S (fun (r4 : Int) => (r4 = 0 ∨ r4 = 1) → ((r4 = 0 → K 0) ∧ (¬ (r4 = 0) → w_X_isSame x1 x2 S (fun (r7 : Int) => (r7 = 0 ∨ r7 = 1) → ((r7 = 0 → K 0) ∧ (¬ (r7 = 0) → K 1)))))))))
def w_X_may (x1 : Int) (x2 : Int) (x3 : Int) (S : St) (K : Int → Prop) : Prop :=
  ((x3 = (-1) → K 1) ∧ (¬ (x3 = (-1)) → (0 ≤ x3 ∧ x3 ≤ 31) ∧ (((¬ ((x2 / 2 ^ (Int.toNat x3)) % 2) = 0 → K 0) ∧ (((x2 / 2 ^ (Int.toNat x3)) % 2) = 0 → w_X_isSame x3 x1 S (fun (r6 : Int) => (r6 = 0 ∨ r6 = 1) → ((r6 = 0 → K 0) ∧ (¬ (r6 = 0) → K 1))))))))
def j_X_worthOf_49 (x1 : Int) (x2 : Int) (x3 : Int) (y0 : Int) (y1 : Int) (S : St) (K : Int → Prop) : Prop :=
  InR (y0 - y1) ∧ (InR (x1 + 1) ∧ (((0 : Int) ≤ x1 + 1 ∧ x1 + 1 < 13) ∧ ((0 ≤ x3 ∧ x3 ≤ 31) ∧ (InR (1 * 2 ^ (Int.toNat x3)) ∧ (((0 : Int) ≤ iOr x2 (1 * 2 ^ (Int.toNat x3)) ∧ iOr x2 (1 * 2 ^ (Int.toNat x3)) < 4096) ∧ ((InR (aI S (103 + Int.toNat (x1 + 1)) (iOr x2 (1 * 2 ^ (Int.toNat x3)))) → InR ((y0 - y1) + (aI S (103 + Int.toNat (x1 + 1)) (iOr x2 (1 * 2 ^ (Int.toNat x3))))) ∧ (K ((y0 - y1) + (aI S (103 + Int.toNat (x1 + 1)) (iOr x2 (1 * 2 ^ (Int.toNat x3)))))))))))))
def w_X_worthOf (x1 : Int) (x2 : Int) (x3 : Int) (S : St) (K : Int → Prop) : Prop :=
  ((¬ x3 = (-1) → ((0 : Int) ≤ x3 ∧ x3 < 12) ∧ ((InR (aI S (55 + Int.toNat x3) 0) → ((0 : Int) ≤ x1 ∧ x1 < 12) ∧ ((InR (aI S (55 + Int.toNat x1) 0) → ((¬ (aI S (55 + Int.toNat x3) 0) = (aI S (55 + Int.toNat x1) 0) → j_X_worthOf_49 x1 x2 x3 1000 1 S K) ∧ ((aI S (55 + Int.toNat x3) 0) = (aI S (55 + Int.toNat x1) 0) → j_X_worthOf_49 x1 x2 x3 1000 0 S K))))))) ∧ (x3 = (-1) → InR (x1 + 1) ∧ (((0 : Int) ≤ x1 + 1 ∧ x1 + 1 < 13) ∧ (((0 : Int) ≤ x2 ∧ x2 < 4096) ∧ ((InR (aI S (103 + Int.toNat (x1 + 1)) x2) → K (aI S (103 + Int.toNat (x1 + 1)) x2)))))))
def j_X_laysHistories_188 (x1 : Int) (x2 : Int) (S : St) (K : St → Prop) (C : Int → St → Prop) : Prop :=
  InR (x2 + (-1)) ∧ (C (x2 + (-1)) S)
def j_X_laysHistories_162 (x1 : Int) (x2 : Int) (x3 : Int) (x4 : Int) (x5 : Int) (S : St) (K : St → Prop) (X188 : St → Prop) (C : Int → St → Prop) : Prop :=
  ((0 : Int) ≤ x2 ∧ x2 < 13) ∧ (((0 : Int) ≤ x3 ∧ x3 < 4096) ∧ ((∀ S4 : St, S4 = aset S (103 + Int.toNat x2) x3 x4 → ((0 : Int) ≤ x2 ∧ x2 < 13) ∧ (((0 : Int) ≤ x3 ∧ x3 < 4096) ∧ ((∀ S7 : St, S7 = aset S4 (116 + Int.toNat x2) x3 x5 → InR (x3 + 1) ∧ (C (x3 + 1) S7)))))))
def j_X_laysHistories_156 (x1 : Int) (x2 : Int) (x3 : Int) (x4 : Int) (x5 : Int) (x7 : Int) (S : St) (K : St → Prop) (X162 : Int → Int → Prop) (C : Int → Int → Int → Prop) : Prop :=
  InR (x7 + 1) ∧ (C x4 x5 (x7 + 1))
def j_X_laysHistories_144 (x1 : Int) (x2 : Int) (x3 : Int) (x4 : Int) (x7 : Int) (x8 : Int) (y0 : Int) (y1 : Int) (S : St) (K : St → Prop) (X162 : Int → Int → Prop) (C : Int → Int → Int → Prop) : Prop :=
  InL (y0 + y1) ∧ ((∀ v11 : Int, v11 = y0 + y1 → InL v11 → (∀ v13 : Int, v13 = max x4 x8 → InR v13 → j_X_laysHistories_156 x1 x2 x3 v13 v11 x7 S K X162 C)))
def j_X_laysHistories_114 (x1 : Int) (x2 : Int) (x3 : Int) (x4 : Int) (x7 : Int) (x8 : Int) (y0 : Int) (S : St) (K : St → Prop) (X162 : Int → Int → Prop) (C : Int → Int → Int → Prop) : Prop :=
  ((x8 < x4 → j_X_laysHistories_144 x1 x2 x3 x4 x7 x8 y0 0 S K X162 C) ∧ (¬ (x8 < x4) → InR (x2 + 1) ∧ (((0 : Int) ≤ x2 + 1 ∧ x2 + 1 < 13) ∧ ((0 ≤ x7 ∧ x7 ≤ 31) ∧ (InR (1 * 2 ^ (Int.toNat x7)) ∧ (((0 : Int) ≤ iOr x3 (1 * 2 ^ (Int.toNat x7)) ∧ iOr x3 (1 * 2 ^ (Int.toNat x7)) < 4096) ∧ ((InL (aI S (116 + Int.toNat (x2 + 1)) (iOr x3 (1 * 2 ^ (Int.toNat x7)))) → j_X_laysHistories_144 x1 x2 x3 x4 x7 x8 y0 (aI S (116 + Int.toNat (x2 + 1)) (iOr x3 (1 * 2 ^ (Int.toNat x7)))) S K X162 C))))))))
def l_X_laysHistories_71 (x1 : Int) (x2 : Int) (x3 : Int) (S : St) (K : St → Prop) (X162 : Int → Int → Prop) : Nat → Int → Int → Int → Prop
  | 0, _, _, _ => False
  | n + 1, x4, x5, x7 => ((x1 ≤ x7 → X162 x4 x5) ∧ (¬ (x1 ≤ x7) → w_X_may x2 x3 x7 S (fun (r22 : Int) => (r22 = 0 ∨ r22 = 1) → ((¬ r22 = 0 → w_X_worthOf x2 x3 x7 S (fun (r25 : Int) => InR r25 → ((r25 ≤ x4 → j_X_laysHistories_114 x1 x2 x3 x4 x7 r25 x5 S K X162 (l_X_laysHistories_71 x1 x2 x3 S K X162 n)) ∧ (¬ (r25 ≤ x4) → j_X_laysHistories_114 x1 x2 x3 x4 x7 r25 0 S K X162 (l_X_laysHistories_71 x1 x2 x3 S K X162 n))))) ∧ (r22 = 0 → j_X_laysHistories_156 x1 x2 x3 x4 x5 x7 S K X162 (l_X_laysHistories_71 x1 x2 x3 S K X162 n))))))
def l_X_laysHistories_40 (x1 : Int) (x2 : Int) (K : St → Prop) (X188 : St → Prop) : Nat → Int → St → Prop
  | 0, _, _ => False
  | n + 1, x3, S => (0 ≤ x1 ∧ x1 ≤ 31) ∧ (InR (1 * 2 ^ (Int.toNat x1)) ∧ ((((1 * 2 ^ (Int.toNat x1)) ≤ x3 → X188 S) ∧ (¬ ((1 * 2 ^ (Int.toNat x1)) ≤ x3) → w_X_worthOf x2 x3 (-1) S (fun (r31 : Int) => InR r31 → InR (x2 + 1) ∧ (((0 : Int) ≤ x2 + 1 ∧ x2 + 1 < 13) ∧ (((0 : Int) ≤ x3 ∧ x3 < 4096) ∧ ((InL (aI S (116 + Int.toNat (x2 + 1)) x3) → (∀ v37 : Int, v37 = aI S (116 + Int.toNat (x2 + 1)) x3 → InL v37 → ∃ n71 : Nat, l_X_laysHistories_71 x1 x2 x3 S K (fun (z4 : Int) (z5 : Int) => j_X_laysHistories_162 x1 x2 x3 z4 z5 S K X188 (l_X_laysHistories_40 x1 x2 K X188 n)) n71 r31 v37 0))))))))))
def l_X_laysHistories_34 (x1 : Int) (K : St → Prop) : Nat → Int → St → Prop
  | 0, _, _ => False
  | n + 1, x2, S => ((x2 < 0 → K S) ∧ (¬ (x2 < 0) → ∃ n40 : Nat, l_X_laysHistories_40 x1 x2 K (fun (zS : St) => j_X_laysHistories_188 x1 x2 zS K (l_X_laysHistories_34 x1 K n)) n40 0 S))
def w_X_laysHistories (S : St) (K : St → Prop) : Prop :=
  (InR (aI S 0 5) → (∀ v40 : Int, v40 = aI S 0 5 → InR v40 → ((0 : Int) ≤ v40 ∧ v40 < 13) ∧ (w_J14_fill (103 + Int.toNat v40) 4096 0 S (fun (S43 : St) => ((0 : Int) ≤ v40 ∧ v40 < 13) ∧ (w_J14_fill_2 (116 + Int.toNat v40) 4096 1 S43 (fun (S46 : St) => InR (v40 - 1) ∧ ((∀ v48 : Int, v48 = v40 - 1 → InR v48 → ∃ n34 : Nat, l_X_laysHistories_34 v40 K n34 v48 S46))))))))
def w_X_best (x1 : Int) (S : St) (K : Int → St → Prop) : Prop :=
  w_X_in x1 0 1 (fun (r1 : Int) => (r1 = 0 ∨ r1 = 1) → ((¬ r1 = 0 → w_X_laysHistories S (fun (S5 : St) => (InR (aI S5 103 0) → InR ((aI S5 103 0) + 999) ∧ (InR (Int.tdiv ((aI S5 103 0) + 999) 1000) ∧ ((∀ v9 : Int, v9 = Int.tdiv ((aI S5 103 0) + 999) 1000 → InR v9 → ((¬ x1 = 0 → InR (1000 * v9) ∧ (InR ((1000 * v9) - (aI S5 103 0)) ∧ (K ((1000 * v9) - (aI S5 103 0)) S5))) ∧ (x1 = 0 → (InR (aI S5 0 5) → InR ((aI S5 0 5) - v9) ∧ (K ((aI S5 0 5) - v9) S5)))))))))) ∧ (r1 = 0 → K (-1) S)))
def w_X_histories (S : St) (K : Int → St → Prop) : Prop :=
  w_X_laysHistories S (fun (S2 : St) => (InL (aI S2 116 0) → K (aI S2 116 0) S2))
def j_X_led_80 (x1 : Int) (x3 : Int) (x4 : Int) (y0 : Int) (y1 : Int) (S : St) (K : Int → St → Prop) (C : Int → Int → Int → Prop) : Prop :=
  (∀ v1 : Int, v1 = iOr y0 y1 → InR v1 → InR (x4 + 1) ∧ (C v1 x3 (x4 + 1)))
def j_X_led_67 (x1 : Int) (x2 : Int) (x3 : Int) (x4 : Int) (S : St) (K : Int → St → Prop) (C : Int → Int → Int → Prop) : Prop :=
  ((¬ x3 = (-1) → (0 ≤ x3 ∧ x3 ≤ 31) ∧ (InR (1 * 2 ^ (Int.toNat x3)) ∧ (j_X_led_80 x1 x3 x4 x2 (1 * 2 ^ (Int.toNat x3)) S K C))) ∧ (x3 = (-1) → j_X_led_80 x1 x3 x4 x2 0 S K C))
def j_X_led_61 (x1 : Int) (x2 : Int) (x3 : Int) (x4 : Int) (S : St) (K : Int → St → Prop) (X67 : Int → Prop) (C : Int → Prop) : Prop :=
  InR (x3 + 1) ∧ (C (x3 + 1))
def l_X_led_30 (x1 : Int) (x2 : Int) (x4 : Int) (S : St) (K : Int → St → Prop) (X67 : Int → Prop) : Nat → Int → Prop
  | 0, _ => False
  | n + 1, x3 => w_X_may x4 x2 x3 S (fun (r7 : Int) => (r7 = 0 ∨ r7 = 1) → ((r7 = 0 → j_X_led_61 x1 x2 x3 x4 S K X67 (l_X_led_30 x1 x2 x4 S K X67 n)) ∧ (¬ (r7 = 0) → w_X_worthOf x4 x2 x3 S (fun (r10 : Int) => InR r10 → ((0 : Int) ≤ x4 ∧ x4 < 13) ∧ (((0 : Int) ≤ x2 ∧ x2 < 4096) ∧ ((InR (aI S (103 + Int.toNat x4) x2) → ((r10 = (aI S (103 + Int.toNat x4) x2) → X67 x3) ∧ (¬ (r10 = (aI S (103 + Int.toNat x4) x2)) → j_X_led_61 x1 x2 x3 x4 S K X67 (l_X_led_30 x1 x2 x4 S K X67 n))))))))))
def l_X_led_22 (x1 : Int) (S : St) (K : Int → St → Prop) : Nat → Int → Int → Int → Prop
  | 0, _, _, _ => False
  | n + 1, x2, x3, x4 => ((x1 < x4 → K x3 S) ∧ (¬ (x1 < x4) → ∃ n30 : Nat, l_X_led_30 x1 x2 x4 S K (fun (z3 : Int) => j_X_led_67 x1 x2 z3 x4 S K (l_X_led_22 x1 S K n)) n30 (-1)))
def w_X_led (x1 : Int) (S : St) (K : Int → St → Prop) : Prop :=
  w_X_isSeen x1 S (fun (r17 : Int) => (r17 = 0 ∨ r17 = 1) → ((¬ r17 = 0 → w_X_laysHistories S (fun (S21 : St) => ∃ n22 : Nat, l_X_led_22 x1 S21 K n22 0 (-1) 0)) ∧ (r17 = 0 → K (-2) S)))
def b_X_common (W0 : Int → Int → (Int → Prop) → Prop) (x0 : Int) (x2 : Int) (K : Int → Prop) : Prop :=
  ((¬ x2 = 0 → ¬ x2 = 0 ∧ (InL (Int.tmod x0 x2) ∧ (W0 x2 (Int.tmod x0 x2) (fun (r4 : Int) => InL r4 → K r4)))) ∧ (x2 = 0 → K x0))
def w_X_common : Nat → Int → Int → (Int → Prop) → Prop
  | 0 => fun _ _ _ => False
  | d + 1 => fun x0 x2 K => b_X_common (w_X_common d) x0 x2 K
def l_X_power_5 (x0 : Int) (x2 : Int) (K : Int → Prop) : Nat → Int → Int → Prop
  | 0, _, _ => False
  | n + 1, x3, x5 => ((x2 ≤ x5 → K x3) ∧ (¬ (x2 ≤ x5) → InL (x3 * x0) ∧ ((∀ v3 : Int, v3 = x3 * x0 → InL v3 → InR (x5 + 1) ∧ (l_X_power_5 x0 x2 K n v3 (x5 + 1))))))
def w_X_power (x0 : Int) (x2 : Int) (K : Int → Prop) : Prop :=
  ∃ n5 : Nat, l_X_power_5 x0 x2 K n5 1 0
def j_X_chance_115 (x1 : Int) (x4 : Int) (x7 : Int) (S : St) (K : Int → Prop) : Prop :=
  w_X_power 6 x1 (fun (r1 : Int) => InL r1 → (∃ d5 : Nat, d5 ≤ 100 ∧ w_X_common d5 r1 x7 (fun (r3 : Int) => InL r3 → ((¬ x4 = 0 → ¬ r3 = 0 ∧ (InL (Int.tdiv r1 r3) ∧ (K (Int.tdiv r1 r3)))) ∧ (x4 = 0 → ¬ r3 = 0 ∧ (InL (Int.tdiv x7 r3) ∧ (K (Int.tdiv x7 r3))))))))
def j_X_chance_93 (x1 : Int) (x2 : Int) (x3 : Int) (x4 : Int) (x5 : Int) (x7 : Int) (x9 : Int) (S : St) (K : Int → Prop) (X115 : Int → Prop) (C : Int → Int → Int → Prop) : Prop :=
  InR (x1 - x9) ∧ (InL (x5 * (x1 - x9)) ∧ (InR (x9 + 1) ∧ (¬ (x9 + 1) = 0 ∧ (InL (Int.tdiv (x5 * (x1 - x9)) (x9 + 1)) ∧ ((∀ v18 : Int, v18 = Int.tdiv (x5 * (x1 - x9)) (x9 + 1) → InL v18 → C v18 x7 (x9 + 1)))))))
def l_X_chance_52 (x1 : Int) (x2 : Int) (x3 : Int) (x4 : Int) (S : St) (K : Int → Prop) (X115 : Int → Prop) : Nat → Int → Int → Int → Prop
  | 0, _, _, _ => False
  | n + 1, x5, x7, x9 => ((x1 < x9 → X115 x7) ∧ (¬ (x1 < x9) → ((x9 < x2 → j_X_chance_93 x1 x2 x3 x4 x5 x7 x9 S K X115 (l_X_chance_52 x1 x2 x3 x4 S K X115 n)) ∧ (¬ (x9 < x2) → w_X_power x3 x9 (fun (r22 : Int) => InL r22 → InL (x5 * r22) ∧ (InL (6 - x3) ∧ (InR (x1 - x9) ∧ (w_X_power (6 - x3) (x1 - x9) (fun (r28 : Int) => InL r28 → InL ((x5 * r22) * r28) ∧ (InL (x7 + ((x5 * r22) * r28)) ∧ ((∀ v32 : Int, v32 = x7 + ((x5 * r22) * r28) → InL v32 → j_X_chance_93 x1 x2 x3 x4 x5 v32 x9 S K X115 (l_X_chance_52 x1 x2 x3 x4 S K X115 n)))))))))))))
def w_X_chance (x1 : Int) (x2 : Int) (x3 : Int) (x4 : Int) (S : St) (K : Int → Prop) : Prop :=
  w_X_in x1 0 20 (fun (r33 : Int) => (r33 = 0 ∨ r33 = 1) → ((r33 = 0 → K (-1)) ∧ (¬ (r33 = 0) → w_X_in x2 0 x1 (fun (r36 : Int) => (r36 = 0 ∨ r36 = 1) → ((r36 = 0 → K (-1)) ∧ (¬ (r36 = 0) → w_X_in x3 0 6 (fun (r39 : Int) => (r39 = 0 ∨ r39 = 1) → ((r39 = 0 → K (-1)) ∧ (¬ (r39 = 0) → w_X_in x4 0 1 (fun (r42 : Int) => (r42 = 0 ∨ r42 = 1) → ((¬ r42 = 0 → ∃ n52 : Nat, l_X_chance_52 x1 x2 x3 x4 S K (fun (z7 : Int) => j_X_chance_115 x1 x4 z7 S K) n52 1 0 0) ∧ (r42 = 0 → K (-1)))))))))))))
def j_X_goesRound_143 (W0 : Int → Int → Int → St → (St → Prop) → Prop) (x1 : Int) (x2 : Int) (x3 : Int) (x4 : Int) (S : St) (K : St → Prop) (C : Int → St → Prop) : Prop :=
  InR (x4 + 1) ∧ (C (x4 + 1) S)
def l_X_goesRound_75 (W0 : Int → Int → Int → St → (St → Prop) → Prop) (x1 : Int) (x2 : Int) (x3 : Int) (K : St → Prop) : Nat → Int → St → Prop
  | 0, _, _ => False
  | n + 1, x4, S => (InR (fI S 18) → (((fI S 18) ≤ x4 → K S) ∧ (¬ ((fI S 18) ≤ x4) → (0 ≤ x4 ∧ x4 ≤ 31) ∧ (((¬ ((x2 / 2 ^ (Int.toNat x4)) % 2) = 1 → ((0 : Int) ≤ x4 ∧ x4 < 8) ∧ ((InR (aI S 12 x4) → ((0 : Int) ≤ x1 ∧ x1 < 8) ∧ ((∀ S11 : St, S11 = aset S 13 x1 (aI S 12 x4) → InR (x1 + 1) ∧ ((0 ≤ x4 ∧ x4 ≤ 31) ∧ (InR (1 * 2 ^ (Int.toNat x4)) ∧ (InR (x1 - 1) ∧ (((0 : Int) ≤ x1 - 1 ∧ x1 - 1 < 8) ∧ ((InR (aI S11 13 (x1 - 1)) → ((0 : Int) ≤ x1 ∧ x1 < 8) ∧ ((InR (aI S11 13 x1) → w_X_miles (aI S11 13 (x1 - 1)) (aI S11 13 x1) S11 (fun (r20 : Int) => InR r20 → InR (x3 + r20) ∧ (W0 (x1 + 1) (iOr x2 (1 * 2 ^ (Int.toNat x4))) (x3 + r20) S11 (fun (S24 : St) => j_X_goesRound_143 W0 x1 x2 x3 x4 S24 K (l_X_goesRound_75 W0 x1 x2 x3 K n))))))))))))))))) ∧ (((x2 / 2 ^ (Int.toNat x4)) % 2) = 1 → j_X_goesRound_143 W0 x1 x2 x3 x4 S K (l_X_goesRound_75 W0 x1 x2 x3 K n)))))))
def j_X_goesRound_48 (W0 : Int → Int → Int → St → (St → Prop) → Prop) (x4 : Int) (S : St) (K : St → Prop) : Prop :=
  (∀ S25 : St, S25 = fset S 19 x4 → (InR (fI S25 18) → ((0 : Int) ≤ 0 ∧ (0 : Int) ≤ 0 ∧ (0 : Int) ≤ (fI S25 18) ∧ 0 + (fI S25 18) ≤ (8 : Int) ∧ 0 + (fI S25 18) ≤ (8 : Int)) ∧ (∀ S27 : St, S27 = pcpy S25 (aI S25 13) 0 14 0 (fI S25 18) → K S27)))
def b_X_goesRound (W0 : Int → Int → Int → St → (St → Prop) → Prop) (x1 : Int) (x2 : Int) (x3 : Int) (S : St) (K : St → Prop) : Prop :=
  (InR (fI S 18) → ((¬ x1 = (fI S 18) → ∃ n75 : Nat, l_X_goesRound_75 W0 x1 x2 x3 K n75 1 S) ∧ (x1 = (fI S 18) → InR (x1 - 1) ∧ (((0 : Int) ≤ x1 - 1 ∧ x1 - 1 < 8) ∧ ((InR (aI S 13 (x1 - 1)) → (InR (aI S 13 0) → w_X_miles (aI S 13 (x1 - 1)) (aI S 13 0) S (fun (r35 : Int) => InR r35 → InR (x3 + r35) ∧ ((∀ v38 : Int, v38 = x3 + r35 → InR v38 → (InR (fI S 19) → (((fI S 19) = (-1) → j_X_goesRound_48 W0 v38 S K) ∧ (¬ ((fI S 19) = (-1)) → ((v38 < (fI S 19) → j_X_goesRound_48 W0 v38 S K) ∧ (¬ (v38 < (fI S 19)) → K S)))))))))))))))
def w_X_goesRound : Nat → Int → Int → Int → St → (St → Prop) → Prop
  | 0 => fun _ _ _ _ _ => False
  | d + 1 => fun x1 x2 x3 S K => b_X_goesRound (w_X_goesRound d) x1 x2 x3 S K
def j_X_round_102 (x2 : Int) (S : St) (K : Int → St → Prop) : Prop :=
  (∀ S1 : St, S1 = fset S 19 (-1) → (InR (aI S1 12 0) → (∀ S3 : St, S3 = aset S1 13 0 (aI S1 12 0) → (∃ d6 : Nat, d6 ≤ 10 ∧ w_X_goesRound d6 1 1 0 S3 (fun (S5 : St) => ((¬ x2 = (-1) → ((0 : Int) ≤ x2 ∧ x2 < 8) ∧ ((InR (aI S5 14 x2) → K (aI S5 14 x2) S5))) ∧ (x2 = (-1) → (InR (fI S5 19) → K (fI S5 19) S5))))))))
def j_X_round_96 (x1 : Int) (x2 : Int) (x3 : Int) (S : St) (K : Int → St → Prop) (X102 : St → Prop) (C : Int → St → Prop) : Prop :=
  InR (x3 + 1) ∧ (C (x3 + 1) S)
def l_X_round_52 (x1 : Int) (x2 : Int) (K : Int → St → Prop) (X102 : St → Prop) : Nat → Int → St → Prop
  | 0, _, _ => False
  | n + 1, x3, S => (InR (aI S 0 0) → (((aI S 0 0) ≤ x3 → X102 S) ∧ (¬ ((aI S 0 0) ≤ x3) → (0 ≤ x3 ∧ x3 ≤ 31) ∧ (((¬ ((x1 / 2 ^ (Int.toNat x3)) % 2) = 0 → (InR (fI S 18) → ((0 : Int) ≤ fI S 18 ∧ fI S 18 < 8) ∧ ((∀ S20 : St, S20 = aset S 12 (fI S 18) x3 → (InR (fI S20 18) → InR ((fI S20 18) + 1) ∧ ((∀ S23 : St, S23 = fset S20 18 ((fI S20 18) + 1) → j_X_round_96 x1 x2 x3 S23 K X102 (l_X_round_52 x1 x2 K X102 n)))))))) ∧ (((x1 / 2 ^ (Int.toNat x3)) % 2) = 0 → j_X_round_96 x1 x2 x3 S K X102 (l_X_round_52 x1 x2 K X102 n)))))))
def w_X_round (x1 : Int) (x2 : Int) (S : St) (K : Int → St → Prop) : Prop :=
  (InR (aI S 0 0) → (0 ≤ aI S 0 0 ∧ aI S 0 0 ≤ 31) ∧ (InR (1 * 2 ^ (Int.toNat (aI S 0 0))) ∧ (InR ((1 * 2 ^ (Int.toNat (aI S 0 0))) - 1) ∧ (w_X_in x1 1 ((1 * 2 ^ (Int.toNat (aI S 0 0))) - 1) (fun (r28 : Int) => (r28 = 0 ∨ r28 = 1) → ((r28 = 0 → K (-1) S) ∧ (¬ (r28 = 0) → w_J12_bitCount x1 (fun (r31 : Int) => InR r31 → ((8 < r31 → K (-1) S) ∧ (¬ (8 < r31) → ((x2 < (-1) → K (-1) S) ∧ (¬ (x2 < (-1)) → w_J12_bitCount x1 (fun (r35 : Int) => InR r35 → ((x2 < r35 → (∀ S38 : St, S38 = fset S 18 0 → ∃ n52 : Nat, l_X_round_52 x1 x2 K (fun (zS : St) => j_X_round_102 x2 zS K) n52 0 S38)) ∧ (¬ (x2 < r35) → K (-1) S)))))))))))))))
def w_X_draw (x1 : Int) (S : St) (K : Int → St → Prop) : Prop :=
  (InR (fI S 20) → ¬ x1 = 0 ∧ (InR (Int.tmod (fI S 20) x1) ∧ ((∀ v4 : Int, v4 = Int.tmod (fI S 20) x1 → InR v4 → InR ((fI S 20) * 173) ∧ (InR (((fI S 20) * 173) + 41) ∧ (InR (Int.tmod (((fI S 20) * 173) + 41) 30103) ∧ ((∀ S9 : St, S9 = fset S 20 (Int.tmod (((fI S 20) * 173) + 41) 30103) → K v4 S9))))))))
def j_X_atTown_33 (x1 : Int) (x3 : Int) (y0 : Int) (y1 : Int) (S : St) (K : Int → Prop) (C : Int → Int → Prop) : Prop :=
  InR (y0 + y1) ∧ ((∀ v2 : Int, v2 = y0 + y1 → InR v2 → InR (x3 + 1) ∧ (C v2 (x3 + 1))))
def l_X_atTown_4 (x1 : Int) (S : St) (K : Int → Prop) : Nat → Int → Int → Prop
  | 0, _, _ => False
  | n + 1, x2, x3 => (InR (aI S 0 1) → (((aI S 0 1) ≤ x3 → K x2) ∧ (¬ ((aI S 0 1) ≤ x3) → w_X_bone_2 x3 3 S (fun (r6 : Int) => InR r6 → ((¬ r6 = x1 → j_X_atTown_33 x1 x3 x2 0 S K (l_X_atTown_4 x1 S K n)) ∧ (r6 = x1 → j_X_atTown_33 x1 x3 x2 1 S K (l_X_atTown_4 x1 S K n)))))))
def w_X_atTown (x1 : Int) (S : St) (K : Int → Prop) : Prop :=
  ∃ n4 : Nat, l_X_atTown_4 x1 S K n4 0 0
def w_X_about (x1 : Int) (S : St) (K : Int → Prop) : Prop :=
  ((x1 = 0 → (InR (aI S 0 0) → K (aI S 0 0))) ∧ (x1 = 1 → (InR (aI S 0 1) → K (aI S 0 1))) ∧ (x1 = 2 → w_X_year S (fun (r4 : Int) => InR r4 → K r4)) ∧ (x1 = 3 → (InR (aI S 0 2) → K (aI S 0 2))) ∧ (x1 = 4 → (InR (aI S 0 3) → K (aI S 0 3))) ∧ (x1 = 5 → (InR (aI S 0 4) → K (aI S 0 4))) ∧ (x1 = 6 → (InR (aI S 0 5) → K (aI S 0 5))) ∧ (x1 = 7 → (InR (aI S 0 6) → K (aI S 0 6))) ∧ (x1 = 8 → (InR (aI S 0 7) → K (aI S 0 7))) ∧ (x1 = 9 → (InR (fI S 3) → K (fI S 3))) ∧ (¬ (0 ≤ x1 ∧ x1 ≤ 9) → (∀ v13 : Int, v13 = Int.bmod (x1 - 10) 4294967296 → InR v13 → w_X_isTown v13 S (fun (r14 : Int) => (r14 = 0 ∨ r14 = 1) → ((r14 = 0 → (∀ v17 : Int, v17 = Int.bmod (x1 - 20) 4294967296 → InR v17 → w_X_isTown v17 S (fun (r18 : Int) => (r18 = 0 ∨ r18 = 1) → ((r18 = 0 → K (-2)) ∧ (¬ (r18 = 0) → (∀ v21 : Int, v21 = Int.bmod (x1 - 20) 4294967296 → InR v21 → w_X_atTown v21 S (fun (r22 : Int) => InR r22 → K r22))))))) ∧ (¬ (r14 = 0) → InR (80 + x1) ∧ ((∀ v25 : Int, v25 = Int.bmod ((80 + x1) - 10) 4294967296 → InR v25 → ((0 : Int) ≤ v25 ∧ v25 < 91) ∧ ((InR (aI S 3 v25) → w_J12_bitCount (aI S 3 v25) (fun (r28 : Int) => InR r28 → K r28)))))))))))
