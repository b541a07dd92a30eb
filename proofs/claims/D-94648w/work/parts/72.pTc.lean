/-! PURE: text(): words, emit, push, whole, settle, goesOn of the twin -/
def W3 (a b c : Int) : Int := (a * 256 + b) * 256 + c
def W4 (a b c d : Int) : Int := W3 a b c * 256 + d
def W5 (a b c d e : Int) : Int := W4 a b c d * 256 + e
def W6 (a b c d e f : Int) : Int := W5 a b c d e * 256 + f
abbrev isBy (a : Int) : Prop := 0 ≤ a ∧ a < 256
theorem pM_w3 {a b c : Int} {K : Int → Prop} (ha : isBy a) (hb : isBy b) (hc : isBy c) (hK : K (W3 a b c)) : w_M_w3 a b c K := by
  have e8 : (2 : Int) ^ Int.toNat 8 = 256 := by decide
  unfold w_M_w3
  rw [e8, jOr_256 (by omega) hb, jOr_256 (by omega) hc]
  exact ⟨⟨by omega, by omega⟩, ⟨by omega, by omega⟩, hK⟩
theorem W3_bd {a b c : Int} (ha : isBy a) (hb : isBy b) (hc : isBy c) : 0 ≤ W3 a b c ∧ W3 a b c < 16777216 := by
  unfold W3
  omega
theorem W4_bd {a b c d : Int} (ha : isBy a) (hb : isBy b) (hc : isBy c) (hd : isBy d) : 0 ≤ W4 a b c d ∧ W4 a b c d < 4294967296 := by
  have := W3_bd ha hb hc
  unfold W4
  omega
theorem W5_bd {a b c d e : Int} (ha : isBy a) (hb : isBy b) (hc : isBy c) (hd : isBy d) (he : isBy e) : 0 ≤ W5 a b c d e ∧ W5 a b c d e < 1099511627776 := by
  have := W4_bd ha hb hc hd
  unfold W5
  omega
theorem pM_w4 {a b c d : Int} {K : Int → Prop} (ha : isBy a) (hb : isBy b) (hc : isBy c) (hd : isBy d) (hK : K (W4 a b c d)) : w_M_w4 a b c d K := by
  have e8 : (2 : Int) ^ Int.toNat 8 = 256 := by decide
  have z := W3_bd ha hb hc
  unfold w_M_w4
  refine pM_w3 ha hb hc (fun _ => ?_)
  rw [e8, jOr_256 (by omega) hd]
  exact ⟨⟨by omega, by omega⟩, hK⟩
theorem pM_w5 {a b c d e : Int} {K : Int → Prop} (ha : isBy a) (hb : isBy b) (hc : isBy c) (hd : isBy d) (he : isBy e) (hK : K (W5 a b c d e)) : w_M_w5 a b c d e K := by
  have e8 : (2 : Int) ^ Int.toNat 8 = 256 := by decide
  have z := W3_bd ha hb hc
  unfold w_M_w5
  refine pM_w3 ha hb hc (fun _ => ?_)
  rw [e8, jOr_256 (by omega) hd, jOr_256 (by omega) he]
  exact ⟨⟨by omega, by omega⟩, ⟨by omega, by omega⟩, hK⟩
theorem pM_w6 {a b c d e f : Int} {K : Int → Prop} (ha : isBy a) (hb : isBy b) (hc : isBy c) (hd : isBy d) (he : isBy e) (hf : isBy f) (hK : K (W6 a b c d e f)) : w_M_w6 a b c d e f K := by
  have e8 : (2 : Int) ^ Int.toNat 8 = 256 := by decide
  have z := W5_bd ha hb hc hd he
  unfold w_M_w6
  refine pM_w5 ha hb hc hd he (fun _ => ?_)
  rw [e8, jOr_256 (by omega) hf]
  exact ⟨⟨by omega, by omega⟩, hK⟩
theorem pM_isWord {T : St} {x : Int} {K : Int → Prop} (h1 : fI T 9 = 2 → fI T 11 = x → K 1) (h0 : ¬ (fI T 9 = 2 ∧ fI T 11 = x) → K 0) : w_M_isWord x T K := by
  unfold w_M_isWord
  exact fun _ => ⟨fun c => h0 (fun q => c q.1), fun c => fun _ => ⟨fun c2 => h0 (fun q => c2 q.2), fun c2 => h1 c c2⟩⟩
/-- names by their words -/
def nmW (w : Int) : Int := if w = W4 115 111 114 116 then 0 else if w = W6 119 101 105 103 104 116 then 1 else if w = W4 116 111 119 110 then 2 else if w = W6 112 114 111 111 102 115 then 3 else if w = W4 121 101 97 114 then 4 else if w = W5 111 115 111 114 116 then 5 else if w = W3 111 119 101 * 4294967296 + W4 105 103 104 116 then 6 else if w = W5 111 116 111 119 110 then 7 else -1
theorem pM_nameOf {T : St} {K : Int → Prop} (hK : K (if fI T 9 = 2 then nmW (fI T 11) else -1)) : w_M_nameOf T K := by
  unfold w_M_nameOf
  refine fun _ => ⟨fun c => fun _ => ?_, fun c => ?_⟩
  rotate_left
  · rw [if_neg c] at hK
    exact hK
  · rw [if_pos c] at hK
    unfold nmW at hK
    have big : jOr (W3 111 119 101 * 2 ^ Int.toNat 32) (W4 105 103 104 116) = W3 111 119 101 * 4294967296 + W4 105 103 104 116 := by decide
    refine pM_w4 (by decide) (by decide) (by decide) (by decide) (fun _ => ⟨fun n0 => ?_, fun e0 => ?_⟩)
    rotate_left
    · rw [if_pos e0] at hK; exact hK
    rw [if_neg n0] at hK
    refine pM_w6 (by decide) (by decide) (by decide) (by decide) (by decide) (by decide) (fun _ => ⟨fun n1 => ?_, fun e1 => ?_⟩)
    rotate_left
    · rw [if_pos e1] at hK; exact hK
    rw [if_neg n1] at hK
    refine pM_w4 (by decide) (by decide) (by decide) (by decide) (fun _ => ⟨fun n2 => ?_, fun e2 => ?_⟩)
    rotate_left
    · rw [if_pos e2] at hK; exact hK
    rw [if_neg n2] at hK
    refine pM_w6 (by decide) (by decide) (by decide) (by decide) (by decide) (by decide) (fun _ => ⟨fun n3 => ?_, fun e3 => ?_⟩)
    rotate_left
    · rw [if_pos e3] at hK; exact hK
    rw [if_neg n3] at hK
    refine pM_w4 (by decide) (by decide) (by decide) (by decide) (fun _ => ⟨fun n4 => ?_, fun e4 => ?_⟩)
    rotate_left
    · rw [if_pos e4] at hK; exact hK
    rw [if_neg n4] at hK
    refine pM_w5 (by decide) (by decide) (by decide) (by decide) (by decide) (fun _ => ⟨fun n5 => ?_, fun e5 => ?_⟩)
    rotate_left
    · rw [if_pos e5] at hK; exact hK
    rw [if_neg n5] at hK
    refine pM_w3 (by decide) (by decide) (by decide) (fun _ => ⟨by decide, pM_w4 (by decide) (by decide) (by decide) (by decide) (fun _ => ?_)⟩)
    rw [big]
    refine ⟨fun n6 => ?_, fun e6 => ?_⟩
    rotate_left
    · rw [if_pos e6] at hK; exact hK
    rw [if_neg n6] at hK
    refine pM_w5 (by decide) (by decide) (by decide) (by decide) (by decide) (fun _ => ⟨fun n7 => ?_, fun e7 => ?_⟩)
    · rw [if_neg n7] at hK; exact hK
    · rw [if_pos e7] at hK; exact hK
theorem pM_isBarred {T : St} {x : Int} {K : Int → Prop} (h1 : 4 < x → fI T 20 ≠ 2 → K 1) (h0 : ¬ (4 < x ∧ fI T 20 ≠ 2) → K 0) : w_M_isBarred x T K := by
  unfold w_M_isBarred
  exact ⟨fun c => h0 (by omega), fun c => fun _ => ⟨fun c2 => h0 (fun q => q.2 c2), fun c2 => h1 (by omega) c2⟩⟩
/-- a step written -/
def emS (T : St) (o v : Int) : St := fset (aset (aset T 2 (fI T 12 + 100 + 2 * fI T 14) o) 2 (fI T 12 + 100 + 2 * fI T 14 + 1) v) 14 (fI T 14 + 1)
theorem pM_emit {T : St} {o v : Int} {K : St → Prop} (h0 : 0 ≤ fI T 12 ∧ fI T 12 ≤ 2100) (hw : 0 ≤ fI T 14 ∧ fI T 14 < 300) (hK : K (emS T o v)) : w_M_emit o v T K := by
  unfold w_M_emit
  refine fun _ => ⟨by omega, fun _ => ⟨by omega, by omega, by omega, ?_⟩⟩
  rintro _ rfl
  rw [fI_aset]
  refine fun _ => ⟨by omega, fun _ => ⟨by omega, by omega, by omega, by omega, ?_⟩⟩
  rintro _ rfl
  rw [fI_aset, fI_aset]
  refine fun _ => ⟨by omega, ?_⟩
  rintro _ rfl
  exact hK
theorem emS_f {T : St} {o v : Int} {k : Nat} (h : k ≠ 14) : fI (emS T o v) k = fI T k := fI_fset_n h
theorem emS_14 (T : St) (o v : Int) : fI (emS T o v) 14 = fI T 14 + 1 := fI_fset_s _ _ _
theorem emS_a {T : St} {o v : Int} {k : Nat} (h : k ≠ 2) : aI (emS T o v) k = aI T k := by
  funext y
  show aI (aset (aset T 2 _ o) 2 _ v) k y = _
  rw [aI_aset_j h, aI_aset_j h]
theorem emS_2 (T : St) (o v i : Int) : aI (emS T o v) 2 i = if i = fI T 12 + 100 + 2 * fI T 14 + 1 then v else if i = fI T 12 + 100 + 2 * fI T 14 then o else aI T 2 i := by
  show aI (aset (aset T 2 _ o) 2 _ v) 2 i = _
  rw [aI_aset, aI_aset]
  simp only [true_and]
/-- what waits: the top first -/
def pl (f : Int → Int) : List Int → Prop
  | [] => True
  | a :: r => f r.length = a ∧ pl f r
theorem pl_congr {f g : Int → Int} : ∀ (l : List Int), (∀ i : Int, 0 ≤ i → i < l.length → g i = f i) → pl f l → pl g l := by
  intro l
  induction l with
  | nil => intro _ _; trivial
  | cons a r ih =>
    intro h hp
    have hl : ((a :: r).length : Int) = r.length + 1 := by
      show ((r.length + 1 : Nat) : Int) = _
      omega
    exact ⟨by rw [h _ (by omega) (by omega)]; exact hp.1, ih (fun i i0 i1 => h i i0 (by omega)) hp.2⟩
def puS (T : St) (o : Int) : St := fset (aset T 4 (fI T 17) o) 17 (fI T 17 + 1)
theorem pM_push {T : St} {o : Int} {K : St → Prop} (h : 0 ≤ fI T 17 ∧ fI T 17 < 160) (hK : K (puS T o)) : w_M_push o T K := by
  unfold w_M_push
  refine fun _ => ⟨h, ?_⟩
  rintro _ rfl
  rw [fI_aset]
  refine fun _ => ⟨by omega, ?_⟩
  rintro _ rfl
  exact hK
