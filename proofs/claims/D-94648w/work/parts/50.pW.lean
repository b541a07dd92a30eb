/-! PURE: what the texts say, worked out on both sides -/
def aw (T : St) (v5 v6 v7 : Int → Int) : St := aput (aput (aput T 5 v5) 6 v6) 7 v7
def coreX (S S' : St) : Prop := (∀ k, k ≤ 3 → aI S' k = aI S k) ∧ rI S' = rI S ∧ gI S' = gI S
def coreM (T T' : St) : Prop := aI T' 0 = aI T 0 ∧ aI T' 2 = aI T 2
theorem coreX.refl (S : St) : coreX S S := ⟨fun _ _ => rfl, rfl, rfl⟩
theorem coreM.refl (T : St) : coreM T T := ⟨rfl, rfl⟩
theorem coreX.names {S S' : St} (h : coreX S S') (v : Int → Int) : coreX S (aput S' 9 v) := ⟨fun k hk => by rw [← h.1 k hk]; funext y; exact aI_aput_n (by omega), h.2.1, h.2.2⟩
theorem coreM.awk {T T' : St} (h : coreM T T') (v5 v6 v7 : Int → Int) : coreM T (aw T' v5 v6 v7) := by
  unfold aw
  refine ⟨?_, ?_⟩
  · rw [← h.1]
    funext y
    rw [aI_aput_n (by omega), aI_aput_n (by omega), aI_aput_n (by omega)]
  · rw [← h.2]
    funext y
    rw [aI_aput_n (by omega), aI_aput_n (by omega), aI_aput_n (by omega)]
theorem aput_aput (S : St) (k : Nat) (f g : Int → Int) : aput (aput S k f) k g = aput S k g := by
  unfold aput
  congr 2
  funext x y
  by_cases hx : x = k <;> simp [hx]
theorem aput_comm {S : St} {j k : Nat} {f g : Int → Int} (h : j ≠ k) : aput (aput S j f) k g = aput (aput S k g) j f := by
  unfold aput
  congr 2
  funext x y
  by_cases hx : x = k
  · subst hx
    by_cases hy : x = j
    · exact absurd hy.symm h
    · simp [hy]
  · simp [hx]
theorem aw_aw (T : St) (u5 u6 u7 v5 v6 v7 : Int → Int) : aw (aw T u5 u6 u7) v5 v6 v7 = aw T v5 v6 v7 := by
  unfold aw
  rw [aput_comm (j := 7) (k := 5) (by omega), aput_comm (j := 6) (k := 5) (by omega), aput_aput, aput_comm (j := 7) (k := 6) (by omega), aput_aput, aput_aput]
theorem aw_self (T : St) : aw T (aI T 5) (aI T 6) (aI T 7) = T := by
  unfold aw
  rw [aput_self T 5, aput_self T 6, aput_self T 7]
theorem aw_5 (T : St) (v : Int → Int) : aput T 5 v = aw T v (aI T 6) (aI T 7) := by
  unfold aw
  have e6 : aI (aput T 5 v) 6 = aI T 6 := by funext y; exact aI_aput_n (by omega)
  have e7 : aI (aput T 5 v) 7 = aI T 7 := by funext y; exact aI_aput_n (by omega)
  rw [← e6, aput_self, ← e7, aput_self]
theorem aw_6 (T : St) (v5 v6 v7 v : Int → Int) : aput (aw T v5 v6 v7) 6 v = aw T v5 v v7 := by
  unfold aw
  rw [aput_comm (j := 7) (k := 6) (by omega), aput_aput]
theorem aw_67 (T : St) (v5 v6 v7 v u : Int → Int) : aput (aput (aw T v5 v6 v7) 6 v) 7 u = aw T v5 v u := by
  rw [aw_6]
  unfold aw
  rw [aput_aput]
theorem p_clauseOf_in {T : St} {s : Int} {K : Int → Prop} (ha : 0 ≤ aI T 0 4 ∧ aI T 0 4 ≤ 3) (hc : 0 ≤ aI T 2 (700 * aI T 0 4) ∧ aI T 2 (700 * aI T 0 4) ≤ 24)
    (h1 : ∀ k, 0 ≤ k → k < aI T 2 (700 * aI T 0 4) → aI T 2 (700 * aI T 0 4 + 1 + 4 * k) = s → (∀ i, 0 ≤ i → i < k → aI T 2 (700 * aI T 0 4 + 1 + 4 * i) ≠ s) → K k) (h0 : (∀ k, 0 ≤ k → k < aI T 2 (700 * aI T 0 4) → aI T 2 (700 * aI T 0 4 + 1 + 4 * k) ≠ s) → K (-1)) :
    ∀ (n : Nat) (j : Int), 0 ≤ j → j ≤ aI T 2 (700 * aI T 0 4) → aI T 2 (700 * aI T 0 4) - j < n → (∀ i, 0 ≤ i → i < j → aI T 2 (700 * aI T 0 4 + 1 + 4 * i) ≠ s) → l_M_clauseOf_2 s T K n j := by
  intro n
  induction n with
  | zero => intro j p0 p1 p2; omega
  | succ n ih =>
    intro j p0 p1 p2 p3
    unfold l_M_clauseOf_2
    refine fun _ => ⟨fun c => absurd c (by omega), fun _ => ⟨by omega, by omega, fun _ => ⟨fun c => h0 (fun k k0 k1 => p3 k k0 (by omega)), fun c => ⟨by omega, by omega, by omega, by omega, fun _ => ⟨fun c2 => ⟨by omega, ?_⟩, fun c2 => h1 j p0 (by omega) c2 p3⟩⟩⟩⟩⟩
    refine ih (j + 1) (by omega) (by omega) (by omega) (fun i i0 i1 => ?_)
    by_cases e : i = j
    · rw [e]
      exact c2
    · exact p3 i i0 (by omega)
theorem p_clauseOf {T : St} {s : Int} {K : Int → Prop} (ha : 0 ≤ aI T 0 4 ∧ aI T 0 4 ≤ 3) (hc : 0 ≤ aI T 2 (700 * aI T 0 4) ∧ aI T 2 (700 * aI T 0 4) ≤ 24)
    (h1 : ∀ k, 0 ≤ k → k < aI T 2 (700 * aI T 0 4) → aI T 2 (700 * aI T 0 4 + 1 + 4 * k) = s → (∀ i, 0 ≤ i → i < k → aI T 2 (700 * aI T 0 4 + 1 + 4 * i) ≠ s) → K k) (h0 : (∀ k, 0 ≤ k → k < aI T 2 (700 * aI T 0 4) → aI T 2 (700 * aI T 0 4 + 1 + 4 * k) ≠ s) → K (-1)) : w_M_clauseOf s T K :=
  ⟨25, p_clauseOf_in ha hc h1 h0 25 0 (by omega) (by omega) (by omega) (fun i i0 i1 => by omega)⟩
theorem p_clauseOf0 {T : St} {s : Int} {K : Int → Prop} (ha : aI T 0 4 < 0) (h0 : K (-1)) : w_M_clauseOf s T K := ⟨1, fun _ => ⟨fun _ => h0, fun c => absurd ha c⟩⟩
theorem p_work_sum {T : St} {k lim : Int} {φ : (Int → Int) → Int} (ha : 0 ≤ aI T 0 4 ∧ aI T 0 4 ≤ 3) (hk : 0 ≤ k ∧ k < 24) (hc : cSum (aI T 2) (700 * aI T 0 4 + 100) (aI T 2 (700 * aI T 0 4 + 2 + 4 * k)) (aI T 2 (700 * aI T 0 4 + 3 + 4 * k)) lim φ) (hn : NB lim (aI T 5)) : ∃ V : Int → Int, V 0 = φ (aI T 5) ∧ ∀ K : St → Prop, K (aput T 6 V) → w_M_work k T K := by
  obtain ⟨⟨c1, c2, c3, c4, c5⟩, hc⟩ := hc
  obtain ⟨V, -, hV, hc⟩ := hc 0 0 T (fun _ _ _ => rfl) (by omega) hn
  refine ⟨V, hV, fun K hK => ?_⟩
  unfold w_M_work
  refine fun _ => ⟨by omega, by omega, by omega, by omega, ?_⟩
  rintro _ rfl
  refine fun _ => ⟨by omega, ?_⟩
  rintro _ rfl
  refine fun _ => ⟨by omega, by omega, fun _ => ?_⟩
  have e1 : 700 * aI T 0 4 + 1 + 4 * k + 1 = 700 * aI T 0 4 + 2 + 4 * k := by omega
  have e2 : 700 * aI T 0 4 + 1 + 4 * k + 2 = 700 * aI T 0 4 + 3 + 4 * k := by omega
  rw [e1]
  rintro _ rfl
  intro _
  refine ⟨_, hc (700 * aI T 0 4 + 1 + 4 * k) K 1 (by omega) (by rw [e2]; omega) ?_⟩
  unfold l_M_work_47
  rw [aI_aput_n (by omega), e2]
  exact ⟨by omega, by omega, fun _ => ⟨fun _ => hK, fun c => absurd (Int.le_refl _) c⟩⟩
theorem p_work_ask {T : St} {k lim : Int} {ψ : (Int → Int) → Int} (ha : 0 ≤ aI T 0 4 ∧ aI T 0 4 ≤ 3) (hk : 0 ≤ k ∧ k < 24) (hc : cAsk (aI T 2) (700 * aI T 0 4 + 100) (aI T 2 (700 * aI T 0 4 + 2 + 4 * k)) (aI T 2 (700 * aI T 0 4 + 3 + 4 * k)) lim ψ) (hn : NB lim (aI T 5)) : ∃ V B : Int → Int, B 0 = ψ (aI T 5) ∧ ∀ K : St → Prop, K (aput (aput T 6 V) 7 B) → w_M_work k T K := by
  obtain ⟨⟨c1, c2, c3, c4, c5⟩, hc⟩ := hc
  obtain ⟨V, B, -, -, hB, hc⟩ := hc 0 0 T (fun _ _ _ => rfl) (by omega) (by omega) hn
  refine ⟨V, B, hB, fun K hK => ?_⟩
  unfold w_M_work
  refine fun _ => ⟨by omega, by omega, by omega, by omega, ?_⟩
  rintro _ rfl
  refine fun _ => ⟨by omega, ?_⟩
  rintro _ rfl
  refine fun _ => ⟨by omega, by omega, fun _ => ?_⟩
  have e1 : 700 * aI T 0 4 + 1 + 4 * k + 1 = 700 * aI T 0 4 + 2 + 4 * k := by omega
  have e2 : 700 * aI T 0 4 + 1 + 4 * k + 2 = 700 * aI T 0 4 + 3 + 4 * k := by omega
  rw [e1]
  rintro _ rfl
  intro _
  refine ⟨_, hc (700 * aI T 0 4 + 1 + 4 * k) K 1 (by omega) (by rw [e2]; omega) ?_⟩
  unfold l_M_work_47
  rw [aI_aput_n (by omega), aI_aput_n (by omega), e2]
  exact ⟨by omega, by omega, fun _ => ⟨fun _ => hK, fun c => absurd (Int.le_refl _) c⟩⟩
/-- the names of a bone, and of another -/
def nmsM (f : Int → Int) (b o : Int) (v : Int → Int) : Prop := v 0 = f (30 + 6 * b) ∧ v 1 = f (31 + 6 * b) ∧ v 2 = f (33 + 6 * b) ∧ v 3 = ssum (bt (f (35 + 6 * b))) 16 ∧ v 4 = f 2 ∧ v 5 = f (30 + 6 * o) ∧ v 6 = f (31 + 6 * o) ∧ v 7 = f (33 + 6 * o)
def nmV (T : St) (b o : Int) : Int → Int := fun y => if y = 7 then aI T 0 (30 + 6 * o + 3) else if y = 6 then aI T 0 (30 + 6 * o + 1) else if y = 5 then aI T 0 (30 + 6 * o) else if y = 4 then aI T 0 2 else if y = 3 then ssum (bt (aI T 0 (30 + 6 * b + 5))) 16 else if y = 2 then aI T 0 (30 + 6 * b + 3) else if y = 1 then aI T 0 (30 + 6 * b + 1) else if y = 0 then aI T 0 (30 + 6 * b) else aI T 5 y
theorem nmV_is (T : St) (b o : Int) : nmsM (aI T 0) b o (nmV T b o) := by
  unfold nmsM nmV
  refine ⟨?_, ?_, ?_, ?_, ?_, ?_, ?_, ?_⟩
  · simp
  · simp
    congr 1
    omega
  · simp
    congr 1
    omega
  · simp
    rw [show 30 + 6 * b + 5 = 35 + 6 * b by omega]
  · simp
  · simp
  · simp
    congr 1
    omega
  · simp
    congr 1
    omega
theorem p_name {b o : Int} {T : St} {K : St → Prop} (hb : 0 ≤ b ∧ b < 16) (ho : 0 ≤ o ∧ o < 16) (hK : K (aput T 5 (nmV T b o))) : w_M_name b o T K := by
  unfold w_M_name
  refine p_boneAt (by omega) (fun _ => p_boneAt (by omega) (fun _ => ⟨by omega, fun _ => ?_⟩))
  rintro _ rfl
  rw [aset_eq T]
  refine ⟨by omega, by omega, fun _ => ?_⟩
  rintro _ rfl
  rw [aset_aput, aI_aput_n (by omega)]
  refine ⟨by omega, by omega, fun _ => ?_⟩
  rintro _ rfl
  rw [aset_aput, aI_aput_n (by omega)]
  refine ⟨by omega, by omega, fun _ => p_bits (fun _ => ?_)⟩
  rintro _ rfl
  rw [aset_aput, aI_aput_n (by omega), aI_aput_n (by omega)]
  intro _
  rintro _ rfl
  rw [aset_aput]
  refine ⟨by omega, fun _ => ?_⟩
  rintro _ rfl
  rw [aset_aput, aI_aput_n (by omega)]
  refine ⟨by omega, by omega, fun _ => ?_⟩
  rintro _ rfl
  rw [aset_aput, aI_aput_n (by omega)]
  refine ⟨by omega, by omega, fun _ => ?_⟩
  rintro _ rfl
  rw [aset_aput, aI_aput_n (by omega)]
  exact hK
def nmsX (S : St) (b : Int) (v : Int → Int) : Prop := v 0 = aI S 3 (5 * b) ∧ v 1 = aI S 3 (5 * b + 1) ∧ v 2 = aI S 3 (5 * b + 3) ∧ v 3 = ssum (fun t => bt (aI S 3 (80 + t)) b) (aI S 0 0).toNat ∧ v 4 = aI S 3 90
theorem pX_names {b : Int} {S : St} {K : St → Prop} (hb : 0 ≤ b ∧ b < 16) (ht : 0 ≤ aI S 0 0 ∧ aI S 0 0 ≤ 10) (hK : ∀ v, nmsX S b v → K (aput S 9 v)) : w_X_names b S K := by
  unfold w_X_names
  refine pX_bone_2 hb (by omega) (fun _ => ?_)
  rintro _ rfl
  rw [aset_eq S]
  refine pX_bone_2 hb (by omega) (fun _ => ?_)
  rintro _ rfl
  rw [aset_aput, aI_aput_n (by omega)]
  refine pX_bone_2 hb (by omega) (fun _ => ?_)
  rintro _ rfl
  rw [aset_aput, aI_aput_n (by omega)]
  refine pX_proofsOf (by omega) (by rw [aI_aput_n (by omega)]; exact ht) (fun _ => ?_)
  rintro _ rfl
  rw [aset_aput]
  refine pX_year (fun _ => ?_)
  rintro _ rfl
  rw [aset_aput, aI_aput_n (by omega)]
  refine hK _ ?_
  unfold nmsX
  refine ⟨?_, ?_, ?_, ?_, ?_⟩
  · simp
  · simp
  · simp
  · have e3 : ∀ (f : Int → Int) (y : Int), aI (aput S 9 f) 3 y = aI S 3 y := fun f y => aI_aput_n (by omega)
    have e0 : ∀ (f : Int → Int) (y : Int), aI (aput S 9 f) 0 y = aI S 0 y := fun f y => aI_aput_n (by omega)
    simp [e3, e0]
  · simp
/-- both sides' names agree -/
theorem nms_eq {S T : St} (h : nowA S T) {b o : Int} {v v' : Int → Int} (hb : 0 ≤ b ∧ b < aI S 0 1) (hv : nmsX S b v) (hv' : nmsM (aI T 0) b o v') : ∀ i, 0 ≤ i → i < 5 → v i = v' i := by
  obtain ⟨x0, x1, x2, x3, x4⟩ := hv
  obtain ⟨y0, y1, y2, y3, y4, -⟩ := hv'
  have z0 := h.bone (e := 0) hb.1 hb.2 (by omega) (by omega)
  have z1 := h.bone (e := 1) hb.1 hb.2 (by omega) (by omega)
  have z3 := h.bone (e := 3) hb.1 hb.2 (by omega) (by omega)
  rw [Int.add_zero, Int.add_zero] at z0
  rw [show 30 + 6 * b + 1 = 31 + 6 * b by omega] at z1
  rw [show 30 + 6 * b + 3 = 33 + 6 * b by omega] at z3
  have z5 := h.count hb.1 hb.2
  have z2 := h.nums.2.2.1
  intro i i0 i1
  have : i = 0 ∨ i = 1 ∨ i = 2 ∨ i = 3 ∨ i = 4 := by omega
  rcases this with rfl | rfl | rfl | rfl | rfl
  · rw [x0, y0, z0]
  · rw [x1, y1, z1]
  · rw [x2, y2, z3]
  · rw [x3, y3, z5]
  · rw [x4, y4, z2]
theorem nms_NB {S T : St} (h : nowA S T) {b : Int} {v : Int → Int} (hb : 0 ≤ b ∧ b < aI S 0 1) (hv : nmsX S b v) : NB 5 v := by
  obtain ⟨x0, x1, x2, x3, x4⟩ := hv
  obtain ⟨⟨a0, a1, a2⟩, -⟩ := h.nums
  have g := h.2.2.1.2.2
  have gb := g.2.1 b hb.1 hb.2
  have gy := g.1
  have s := ssum_bd (g := fun t => bt (aI S 3 (80 + t)) b) (aI S 0 0).toNat (fun i _ _ => bt_bd _ _)
  intro i i0 i1
  have : i = 0 ∨ i = 1 ∨ i = 2 ∨ i = 3 ∨ i = 4 := by omega
  rcases this with rfl | rfl | rfl | rfl | rfl
  · rw [x0]; omega
  · rw [x1]; omega
  · rw [x2]; omega
  · rw [x3]; omega
  · rw [x4]; omega
theorem pX_rules {S : St} {K : Option Nat → Prop} (ht : -1 ≤ aI S 0 3 ∧ aI S 0 3 < 4) (h0 : aI S 0 3 = -1 → K none) (h1 : 0 ≤ aI S 0 3 → K (rI S 140 (aI S 0 3))) : w_X_rules S K := by
  unfold w_X_rules
  exact fun _ => ⟨fun c => ⟨by omega, h1 (by omega)⟩, fun c => h0 c⟩
