/-! PURE: saints: the sharing out, bone by bone, on both sides -/
def hc (kd s : Int → Int) (k v c : Int) : Int := ssum (fun i => if s i = v ∧ kd i = c then 1 else 0) k.toNat
def mx (s : Int → Int) : Nat → Int
  | 0 => 0
  | k + 1 => if mx s k ≤ s k then s k + 1 else mx s k
theorem hc_up {kd s : Int → Int} {k v c : Int} (hk : 0 ≤ k) : hc kd s (k + 1) v c = hc kd s k v c + (if s k = v ∧ kd k = c then 1 else 0) := by
  unfold hc
  rw [show (k + 1).toNat = k.toNat + 1 by omega]
  show ssum _ _ + (if s ((k.toNat : Nat) : Int) = v ∧ kd ((k.toNat : Nat) : Int) = c then (1 : Int) else 0) = _
  rw [show ((k.toNat : Nat) : Int) = k by omega]
theorem hc_congr {kd s s' : Int → Int} {k v c : Int} (h : ∀ i, 0 ≤ i → i < k → s i = s' i) : hc kd s k v c = hc kd s' k v c := by
  unfold hc
  exact ssum_congr _ (fun i i0 i1 => by rw [h i i0 (by omega)])
theorem hc_bd {kd s : Int → Int} {k v c : Int} (hk : 0 ≤ k) : 0 ≤ hc kd s k v c ∧ hc kd s k v c ≤ k := by
  unfold hc
  have := ssum_bd (g := fun i => if s i = v ∧ kd i = c then 1 else 0) k.toNat (fun i _ _ => by split <;> omega)
  omega
theorem hc_none {kd s : Int → Int} {k v c : Int} (h : ∀ i, 0 ≤ i → i < k → s i ≠ v) : hc kd s k v c = 0 := by
  unfold hc
  have e := ssum_out (g := fun i => if s i = v ∧ kd i = c then 1 else 0) (m := 0) k.toNat (fun i i0 i1 => by rw [if_neg (fun q => h i i0 (by omega) q.1)])
  rw [Nat.zero_add] at e
  exact e
theorem mx_congr {s s' : Int → Int} : ∀ (k : Nat), (∀ i : Int, 0 ≤ i → i < k → s i = s' i) → mx s k = mx s' k := by
  intro k
  induction k with
  | zero => intro _; rfl
  | succ k ih =>
    intro h
    show (if mx s k ≤ s k then s k + 1 else mx s k) = (if mx s' k ≤ s' k then s' k + 1 else mx s' k)
    rw [ih (fun i i0 i1 => h i i0 (by omega)), h k (by omega) (by omega)]
theorem mx_bd {s : Int → Int} : ∀ (k : Nat), (∀ i : Int, 0 ≤ i → i < k → 0 ≤ s i ∧ s i ≤ mx s i.toNat) → (0 ≤ mx s k ∧ mx s k ≤ k) ∧ ∀ i : Int, 0 ≤ i → i < k → s i < mx s k := by
  intro k
  induction k with
  | zero => intro _; exact ⟨⟨Int.le_refl 0, Int.le_refl 0⟩, fun i i0 i1 => by omega⟩
  | succ k ih =>
    intro h
    obtain ⟨h1, h2⟩ := ih (fun i i0 i1 => h i i0 (by omega))
    have h3 := h k (by omega) (by omega)
    rw [Int.toNat_natCast] at h3
    have e : mx s (k + 1) = if mx s k ≤ s k then s k + 1 else mx s k := rfl
    by_cases c : mx s k ≤ s k
    · rw [if_pos c] at e
      rw [e]
      refine ⟨by omega, fun i i0 i1 => ?_⟩
      by_cases z : i = (k : Int)
      · rw [z]
        omega
      · have := h2 i i0 (by omega)
        omega
    · rw [if_neg c] at e
      rw [e]
      refine ⟨by omega, fun i i0 i1 => ?_⟩
      by_cases z : i = (k : Int)
      · rw [z]
        omega
      · exact h2 i i0 (by omega)
/-- what both sides know of the bones asked for -/
def SD (S0 T0 : St) (n most : Int) (qv : Int → Int) (ap : Int → Int → Int) (MF : Int → Int) : Prop :=
  nowA S0 T0 ∧ (0 ≤ n ∧ n ≤ 12) ∧ (0 ≤ most ∧ most ≤ 12) ∧ (fI S0 11 = n ∧ fI S0 12 = most ∧ fI T0 29 = n) ∧ (∀ i, 0 ≤ i → i < n → aI S0 10 i = qv i ∧ aI T0 8 i = qv i ∧ 0 ≤ qv i ∧ qv i < aI S0 0 1) ∧
  (∀ i k, 0 ≤ i → i < n → 0 ≤ k → k < n → aI S0 (91 + i.toNat) k = ap i k ∧ ap i k = ap k i ∧ (ap i k = 0 ∨ ap i k = 1) ∧ bt (aI T0 9 k) i = ap k i) ∧ (∀ k, 0 ≤ k → k < n → aI T0 10 k = MF (aI S0 3 (5 * qv k))) ∧
  (∀ (S' : St) (k : Int) (K : Int → Prop), coreX S0 S' → (0 ≤ k ∧ k ≤ 19) → K (MF k) → w_X_manyOf k S' K) ∧ ∀ k, 0 ≤ k → k ≤ 19 → 1 ≤ MF k ∧ MF k ≤ 9
def sXR (S0 S' : St) : Prop := (∀ k, k ≠ 11 → ¬ (79 ≤ k ∧ k ≤ 90) → aI S' k = aI S0 k) ∧ fI S' = fI S0 ∧ rI S' = rI S0 ∧ gI S' = gI S0
def sMR (T0 T' : St) : Prop := (∀ k, k ≠ 11 → aI T' k = aI T0 k) ∧ fI T' = fI T0
def sXH (S' : St) (kd : Int → Int) (k : Int) : Prop := ∀ v c, 0 ≤ v → v < 12 → 0 ≤ c → c ≤ 19 → aI S' (79 + v.toNat) c = hc kd (aI S' 11) k v c
def canP (kd s : Int → Int) (ap : Int → Int → Int) (MF : Int → Int) (k v : Int) : Prop := hc kd s k v (kd k) < MF (kd k) ∧ ∀ i, 0 ≤ i → i < k → s i = v → ap k i = 0
theorem SD.kd {S0 T0 : St} {n most : Int} {qv : Int → Int} {ap : Int → Int → Int} {MF : Int → Int} (h : SD S0 T0 n most qv ap MF) {i : Int} (i0 : 0 ≤ i) (i1 : i < n) : (0 ≤ aI S0 3 (5 * qv i) ∧ aI S0 3 (5 * qv i) ≤ 19) ∧ aI T0 0 (30 + 6 * qv i) = aI S0 3 (5 * qv i) := by
  obtain ⟨h1, h2, h3, h4, h5, -⟩ := h
  obtain ⟨q1, q2, q3, q4⟩ := h5 i i0 i1
  have g := (h1.2.2.1.2.2.2.1 (qv i) q3 q4).1
  have b := h1.2.2.1.1 (qv i) q3 q4
  exact ⟨g, b⟩
theorem pM_canHave {S0 T0 T' : St} {n most k v : Int} {qv : Int → Int} {ap : Int → Int → Int} {MF : Int → Int} {K : Int → Prop} (h : SD S0 T0 n most qv ap MF) (hm : sMR T0 T') (hk : 0 ≤ k ∧ k < n)
    (h1 : canP (fun i => aI S0 3 (5 * qv i)) (aI T' 11) ap MF k v → K 1) (h0 : ¬ canP (fun i => aI S0 3 (5 * qv i)) (aI T' 11) ap MF k v → K 0) : w_M_canHave k v T' K := by
  have hh := h
  obtain ⟨g1, g2, g3, g4, g5, g6, g7, g8, g9⟩ := h
  obtain ⟨⟨a0, a1, a2⟩, ⟨b0, b1, b2⟩, -⟩ := g1.nums
  have e0 : aI T' 0 = aI T0 0 := hm.1 0 (by omega)
  have e8 : aI T' 8 = aI T0 8 := hm.1 8 (by omega)
  have e9 : aI T' 9 = aI T0 9 := hm.1 9 (by omega)
  have e10 : aI T' 10 = aI T0 10 := hm.1 10 (by omega)
  obtain ⟨k1, k2⟩ := hh.kd hk.1 hk.2
  obtain ⟨p1, p2, p3, p4⟩ := g5 k hk.1 hk.2
  have m9 := g9 _ k1.1 k1.2
  have lp : ∀ (f : Nat) (i : Int), 0 ≤ i → i ≤ k → k - i < f → (∀ j, 0 ≤ j → j < i → aI T' 11 j = v → ap k j = 0) → l_M_canHave_5 k v T' K (fun z3 => j_M_canHave_88 k z3 T' K) f (1 + hc (fun i => aI S0 3 (5 * qv i)) (aI T' 11) i v (aI S0 3 (5 * qv k))) i := by
    intro f
    induction f with
    | zero => intro i i0 i1 i2; omega
    | succ f ih =>
      intro i i0 i1 i2 hb
      have hbd := hc_bd (kd := fun i => aI S0 3 (5 * qv i)) (s := aI T' 11) (k := i) (v := v) (c := aI S0 3 (5 * qv k)) i0
      have hup := hc_up (kd := fun i => aI S0 3 (5 * qv i)) (s := aI T' 11) (k := i) (v := v) (c := aI S0 3 (5 * qv k)) i0
      unfold l_M_canHave_5
      refine ⟨fun c => ?_, fun c => ⟨by omega, fun _ => ⟨fun ev => ?_, fun nv => ?_⟩⟩⟩
      · have ei : i = k := by omega
        subst ei
        unfold j_M_canHave_88
        rw [e10, g7 i hk.1 hk.2]
        refine ⟨by omega, fun _ => ⟨fun z => h0 (fun q => by have q1 : hc (fun i => aI S0 3 (5 * qv i)) (aI T' 11) i v (aI S0 3 (5 * qv i)) < MF (aI S0 3 (5 * qv i)) := q.1; omega), fun z => h1 ⟨by show hc (fun i => aI S0 3 (5 * qv i)) (aI T' 11) i v (aI S0 3 (5 * qv i)) < MF (aI S0 3 (5 * qv i)); omega, hb⟩⟩⟩
      · obtain ⟨r1, r2, r3, r4⟩ := g6 i k i0 (by omega) hk.1 hk.2
        obtain ⟨i2', i3'⟩ := hh.kd i0 (show i < n by omega)
        obtain ⟨o1, o2, o3, o4⟩ := g5 i i0 (by omega)
        rw [e9, e8, e0, bt_div, r4]
        refine ⟨by omega, fun _ => ⟨by omega, fun z => ⟨by omega, fun _ => ?_⟩, fun z => h0 (fun q => by have := q.2 i i0 (by omega) ev; omega)⟩⟩
        have ap0 : ap k i = 0 := by rw [← r2]; omega
        have hb' : ∀ j, 0 ≤ j → j < i + 1 → aI T' 11 j = v → ap k j = 0 := by
          intro j j0 j1 j2
          by_cases e : j = i
          · rw [e]
            exact ap0
          · exact hb j j0 (by omega) j2
        rw [o2, p2]
        refine p_boneAt (by omega) (fun _ => ⟨by omega, fun _ => ⟨by omega, fun _ => p_boneAt (by omega) (fun _ => ⟨by omega, fun _ => ?_⟩)⟩⟩)
        rw [i3', k2]
        unfold j_M_canHave_80 j_M_canHave_82
        refine ⟨fun ne => ⟨by omega, ?_⟩, fun eq => ⟨by omega, ?_⟩⟩
        · intro v6 h6 _
          have e : v6 = 1 + hc (fun i => aI S0 3 (5 * qv i)) (aI T' 11) (i + 1) v (aI S0 3 (5 * qv k)) := by
            rw [hup, if_neg (fun q => ne q.2)]
            omega
          rw [e]
          exact ⟨by omega, ih (i + 1) (by omega) (by omega) (by omega) hb'⟩
        · intro v6 h6 _
          have e : v6 = 1 + hc (fun i => aI S0 3 (5 * qv i)) (aI T' 11) (i + 1) v (aI S0 3 (5 * qv k)) := by
            rw [hup, if_pos ⟨ev, eq⟩]
            omega
          rw [e]
          exact ⟨by omega, ih (i + 1) (by omega) (by omega) (by omega) hb'⟩
      · unfold j_M_canHave_82
        have e : hc (fun i => aI S0 3 (5 * qv i)) (aI T' 11) i v (aI S0 3 (5 * qv k)) = hc (fun i => aI S0 3 (5 * qv i)) (aI T' 11) (i + 1) v (aI S0 3 (5 * qv k)) := by
          rw [hup, if_neg (fun q => nv q.1)]
          omega
        rw [e]
        refine ⟨by omega, ih (i + 1) (by omega) (by omega) (by omega) (fun j j0 j1 j2 => ?_)⟩
        by_cases z : j = i
        · rw [z] at j2
          exact absurd j2 nv
        · exact hb j j0 (by omega) j2
  unfold w_M_canHave
  have z := lp (k.toNat + 1) 0 (by omega) hk.1 (by omega) (fun j j0 j1 => by omega)
  have e : hc (fun i => aI S0 3 (5 * qv i)) (aI T' 11) 0 v (aI S0 3 (5 * qv k)) = 0 := rfl
  rw [e] at z
  exact ⟨_, z⟩
theorem pM_used {T' : St} {k : Int} {K : Int → Prop} (hk : 0 ≤ k ∧ k ≤ 12) (hs : ∀ i : Int, 0 ≤ i → i < k → 0 ≤ aI T' 11 i ∧ aI T' 11 i ≤ mx (aI T' 11) i.toNat) (hK : K (mx (aI T' 11) k.toNat)) : w_M_used k T' K := by
  have lp : ∀ (f : Nat) (i : Nat), (i : Int) ≤ k → k - i < f → l_M_used_4 k T' K f (mx (aI T' 11) i) i := by
    intro f
    induction f with
    | zero => intro i i0 i1; omega
    | succ f ih =>
      intro i i0 i1
      have e : mx (aI T' 11) (i + 1) = if mx (aI T' 11) i ≤ aI T' 11 i then aI T' 11 i + 1 else mx (aI T' 11) i := rfl
      have b := mx_bd (s := aI T' 11) i (fun j j0 j1 => hs j j0 (by omega))
      unfold l_M_used_4 j_M_used_28
      refine ⟨fun c => ?_, fun c => ⟨by omega, fun _ => ⟨fun z => ?_, fun z => ?_⟩⟩⟩
      · rw [show i = k.toNat by omega]
        exact hK
      · rw [if_neg (by omega)] at e
        rw [← e]
        exact ⟨by omega, ih (i + 1) (by omega) (by omega)⟩
      · have hi := hs i (by omega) (by omega)
        rw [Int.toNat_natCast] at hi
        rw [if_pos (by omega)] at e
        refine ⟨by omega, by omega, ?_⟩
        rintro _ rfl
        rw [← e]
        exact fun _ => ⟨by omega, ih (i + 1) (by omega) (by omega)⟩
  exact ⟨k.toNat + 1, lp (k.toNat + 1) 0 (by omega) (by omega)⟩
/-- the component: can a saint have it -/
theorem pX_can {S0 T0 S' : St} {n most k u v : Int} {qv : Int → Int} {ap : Int → Int → Int} {MF : Int → Int} {W0 : Int → Int → St → (Int → St → Prop) → Prop} {K : Int → St → Prop} {C : Int → St → Prop} (h : SD S0 T0 n most qv ap MF) (hx : sXR S0 S') (hh : sXH S' (fun i => aI S0 3 (5 * qv i)) k) (hk : 0 ≤ k ∧ k < n) (hv : 0 ≤ v ∧ v < 12)
    (h1 : canP (fun i => aI S0 3 (5 * qv i)) (aI S' 11) ap MF k v → j_X_shares_115 W0 k u (aI S0 3 (5 * qv k)) v 1 S' K C) (h0 : ¬ canP (fun i => aI S0 3 (5 * qv i)) (aI S' 11) ap MF k v → j_X_shares_115 W0 k u (aI S0 3 (5 * qv k)) v 0 S' K C) :
    ((0 : Int) ≤ v ∧ v < 12) ∧ (((0 : Int) ≤ aI S0 3 (5 * qv k) ∧ aI S0 3 (5 * qv k) < 20) ∧ ((InR (aI S' (79 + Int.toNat v) (aI S0 3 (5 * qv k))) → w_X_manyOf (aI S0 3 (5 * qv k)) S' (fun (r39 : Int) => InR r39 → ((r39 ≤ (aI S' (79 + Int.toNat v) (aI S0 3 (5 * qv k))) → j_X_shares_62 W0 k u (aI S0 3 (5 * qv k)) v 0 S' K C) ∧ (¬ (r39 ≤ (aI S' (79 + Int.toNat v) (aI S0 3 (5 * qv k)))) → j_X_shares_62 W0 k u (aI S0 3 (5 * qv k)) v 1 S' K C)))))) := by
  have hd := h
  obtain ⟨g1, g2, g3, g4, g5, g6, g7, g8, g9⟩ := h
  obtain ⟨k1, k2⟩ := hd.kd hk.1 hk.2
  refine ⟨hv, by omega, fun _ => g8 S' _ _ ⟨fun j hj => hx.1 j (by omega) (by omega), hx.2.2.1, hx.2.2.2⟩ k1 (fun _ => ?_)⟩
  rw [hh v _ hv.1 hv.2 k1.1 k1.2]
  unfold j_X_shares_62
  refine ⟨fun c => ⟨k.toNat + 1, ?_⟩, fun c => ⟨k.toNat + 2, ?_⟩⟩
  · unfold l_X_shares_67
    have no := h0 (fun q => by have q1 : hc (fun i => aI S0 3 (5 * qv i)) (aI S' 11) k v (aI S0 3 (5 * qv k)) < MF (aI S0 3 (5 * qv k)) := q.1; omega)
    exact ⟨fun _ => no, fun _ => ⟨fun _ => no, fun z => absurd rfl z⟩⟩
  · have lp : ∀ (f : Nat) (i : Int), 0 ≤ i → i ≤ k → k - i < f → (∀ j, 0 ≤ j → j < i → aI S' 11 j = v → ap k j = 0) → l_X_shares_67 W0 k u (aI S0 3 (5 * qv k)) v S' K (fun z5 => j_X_shares_115 W0 k u (aI S0 3 (5 * qv k)) v z5 S' K C) (f + 1) 1 i := by
      intro f
      induction f with
      | zero => intro i i0 i1 i2; omega
      | succ f ih =>
        intro i i0 i1 i2 hb
        unfold l_X_shares_67 j_X_shares_102 j_X_shares_107
        refine ⟨fun c2 => ?_, fun c2 => ⟨fun z => absurd z (by decide), fun _ => ⟨by omega, fun _ => ⟨fun ne => ?_, fun ev => ?_⟩⟩⟩⟩
        · have ei : i = k := by omega
          subst ei
          exact h1 ⟨by show hc (fun i => aI S0 3 (5 * qv i)) (aI S' 11) i v (aI S0 3 (5 * qv i)) < MF (aI S0 3 (5 * qv i)); omega, hb⟩
        · refine ⟨by omega, ih (i + 1) (by omega) (by omega) (by omega) (fun j j0 j1 j2 => ?_)⟩
          by_cases z : j = i
          · rw [z] at j2
            exact absurd j2 ne
          · exact hb j j0 (by omega) j2
        · obtain ⟨r1, r2, r3, r4⟩ := g6 i k i0 (by omega) hk.1 hk.2
          have ea : aI S' (91 + Int.toNat i) = aI S0 (91 + Int.toNat i) := hx.1 _ (by omega) (by omega)
          rw [ea, r1]
          refine ⟨by omega, by omega, fun _ => fun _ => ⟨fun z => ⟨by omega, ?_⟩, fun z => ⟨by omega, ih (i + 1) (by omega) (by omega) (by omega) (fun j j0 j1 j2 => ?_)⟩⟩⟩
          · have no := h0 (fun q => by have := q.2 i i0 (by omega) ev; omega)
            unfold l_X_shares_67
            exact ⟨fun _ => no, fun _ => ⟨fun _ => no, fun z2 => absurd rfl z2⟩⟩
          · by_cases z2 : j = i
            · rw [z2, ← r2]
              exact z
            · exact hb j j0 (by omega) j2
    exact lp (k.toNat + 1) 0 (by omega) hk.1 (by omega) (fun j j0 j1 => by omega)
