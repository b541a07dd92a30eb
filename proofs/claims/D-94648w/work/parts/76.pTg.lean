/-! PURE: text(): sums of the twin, product by product -/
theorem te_gt {b : Int → Int} {n p : Int} (hp : p ≤ n) (h : tk b n p ≠ 0) : p < te b n p ∧ te b n p ≤ n ∧ p ≤ tq b n p ∧ tq b n p < n := by
  have qb := rnE_bd (b := b) (n := n) (P := isBl) (p := p) hp
  have tqe : tq b n p = rnE b n isBl p := rfl
  rw [← tqe] at qb
  unfold tk at h
  unfold te
  dsimp only at h ⊢
  by_cases c : n ≤ tq b n p
  · rw [if_pos c] at h
    exact absurd rfl h
  · rw [if_neg c]
    by_cases d : isDg (b (tq b n p))
    · rw [if_pos d, rnE_go ⟨by omega, d⟩]
      have := rnE_bd (b := b) (n := n) (P := isDg) (p := tq b n p + 1) (by omega)
      omega
    · rw [if_neg d]
      by_cases l : isLt (b (tq b n p))
      · rw [if_pos l, rnE_go ⟨by omega, l⟩]
        have := rnE_bd (b := b) (n := n) (P := isLt) (p := tq b n p + 1) (by omega)
        omega
      · rw [if_neg l]
        split
        · omega
        · omega
/-- the road of the loop -/
def go (T T' : St) : Prop := ∀ (K : Int → St → Prop) (X : St → Prop), (∃ m, l_M_summed_10 K X m T') → ∃ m, l_M_summed_10 K X m T
def goF (T : St) (f : Int) (T' : St) : Prop := ∀ (K : Int → St → Prop), K f T' → ∃ m, l_M_summed_10 K (fun zS => j_M_summed_52 zS K) m T
theorem go.trans {T T1 T2 : St} (h : go T T1) (h2 : go T1 T2) : go T T2 := fun K X hk => h K X (h2 K X hk)
theorem go.fault {T T1 T2 : St} {f : Int} (h : go T T1) (h2 : goF T1 f T2) : goF T f T2 := fun K hk => h K _ (h2 K hk)
def frS (T T' : St) (w : Int) : Prop := (∀ k, ¬ (7 ≤ k ∧ k ≤ 11) → k ≠ 14 → k ≠ 17 → k ≠ 18 → k ≠ 19 → fI T' k = fI T k) ∧ (∀ k, k ≠ 2 → k ≠ 4 → aI T' k = aI T k) ∧ ∀ i, (i < fI T 12 + 100 + 2 * w ∨ fI T 12 + 700 ≤ i) → aI T' 2 i = aI T 2 i
theorem frS.rf (T : St) (w : Int) : frS T T w := ⟨fun _ _ _ _ _ _ => rfl, fun _ _ _ => rfl, fun _ _ => rfl⟩
theorem frS.trans {T T1 T2 : St} {w w2 : Int} (h : frS T T1 w) (h2 : frS T1 T2 w2) (hw : w ≤ w2) : frS T T2 w := by
  have e12 : fI T1 12 = fI T 12 := h.1 12 (by omega) (by omega) (by omega) (by omega) (by omega)
  refine ⟨fun k k0 k1 k2 k3 k4 => by rw [h2.1 k k0 k1 k2 k3 k4, h.1 k k0 k1 k2 k3 k4], fun k k0 k1 => by rw [h2.2.1 k k0 k1, h.2.1 k k0 k1], fun i hi => ?_⟩
  rw [h2.2.2 i (by rw [e12]; omega), h.2.2 i hi]
/-- the twin within a sum: the token behind p at hand, π waits, o are open, w steps are written -/
def inS (b : Int → Int) (n lim : Int) (T : St) (p : Int) (π : List Int) (o w wh : Int) : Prop :=
  tpM T b n ∧ (0 ≤ p ∧ p ≤ n) ∧ tokM T b n p ∧ (fI T 17 = π.length ∧ pl (aI T 4) π) ∧ (fI T 18 = o ∧ 0 ≤ o ∧ o ≤ 8) ∧ (fI T 14 = w ∧ 0 ≤ w) ∧ fI T 19 = wh ∧ (0 ≤ fI T 12 ∧ fI T 12 ≤ 2100) ∧ ((fI T 20 = 2 ∧ lim = 8) ∨ (fI T 20 ≠ 2 ∧ lim = 5))
/-- the steps w .. wr - 1 and ops behind them mean φ -/
def PF (tx : Int → Int) (c w wr lim : Int) (ops : List Int) (φ : (Int → Int) → Int) : Prop := w ≤ wr ∧ ∀ tx' : Int → Int, (∀ i, c + 2 * w ≤ i → i < c + 2 * wr → tx' i = tx i) → cel tx' (c + 2 * wr) ops → cSum tx' c w (wr + ops.length) lim φ
theorem tpM.kept {T T' : St} {b : Int → Int} {n : Int} (h : tpM T b n) (h4 : fI T' 4 = fI T 4) (h3 : aI T' 3 = aI T 3) : tpM T' b n := ⟨by rw [h4]; exact h.1, h.2.1, fun k k0 k1 => by rw [h3]; exact h.2.2 k k0 k1⟩
theorem wrS.fr {T T' : St} {l : List Int} (h : wrS T T' l) (hw : fI T 14 + l.length ≤ 300) : frS T T' (fI T 14) :=
  ⟨fun k _ k1 k2 k3 k4 => h.2.2.2.2 k k1 k2 k3 k4, fun k k0 _ => h.2.2.2.1 k k0, fun i hi => h.2.2.1 i (by omega)⟩
theorem pl_app_r {f : Int → Int} : ∀ (l r : List Int), pl f (l ++ r) → pl f r := by
  intro l
  induction l with
  | nil => intro r h; exact h
  | cons a l ih => intro r h; exact ih r h.2
/-- an operator behind what was read: what binds as much is written, the operator waits -/
theorem go_op {b : Int → Int} {n lim p o w wr op least k : Int} {T : St} {ops r : List Int} {φ : (Int → Int) → Int} (h : inS b n lim T p (ops ++ r) o wr 1) (hP : PF (aI T 2) (fI T 12 + 100) w wr lim ops φ)
    (hk : wr + (ops.length + r.length) + k ≤ p ∧ 0 ≤ k) (hlen : (ops.length + r.length : Int) ≤ 100) (ho : (tk b n p = 43 ∧ op = 3 ∧ least = 3) ∨ (tk b n p = 45 ∧ op = 4 ∧ least = 3) ∨ (tk b n p = 42 ∧ op = 5 ∧ least = 5) ∨ (tk b n p = 47 ∧ op = 6 ∧ least = 5))
    (hops : ∀ a, a ∈ ops → least ≤ a ∧ a < 40) (hr : ∀ a t, r = a :: t → ¬ (least ≤ a ∧ a < 40)) :
    ∃ T', inS b n lim T' (te b n p) (op :: r) o (wr + ops.length) 0 ∧ frS T T' wr ∧ cSum (aI T' 2) (fI T 12 + 100) w (wr + ops.length) lim φ ∧ wr + ops.length + (op :: r).length + k ≤ te b n p ∧ go T T' := by
  obtain ⟨h1, h2, h3, ⟨h4, h5⟩, ⟨h6, h6b, h6c⟩, ⟨h7, h7b⟩, h8, h9, h10⟩ := h
  have tg := te_gt (b := b) (n := n) (p := p) h2.2 (by omega)
  have n300 := h1.2.1.2
  have hll : ((ops ++ r).length : Int) = ops.length + r.length := by rw [List.length_append]; omega
  have hcl : ((op :: r).length : Int) = r.length + 1 := by
    show ((r.length + 1 : Nat) : Int) = _
    omega
  obtain ⟨T1, u1, u2, u3, u4, u5⟩ := pM_settle hr ops T hops h5 (by rw [h4]; exact hll) (by omega) h9 (by omega)
  have k1 : ∀ k, k ≠ 14 → k ≠ 17 → k ≠ 18 → k ≠ 19 → fI T1 k = fI T k := u1.2.2.2.2
  have tp2 : tpM (fset (puS T1 op) 19 0) b n := h1.kept (by rw [fI_fset_n (by omega)]; show fI (fset (aset T1 4 _ op) 17 _) 4 = _; rw [fI_fset_n (by omega)]; exact k1 4 (by omega) (by omega) (by omega) (by omega)) (by
    funext y
    show aI (aset T1 4 _ op) 3 y = _
    rw [aI_aset_j (by omega), u1.2.2.2.1 3 (by omega)])
  have pk : ∀ k, k ≠ 17 → k ≠ 19 → fI (fset (puS T1 op) 19 0) k = fI T1 k := fun k k0 k1 => by
    rw [fI_fset_n k1]
    show fI (fset (aset T1 4 _ op) 17 _) k = _
    rw [fI_fset_n k0]
    rfl
  have pa : ∀ k, k ≠ 4 → aI (fset (puS T1 op) 19 0) k = aI T1 k := fun k k0 => by
    funext y
    show aI (aset T1 4 _ op) k y = _
    exact aI_aset_j k0
  obtain ⟨T2, v1, v2, v3⟩ := pM_next (p := te b n p) tp2 (by rw [pk 7 (by omega) (by omega), k1 7 (by omega) (by omega) (by omega) (by omega)]; exact h3.2.1) (by omega)
  have f14 : fI T1 14 = wr + ops.length := by rw [u1.1, h7]
  have q14 : fI T2 14 = wr + ops.length := by rw [v2.1 14 (by omega), pk 14 (by omega) (by omega), f14]
  have q17 : fI T2 17 = ((op :: r).length : Int) := by
    rw [v2.1 17 (by omega), fI_fset_n (by omega)]
    show fI (fset (aset T1 4 _ op) 17 _) 17 = _
    rw [fI_fset_s]
    omega
  have q4 : aI T2 4 = aI (aset T1 4 (fI T1 17) op) 4 := by rw [v2.2]; rfl
  have t4 : aI T1 4 = aI T 4 := u1.2.2.2.1 4 (by omega)
  have plr : pl (aI T 4) r := pl_app_r ops r h5
  refine ⟨T2, ⟨tp2.kept (v2.1 4 (by omega)) (by rw [v2.2]), by omega, v1, ⟨q17, ?_, ?_⟩, ⟨by rw [v2.1 18 (by omega), pk 18 (by omega) (by omega), u3]; exact h6, h6b, h6c⟩, ⟨q14, by omega⟩, by rw [v2.1 19 (by omega), fI_fset_s], by rw [v2.1 12 (by omega), pk 12 (by omega) (by omega), k1 12 (by omega) (by omega) (by omega) (by omega)]; exact h9, by rw [v2.1 20 (by omega), pk 20 (by omega) (by omega), k1 20 (by omega) (by omega) (by omega) (by omega)]; exact h10⟩, ?_, ?_, by omega, ?_⟩
  · rw [q4, u2, aI_aset_s]
  · refine pl_congr r (fun i i0 i1 => ?_) plr
    rw [q4, aI_aset_i (by omega), t4]
  · have fr := u1.fr (by omega)
    rw [h7] at fr
    refine ⟨fun k k0 k1' k2 k3 k4 => by rw [v2.1 k (by omega), pk k k2 k4, fr.1 k k0 k1' k2 k3 k4], fun k k0 k1' => by rw [v2.2, pa k k1', fr.2.1 k k0 k1'], fun i hi => by rw [v2.2, pa 2 (by omega)]; exact fr.2.2 i hi⟩
  · have e2 : aI T2 2 = aI T1 2 := by rw [v2.2, pa 2 (by omega)]
    rw [e2]
    refine hP.2 _ (fun i i0 i1 => u1.2.2.1 i (Or.inl (by rw [h7]; exact i1))) ?_
    have := u1.2.1
    rw [h7] at this
    exact this
  · rintro K X ⟨m, hm⟩
    refine ⟨m + 1, ?_⟩
    unfold l_M_summed_10
    have h39 : fI T 9 = tk b n p := h3.2.2.1
    rw [h8]
    refine fun _ => fun _ => ⟨fun z => absurd z (by decide), fun _ => pM_goesOn h5 h4 (by omega) (fun _ => fun _ => ⟨fun z => absurd z (by decide), fun _ => ?_⟩) (fun z => absurd (by rw [h39]; omega) z)⟩
    unfold j_M_summed_24
    rw [h8]
    refine fun _ => fun _ => ⟨fun z => absurd z (by decide), fun _ => ?_⟩
    unfold w_M_behindOne
    rw [h39]
    rintro - _ rfl -
    have fin : w_M_push op T1 (fun S10 => ∀ S11 : St, S11 = fset S10 19 0 → w_M_nextToken S11 (fun S13 => InR 0 → j_M_summed_42 0 S13 K X (l_M_summed_10 K X m))) := by
      refine pM_push (by omega) ?_
      rintro _ rfl
      refine v3 _ (fun _ => ?_)
      unfold j_M_summed_42
      exact ⟨fun _ => hm, fun z => absurd rfl z⟩
    have s3 : least = 3 → ∀ Kc : St → Prop, Kc T1 → w_M_settle 3 T Kc := by
      intro e Kc hKc
      rw [e] at u5
      exact ⟨_, u5 Kc hKc⟩
    have s5 : least = 5 → ∀ Kc : St → Prop, Kc T1 → w_M_settle 5 T Kc := by
      intro e Kc hKc
      rw [e] at u5
      exact ⟨_, u5 Kc hKc⟩
    rcases ho with ⟨o1, o2, o3⟩ | ⟨o1, o2, o3⟩ | ⟨o1, o2, o3⟩ | ⟨o1, o2, o3⟩
    · rw [o1]
      rw [o2] at fin
      refine ⟨fun _ => ?_, fun z => absurd rfl z⟩
      unfold j_M_behindOne_17 j_M_behindOne_34
      exact s3 o3 _ ⟨fun z => absurd rfl z, fun _ => fin⟩
    · rw [o1]
      rw [o2] at fin
      refine ⟨fun z => absurd z (by decide), fun _ => ⟨fun z => absurd rfl z, fun _ => ?_⟩⟩
      unfold j_M_behindOne_17 j_M_behindOne_34
      exact s3 o3 _ ⟨fun _ => fin, fun z => absurd z (by decide)⟩
    · rw [o1]
      rw [o2] at fin
      refine ⟨fun z => absurd z (by decide), fun _ => ⟨fun _ => ⟨fun _ => ?_, fun z => absurd rfl z⟩, fun z => absurd z (by decide)⟩⟩
      unfold j_M_behindOne_57 j_M_behindOne_75
      exact s5 o3 _ ⟨fun z => absurd rfl z, fun _ => fin⟩
    · rw [o1]
      rw [o2] at fin
      refine ⟨fun z => absurd z (by decide), fun _ => ⟨fun _ => ⟨fun z => absurd z (by decide), fun _ => ⟨fun z => absurd rfl z, fun _ => ?_⟩⟩, fun z => absurd z (by decide)⟩⟩
      unfold j_M_behindOne_57 j_M_behindOne_75
      exact s5 o3 _ ⟨fun _ => fin, fun z => absurd z (by decide)⟩
