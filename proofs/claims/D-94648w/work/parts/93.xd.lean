/-! PURE: text(): next() of the component, whole -/
theorem rn_all {b : Int → Int} {n : Int} {P : Int → Prop} [DecidablePred P] : ∀ (m : Nat) (p : Int), ∀ k, p ≤ k → k < rn b n P m p → P (b k) := by
  intro m
  induction m with
  | zero => intro p k h1 h2; have : rn b n P 0 p = p := rfl; omega
  | succ m ih =>
    intro p k h1 h2
    have e : rn b n P (m + 1) p = if p < n ∧ P (b p) then rn b n P m (p + 1) else p := rfl
    rw [e] at h2
    by_cases c : p < n ∧ P (b p)
    · rw [if_pos c] at h2
      by_cases c2 : k = p
      · subst c2; exact c.2
      · exact ih (p + 1) k (by omega) h2
    · rw [if_neg c] at h2
      omega
theorem rnE_all {b : Int → Int} {n : Int} {P : Int → Prop} [DecidablePred P] {p : Int} : ∀ k, p ≤ k → k < rnE b n P p → P (b k) := rn_all _ p
section XNX
variable {b : Int → Int} {n p : Int}
theorem t_end (h : n ≤ tq b n p) : te b n p = tq b n p ∧ tk b n p = 0 := ⟨by show (if n ≤ tq b n p then _ else _) = _; rw [if_pos h], by show (if n ≤ tq b n p then _ else _) = _; rw [if_pos h]⟩
theorem t_dig (h : ¬ n ≤ tq b n p) (hd : isDg (b (tq b n p))) : te b n p = rnE b n isDg (tq b n p) ∧ tk b n p = 1 := ⟨by show (if n ≤ tq b n p then _ else _) = _; rw [if_neg h, if_pos hd], by show (if n ≤ tq b n p then _ else _) = _; rw [if_neg h, if_pos hd]⟩
theorem t_let (h : ¬ n ≤ tq b n p) (hd : isLt (b (tq b n p))) : te b n p = rnE b n isLt (tq b n p) ∧ tk b n p = 2 := by
  have h2 : ¬ isDg (b (tq b n p)) := by unfold isDg isLt at *; omega
  exact ⟨by show (if n ≤ tq b n p then _ else _) = _; rw [if_neg h, if_neg h2, if_pos hd], by show (if n ≤ tq b n p then _ else _) = _; rw [if_neg h, if_neg h2, if_pos hd]⟩
theorem t_two (h : ¬ n ≤ tq b n p) (h1 : ¬ isDg (b (tq b n p))) (h2 : ¬ isLt (b (tq b n p))) (h3 : (b (tq b n p) = 60 ∨ b (tq b n p) = 62) ∧ tq b n p + 1 < n ∧ b (tq b n p + 1) = 61) : te b n p = tq b n p + 2 ∧ tk b n p = if b (tq b n p) = 60 then 4 else 5 := ⟨by show (if n ≤ tq b n p then _ else _) = _; rw [if_neg h, if_neg h1, if_neg h2, if_pos h3], by show (if n ≤ tq b n p then _ else _) = _; rw [if_neg h, if_neg h1, if_neg h2, if_pos h3]⟩
theorem t_one (h : ¬ n ≤ tq b n p) (h1 : ¬ isDg (b (tq b n p))) (h2 : ¬ isLt (b (tq b n p))) (h3 : ¬ ((b (tq b n p) = 60 ∨ b (tq b n p) = 62) ∧ tq b n p + 1 < n ∧ b (tq b n p + 1) = 61)) : te b n p = tq b n p + 1 ∧ tk b n p = if sgn (b (tq b n p)) then b (tq b n p) else 3 := ⟨by show (if n ≤ tq b n p then _ else _) = _; rw [if_neg h, if_neg h1, if_neg h2, if_neg h3], by show (if n ≤ tq b n p then _ else _) = _; rw [if_neg h, if_neg h1, if_neg h2, if_neg h3]⟩
theorem sX_0 (h : tk b n p = 0) : sX b n p = 301 := by unfold sX; rw [if_pos h]
theorem sX_1 (h : tk b n p = 1) : sX b n p = 300 := by unfold sX; rw [if_neg (by omega), if_pos h]
theorem sX_2 (h : tk b n p = 2) : sX b n p = wsF (tw b n p) 24 := by unfold sX; rw [if_neg (by omega), if_neg (by omega), if_pos h]
theorem sX_3 (h : tk b n p = 3) : sX b n p = 302 := by unfold sX; rw [if_neg (by omega), if_neg (by omega), if_neg (by omega), if_pos h]
theorem sX_4 (h : tk b n p = 4) : sX b n p = 303 := by unfold sX; rw [if_neg (by omega), if_neg (by omega), if_neg (by omega), if_neg (by omega), if_pos h]
theorem sX_5 (h : tk b n p = 5) : sX b n p = 304 := by unfold sX; rw [if_neg (by omega), if_neg (by omega), if_neg (by omega), if_neg (by omega), if_neg (by omega), if_pos h]
theorem sX_s (h : 6 ≤ tk b n p) : sX b n p = tk b n p := by unfold sX; rw [if_neg (by omega), if_neg (by omega), if_neg (by omega), if_neg (by omega), if_neg (by omega), if_neg (by omega)]
theorem x_348 {S : St} {o kd num so q c tok : Int} {tp x0 : Nat} (hh : hT S b n tp) {K : St → Prop} (hq : 0 ≤ q ∧ q < n) (h1 : ¬ (q + 1 < n ∧ b (q + 1) = 61) → K (tS S x0 tp n (q + 1) tok so num o kd)) (h2 : q + 1 < n → b (q + 1) = 61 → K (tS S x0 tp n (q + 2) tok (if c = 60 then 303 else 304) num o kd)) : j_X3_next_348 x0 c (tS S x0 tp n (q + 1) tok so num o kd) K := by
  have hn := hh.2.1
  refine ⟨_, _, tS_g, rfl, fun _ => ⟨_, _, tS_g, rfl, fun _ => ⟨fun c1 => h1 (fun z => by omega), fun c1 => ⟨_, _, tS_g, rfl, hh.1, _, _, tS_g, rfl, fun _ => ⟨⟨by omega, by omega⟩, fun _ _ => ?_⟩⟩⟩⟩⟩
  obtain ⟨g1, g2, g3⟩ := hh.2.2 (q + 1) (by omega) (by omega)
  have e8 : aI (tS S x0 tp n (q + 1) tok so num o kd) 8 (q + 1) = aI S 8 (q + 1) := rfl
  rw [e8]
  refine ⟨fun c2 => h1 (fun z => by have := z.2; omega), fun c2 => ⟨fun c3 => ⟨_, tS_g, rfl, fun S1 e1 => ?_⟩, fun c3 => ⟨_, tS_g, rfl, fun S1 e1 => ?_⟩⟩⟩
  · obtain rfl : S1 = tS S x0 tp n (q + 1) tok 304 num o kd := e1.trans (gset_gset _ _ _ _)
    refine ⟨_, _, tS_g, rfl, fun _ => ⟨by constructor <;> omega, _, tS_g, rfl, fun S2 e2 => ?_⟩⟩
    obtain rfl : S2 = tS S x0 tp n (q + 1 + 1) tok 304 num o kd := e2.trans (gset_gset _ _ _ _)
    have h := h2 (by omega) (by omega)
    rw [if_neg c3, show q + 2 = q + 1 + 1 by omega] at h
    exact h
  · obtain rfl : S1 = tS S x0 tp n (q + 1) tok 303 num o kd := e1.trans (gset_gset _ _ _ _)
    refine ⟨_, _, tS_g, rfl, fun _ => ⟨by constructor <;> omega, _, tS_g, rfl, fun S2 e2 => ?_⟩⟩
    obtain rfl : S2 = tS S x0 tp n (q + 1 + 1) tok 303 num o kd := e2.trans (gset_gset _ _ _ _)
    have h := h2 (by omega) (by omega)
    rw [if_pos c3, show q + 2 = q + 1 + 1 by omega] at h
    exact h
theorem x_next {S : St} {o kd t0 s0 m0 : Int} {tp x0 : Nat} (hh : hT S b n tp) (hB : 0 ≤ fI S 200 ∧ 0 ≤ fI S 201) (hp : 0 ≤ p ∧ p ≤ n) {K : St → Prop} (hK : ∀ num : Int, (tk b n p = 1 → num = min 99999 (tm b n p)) → (tk b n p ≠ 1 → num = m0) → K (tS S x0 tp n (te b n p) (tq b n p) (sX b n p) num o kd)) : w_X3_next x0 (tS S x0 tp n p t0 s0 m0 o kd) K := by
  have hn := hh.2.1
  refine ⟨(n - p).toNat + 1, x_tok0 hh _ p hp.1 hp.2 (by push_cast; omega) ?_⟩
  have hq := rnE_bd (b := b) (n := n) (P := isBl) hp.2
  show j_X3_next_52 x0 (tS S x0 tp n (tq b n p) t0 s0 m0 o kd) K
  have eq : tq b n p = rnE b n isBl p := rfl
  rw [← eq] at hq
  generalize hqq : tq b n p = q at hq
  refine ⟨_, _, tS_g, rfl, fun _ => ⟨_, tS_g, rfl, fun S1 e1 => ?_⟩⟩
  obtain rfl : S1 = tS S x0 tp n q q s0 m0 o kd := e1.trans (gset_gset _ _ _ _)
  refine ⟨_, _, tS_g, rfl, fun _ => ⟨_, _, tS_g, rfl, fun _ => ⟨fun c => ?_, fun c => ⟨_, tS_g, rfl, fun S2 e2 => ?_⟩⟩⟩⟩
  · have hlt : ¬ n ≤ tq b n p := by omega
    obtain ⟨g1, g2, g3⟩ := hh.2.2 q (by omega) (by omega)
    refine ⟨_, _, tS_g, rfl, hh.1, _, _, tS_g, rfl, fun _ => ⟨⟨by omega, by omega⟩, fun _ _ => p_isLetX (fun c2 _ => ⟨fun z => absurd z (by decide), fun _ => ?_⟩) (fun c2 _ => ⟨fun _ => ?_, fun z => absurd rfl z⟩)⟩⟩
    · have c3 : isLt (aI S 8 q) := c2
      have c4 : isLt (b (tq b n p)) := by rw [hqq]; unfold isLt at c3 ⊢; omega
      obtain ⟨t1, t2⟩ := t_let hlt c4
      have hr := rnE_bd (b := b) (n := n) (P := isLt) hq.2
      refine ⟨(n - q).toNat + 1, x_lets hh _ q (by omega) hq.2 (by push_cast; omega) ⟨_, tS_g, rfl, fun S2 e2 => ?_⟩⟩
      obtain rfl : S2 = tS S x0 tp n (rnE b n isLt q) q 302 m0 o kd := e2.trans (gset_gset _ _ _ _)
      have ew : tw b n p = if rnE b n isLt q - q ≤ 7 then pck b (rnE b n isLt q - q).toNat q 0 else 0 := by
        show (if te b n p - tq b n p ≤ 7 then _ else _) = _
        rw [t1, hqq]
      have h := hK m0 (fun z => by omega) (fun _ => rfl)
      rw [t1, hqq, sX_2 t2] at h
      refine ⟨25, x_words (w := tw b n p) hh hB ⟨by omega, hr.1⟩ hr.2 (fun i hi => ?_) h 25 0 (by omega) (by omega)⟩
      rw [ew]
      exact mtc_pw hi hr.1 (fun k k0 k1 => rnE_all k k0 k1)
    · have c3 : ¬ isLt (aI S 8 q) := c2
      refine ⟨_, _, tS_g, rfl, hh.1, _, _, tS_g, rfl, fun _ => ⟨⟨by omega, by omega⟩, fun _ _ => p_isDigX (fun d2 _ => ⟨fun z => absurd z (by decide), fun _ => ⟨_, tS_g, rfl, fun S2 e2 => ?_⟩⟩) (fun d2 _ => ⟨fun _ => ?_, fun z => absurd rfl z⟩)⟩⟩
      · obtain rfl : S2 = tS S x0 tp n q q 300 m0 o kd := e2.trans (gset_gset _ _ _ _)
        refine ⟨_, tS_g, rfl, fun S3 e3 => ?_⟩
        obtain rfl : S3 = tS S x0 tp n q q 300 (min 99999 (dgs b (q - q).toNat q 0)) o kd := by
          rw [show (q - q).toNat = 0 by omega]
          exact e3.trans (gset_gset _ _ _ _)
        have d3 : isDg (aI S 8 q) := d2
        have d4 : isDg (b (tq b n p)) := by rw [hqq]; unfold isDg at d3 ⊢; omega
        obtain ⟨t1, t2⟩ := t_dig hlt d4
        have h := hK _ (fun _ => rfl) (fun z => absurd t2 z)
        unfold tm at h
        rw [t1, hqq, sX_1 t2] at h
        exact ⟨(n - q).toNat + 1, x_digs hh (by omega) _ q (by omega) hq.2 (by push_cast; omega) (fun k k0 k1 => by omega) h⟩
      · have d3 : ¬ isDg (aI S 8 q) := d2
        have c4 : ¬ isLt (b (tq b n p)) := by rw [hqq]; unfold isLt at c3 ⊢; omega
        have d4 : ¬ isDg (b (tq b n p)) := by rw [hqq]; unfold isDg at d3 ⊢; omega
        refine ⟨_, _, tS_g, rfl, hh.1, _, _, tS_g, rfl, fun _ => ⟨⟨by omega, by omega⟩, fun _ _ v ev rv => ⟨_, _, tS_g, rfl, fun _ => ⟨by constructor <;> omega, _, tS_g, rfl, fun S2 e2 => ?_⟩⟩⟩⟩
        have ev : v = aI S 8 q := ev
        obtain rfl : S2 = tS S x0 tp n (q + 1) q s0 m0 o kd := e2.trans (gset_gset _ _ _ _)
        refine ⟨_, tS_g, rfl, fun S3 e3 => ⟨12, ?_⟩⟩
        obtain rfl : S3 = tS S x0 tp n (q + 1) q 302 m0 o kd := e3.trans (gset_gset _ _ _ _)
        have kone : ¬ ((b q = 60 ∨ b q = 62) ∧ q + 1 < n ∧ b (q + 1) = 61) → K (tS S x0 tp n (q + 1) q (if sgn v then v else 302) m0 o kd) := fun z => by
          obtain ⟨t1, t2⟩ := t_one hlt d4 c4 (by rw [hqq]; exact z)
          rw [hqq] at t1 t2
          have ht : tk b n p ≠ 1 := by
            rw [t2]; split
            · rename_i s; unfold sgn at s; omega
            · decide
          have h := hK m0 (fun z => absurd z ht) (fun _ => rfl)
          have es : sX b n p = if sgn v then v else 302 := by
            by_cases s : sgn v
            · have s2 : sgn (b q) := by unfold sgn at s ⊢; omega
              rw [if_pos s]
              rw [if_pos s2] at t2
              rw [sX_s (by rw [t2]; unfold sgn at s2; omega), t2]
              unfold sgn at s2
              omega
            · have s2 : ¬ sgn (b q) := by unfold sgn at s ⊢; omega
              rw [if_neg s]
              rw [if_neg s2] at t2
              rw [sX_3 t2]
          rw [t1, hqq, es] at h
          exact h
        have ktwo : (v = 60 ∨ v = 62) → q + 1 < n → b (q + 1) = 61 → K (tS S x0 tp n (q + 2) q (if v = 60 then 303 else 304) m0 o kd) := fun z1 z2 z3 => by
          obtain ⟨t1, t2⟩ := t_two hlt d4 c4 (by rw [hqq]; exact ⟨by omega, z2, z3⟩)
          rw [hqq] at t1 t2
          have h := hK m0 (fun z => by rw [t2] at z; split at z <;> omega) (fun _ => rfl)
          have es : sX b n p = if v = 60 then 303 else 304 := by
            by_cases s : v = 60
            · rw [if_pos s]
              rw [if_pos (by omega)] at t2
              exact sX_4 t2
            · rw [if_neg s]
              rw [if_neg (by omega)] at t2
              exact sX_5 t2
          rw [t1, hqq, es] at h
          exact h
        refine x_signs rv ?_ 12 0 302 (by omega) (by omega) (by omega) (Or.inl ⟨rfl, fun k k0 k1 => by omega⟩)
        refine ⟨fun z => x_348 hh ⟨by omega, by omega⟩ (fun y => kone (fun x => y x.2)) (ktwo (Or.inl z)), fun z => ⟨fun y => kone (fun x => by have := x.1; omega), fun y => x_348 hh ⟨by omega, by omega⟩ (fun y => kone (fun x => y x.2)) (ktwo (Or.inr y))⟩⟩
  · obtain rfl : S2 = tS S x0 tp n q q 301 m0 o kd := e2.trans (gset_gset _ _ _ _)
    obtain ⟨t1, t2⟩ := t_end (b := b) (n := n) (p := p) (by omega)
    have h := hK m0 (fun z => by omega) (fun _ => rfl)
    rw [t1, hqq, sX_0 t2] at h
    exact h
end XNX
