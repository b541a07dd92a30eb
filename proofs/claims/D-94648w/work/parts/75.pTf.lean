/-! PURE: text(): what the steps of a question mean -/
def cmpV (op a b : Int) : Int := if op = 10 then (if a < b then 1 else 0) else if op = 11 then (if a ≤ b then 1 else 0) else if op = 12 then (if b < a then 1 else 0) else if op = 13 then (if b ≤ a then 1 else 0) else if op = 14 then (if a = b then 1 else 0) else (if a = b then 0 else 1)
theorem cmpV_01 (op a b : Int) : cmpV op a b = 0 ∨ cmpV op a b = 1 := by
  unfold cmpV
  repeat' split
  all_goals (first | exact Or.inl rfl | exact Or.inr rfl)
theorem pM_isAsked {op a b : Int} {K : Int → Prop} (ho : 10 ≤ op ∧ op ≤ 15) (hK : K (cmpV op a b)) : w_M_isAsked op a b K := by
  unfold cmpV at hK
  unfold w_M_isAsked
  refine ⟨fun n0 => ?_, fun c => ⟨fun z => ?_, fun z => ?_⟩⟩
  rotate_left
  · rw [if_pos c, if_neg (by omega)] at hK; exact hK
  · rw [if_pos c, if_pos (by omega)] at hK; exact hK
  rw [if_neg n0] at hK
  refine ⟨fun n1 => ?_, fun c => ⟨fun z => ?_, fun z => ?_⟩⟩
  rotate_left
  · rw [if_pos c, if_neg (by omega)] at hK; exact hK
  · rw [if_pos c, if_pos (by omega)] at hK; exact hK
  rw [if_neg n1] at hK
  refine ⟨fun n2 => ?_, fun c => ⟨fun z => ?_, fun z => ?_⟩⟩
  rotate_left
  · rw [if_pos c, if_neg (by omega)] at hK; exact hK
  · rw [if_pos c, if_pos (by omega)] at hK; exact hK
  rw [if_neg n2] at hK
  refine ⟨fun n3 => ?_, fun c => ⟨fun z => ?_, fun z => ?_⟩⟩
  rotate_left
  · rw [if_pos c, if_neg (by omega)] at hK; exact hK
  · rw [if_pos c, if_pos (by omega)] at hK; exact hK
  rw [if_neg n3] at hK
  refine ⟨fun n4 => ⟨fun z => ?_, fun z => ?_⟩, fun c => ⟨fun z => ?_, fun z => ?_⟩⟩
  · rw [if_neg n4, if_pos z] at hK; exact hK
  · rw [if_neg n4, if_neg z] at hK; exact hK
  · rw [if_pos c, if_neg z] at hK; exact hK
  · rw [if_pos c, if_pos z] at hK; exact hK
theorem okB.cmp {lim op : Int} {φ χ : (Int → Int) → Int} (h : okF lim φ) (h2 : okF lim χ) : okB lim (fun v => cmpV op (φ v) (χ v)) :=
  ⟨fun v v' e => by show cmpV op (φ v) (χ v) = cmpV op (φ v') (χ v'); rw [h.1 v v' e, h2.1 v v' e], fun v => cmpV_01 _ _ _⟩
theorem okB.not {lim : Int} {ψ : (Int → Int) → Int} (h : okB lim ψ) : okB lim (fun v => 1 - ψ v) :=
  ⟨fun v v' e => by show 1 - ψ v = 1 - ψ v'; rw [h.1 v v' e], fun v => by have := h.2 v; show 1 - ψ v = 0 ∨ 1 - ψ v = 1; omega⟩
def twoV (op a b : Int) : Int := if op = 21 then (if a = 0 then 0 else b) else (if a = 0 then b else 1)
theorem okB.two {lim op : Int} {ψ χ : (Int → Int) → Int} (h : okB lim ψ) (h2 : okB lim χ) : okB lim (fun v => twoV op (ψ v) (χ v)) := by
  refine ⟨fun v v' e => by show twoV op (ψ v) (χ v) = twoV op (ψ v') (χ v'); rw [h.1 v v' e, h2.1 v v' e], fun v => ?_⟩
  have a := h.2 v
  have b := h2.2 v
  show twoV op (ψ v) (χ v) = 0 ∨ twoV op (ψ v) (χ v) = 1
  unfold twoV
  split <;> split <;> omega
theorem cA_cmp {tx : Int → Int} {c lo mid hi lim op : Int} {φ χ : (Int → Int) → Int} (h : cSum tx c lo mid lim φ) (g : cSum tx c mid hi lim χ) (hlm : lo < mid) (hc : hi + 1 ≤ 300 ∧ c + 2 * (hi + 1) ≤ 2800) (h0 : tx (c + 2 * hi) = op) (ho : 10 ≤ op ∧ op ≤ 15) (h1 : InR (tx (c + 2 * hi + 1))) : cAsk tx c lo (hi + 1) lim (fun v => cmpV op (φ v) (χ v)) := by
  obtain ⟨⟨c1, c2, c3, c4, c5⟩, h⟩ := h
  obtain ⟨⟨d1, d2, d3, d4, d5⟩, g⟩ := g
  refine ⟨by omega, fun n tr T e hn ht hN => ?_⟩
  obtain ⟨V, v1, v2, v3⟩ := h n tr T (fun i i0 i1 => e i i0 (by omega)) (by omega) hN
  have e5 : aI (aput T 6 V) 5 = aI T 5 := by funext y; exact aI_aput_n (by omega)
  obtain ⟨V2, w1, w2, w3⟩ := g (n + 1) tr (aput T 6 V) (fun i i0 i1 => by rw [aI_aput_n (by omega)]; exact e i (by omega) (by omega)) (by omega) (by rw [e5]; exact hN)
  rw [e5] at w2
  refine ⟨V2, fun y => if y = tr then cmpV op (φ (aI T 5)) (χ (aI T 5)) else aI T 7 y, fun j hj => ?_, fun j hj => if_neg (by omega), if_pos rfl, fun x2 K m hx hh hk => ?_⟩
  · rw [w1 j (by omega), aI_aput_s]
    exact v1 j hj
  rw [show m + (hi + 1 - lo).toNat = m + 1 + (hi - mid).toNat + (mid - lo).toNat by omega]
  refine v3 x2 K (m + 1 + (hi - mid).toNat) hx (by omega) (w3 x2 K (m + 1) hx (by rw [aI_aput_n (by omega)]; omega) ?_)
  rw [aput_aput]
  unfold l_M_work_47
  have e2 : ∀ j, aI (aput T 6 V2) 2 j = aI T 2 j := fun j => aI_aput_n (by omega)
  rw [e2, e2, e2, e (c + 2 * hi) (by omega) (by omega), e (c + 2 * hi + 1) (by omega) (by omega), h0]
  refine ⟨by omega, by omega, fun _ => ⟨fun z => absurd z (by omega), fun _ => ⟨by omega, by omega, by omega, fun _ => ?_⟩⟩⟩
  intro v19 e19 _
  subst v19
  refine ⟨by omega, by omega, fun _ => ?_⟩
  rintro _ rfl -
  refine ⟨fun _ => ⟨fun _ => ⟨fun _ => ⟨fun z => absurd z (by omega), fun _ => ⟨by omega, by omega, fun _ => ⟨by omega, by omega, fun _ => ?_⟩⟩⟩, fun z => absurd z (by omega)⟩, fun z => absurd z (by omega)⟩, fun z => absurd z (by omega)⟩
  have a1 : aI (aput T 6 V2) 6 (n + 1 + 1 + -2) = φ (aI T 5) := by
    rw [aI_aput_s, show n + 1 + 1 + -2 = n by omega, w1 n (by omega), aI_aput_s]
    exact v2
  have a2 : aI (aput T 6 V2) 6 (n + 1 + 1 + -2 + 1) = χ (aI T 5) := by
    rw [aI_aput_s, show n + 1 + 1 + -2 + 1 = n + 1 by omega]
    exact w2
  rw [a1, a2]
  refine pM_isAsked ho (fun _ => ⟨by omega, ?_⟩)
  rintro _ rfl
  unfold j_M_work_353
  refine ⟨by omega, by omega, ?_⟩
  have es : aset (aput T 6 V2) 7 tr (cmpV op (φ (aI T 5)) (χ (aI T 5))) = aput (aput T 6 V2) 7 (fun y => if y = tr then cmpV op (φ (aI T 5)) (χ (aI T 5)) else aI T 7 y) := by
    have z := aset_aput (aput T 6 V2) 7 (aI (aput T 6 V2) 7) tr (cmpV op (φ (aI T 5)) (χ (aI T 5)))
    rw [aput_self] at z
    rw [z]
    have e7 : aI (aput T 6 V2) 7 = aI T 7 := by funext y; exact aI_aput_n (by omega)
    rw [e7]
  rw [show n + 1 + 1 + -2 = n by omega, es]
  exact hk
theorem cA_not {tx : Int → Int} {c lo hi lim : Int} {ψ : (Int → Int) → Int} (h : cAsk tx c lo hi lim ψ) (ok : okB lim ψ) (hc : hi + 1 ≤ 300 ∧ c + 2 * (hi + 1) ≤ 2800) (h0 : tx (c + 2 * hi) = 20) (h1 : InR (tx (c + 2 * hi + 1))) : cAsk tx c lo (hi + 1) lim (fun v => 1 - ψ v) := by
  obtain ⟨⟨c1, c2, c3, c4, c5⟩, h⟩ := h
  refine ⟨by omega, fun n tr T e hn ht hN => ?_⟩
  obtain ⟨V, B, v1, v1b, v2, v3⟩ := h n tr T (fun i i0 i1 => e i i0 (by omega)) (by omega) (by omega) hN
  have b01 := ok.2 (aI T 5)
  refine ⟨V, fun y => if y = tr then 1 - ψ (aI T 5) else B y, v1, fun j hj => by show (if j = tr then _ else B j) = _; rw [if_neg (by omega)]; exact v1b j hj, if_pos rfl, fun x2 K m hx hh hk => ?_⟩
  rw [show m + (hi + 1 - lo).toNat = m + 1 + (hi - lo).toNat by omega]
  refine v3 x2 K (m + 1) hx (by omega) ?_
  unfold l_M_work_47
  have e2 : ∀ j, aI (aput (aput T 6 V) 7 B) 2 j = aI T 2 j := fun j => by rw [aI_aput_n (by omega), aI_aput_n (by omega)]
  rw [e2, e2, e2, e (c + 2 * hi) (by omega) (by omega), e (c + 2 * hi + 1) (by omega) (by omega), h0]
  refine ⟨by omega, by omega, fun _ => ⟨fun z => absurd z (by omega), fun _ => ⟨by omega, by omega, by omega, fun _ => ?_⟩⟩⟩
  rintro _ rfl -
  refine ⟨by omega, by omega, fun _ => ?_⟩
  rintro _ rfl -
  have a1 : aI (aput (aput T 6 V) 7 B) 7 (tr + 1 - 1) = ψ (aI T 5) := by rw [aI_aput_s, show tr + 1 - 1 = tr by omega]; exact v2
  rw [a1, show tr + 1 - 1 = tr by omega]
  have fin : ∀ y2 : Int, y2 = 1 - ψ (aI T 5) → j_M_work_273 x2 c (n) (tr + 1) hi tr y2 (aput (aput T 6 V) 7 B) K (l_M_work_47 x2 c K m) := by
    rintro _ rfl
    unfold j_M_work_273 j_M_work_353
    refine ⟨by omega, by omega, ?_⟩
    rintro _ rfl
    rw [aset_aput]
    exact ⟨by omega, hk⟩
  exact ⟨fun _ => ⟨fun _ => ⟨fun _ => ⟨fun _ => ⟨fun z => absurd rfl z, fun _ => ⟨by omega, by omega, fun _ => fun _ => ⟨fun z => fin 0 (by omega), fun z => fin 1 (by omega)⟩⟩⟩, fun z => absurd z (by omega)⟩, fun z => absurd z (by omega)⟩, fun z => absurd z (by omega)⟩, fun z => absurd z (by omega)⟩
theorem cA_two {tx : Int → Int} {c lo mid hi lim op : Int} {ψ χ : (Int → Int) → Int} (h : cAsk tx c lo mid lim ψ) (ok : okB lim ψ) (g : cAsk tx c mid hi lim χ) (ok2 : okB lim χ) (hlm : lo < mid) (hc : hi + 1 ≤ 300 ∧ c + 2 * (hi + 1) ≤ 2800) (h0 : tx (c + 2 * hi) = op) (ho : op = 21 ∨ op = 22) (h1 : InR (tx (c + 2 * hi + 1))) : cAsk tx c lo (hi + 1) lim (fun v => twoV op (ψ v) (χ v)) := by
  obtain ⟨⟨c1, c2, c3, c4, c5⟩, h⟩ := h
  obtain ⟨⟨d1, d2, d3, d4, d5⟩, g⟩ := g
  refine ⟨by omega, fun n tr T e hn ht hN => ?_⟩
  obtain ⟨V, B, v1, v1b, v2, v3⟩ := h n tr T (fun i i0 i1 => e i i0 (by omega)) (by omega) (by omega) hN
  have e5 : aI (aput (aput T 6 V) 7 B) 5 = aI T 5 := by funext y; rw [aI_aput_n (by omega), aI_aput_n (by omega)]
  have e2 : ∀ (V B : Int → Int) j, aI (aput (aput T 6 V) 7 B) 2 j = aI T 2 j := fun V B j => by rw [aI_aput_n (by omega), aI_aput_n (by omega)]
  obtain ⟨V2, B2, w1, w1b, w2, w3⟩ := g n (tr + 1) (aput (aput T 6 V) 7 B) (fun i i0 i1 => by rw [e2]; exact e i (by omega) (by omega)) (by omega) (by omega) (by rw [e5]; exact hN)
  rw [e5] at w2
  have e6 : aI (aput (aput T 6 V) 7 B) 6 = V := by funext y; rw [aI_aput_n (by omega), aI_aput_s]
  have es : aput (aput (aput (aput T 6 V) 7 B) 6 V2) 7 B2 = aput (aput T 6 V2) 7 B2 := by rw [aput_comm (show (7 : Nat) ≠ 6 by omega), aput_aput, aput_aput]
  rw [es] at w3
  rw [e6] at w1
  have b01 := ok.2 (aI T 5)
  have b02 := ok2.2 (aI T 5)
  refine ⟨V2, fun y => if y = tr then twoV op (ψ (aI T 5)) (χ (aI T 5)) else B2 y, fun j hj => by rw [w1 j hj]; exact v1 j hj, fun j hj => ?_, if_pos rfl, fun x2 K m hx hh hk => ?_⟩
  · show (if j = tr then _ else B2 j) = _
    rw [if_neg (by omega), w1b j (by omega), aI_aput_s]
    exact v1b j hj
  rw [show m + (hi + 1 - lo).toNat = m + 1 + (hi - mid).toNat + (mid - lo).toNat by omega]
  refine v3 x2 K (m + 1 + (hi - mid).toNat) hx (by omega) (w3 x2 K (m + 1) hx (by rw [e2]; omega) ?_)
  unfold l_M_work_47
  rw [e2, e2, e2, e (c + 2 * hi) (by omega) (by omega), e (c + 2 * hi + 1) (by omega) (by omega), h0]
  refine ⟨by omega, by omega, fun _ => ⟨fun z => absurd z (by omega), fun _ => ⟨by omega, by omega, by omega, fun _ => ?_⟩⟩⟩
  intro v19 e19 _
  subst v19
  refine ⟨by omega, by omega, fun _ => ?_⟩
  rintro _ rfl -
  have i1 : tr + 1 + 1 + -1 - 1 = tr := by omega
  have i2 : tr + 1 + 1 + -1 = tr + 1 := by omega
  rw [i1, i2]
  have a1 : aI (aput (aput T 6 V2) 7 B2) 7 tr = ψ (aI T 5) := by rw [aI_aput_s, w1b tr (by omega), aI_aput_s]; exact v2
  have a2 : aI (aput (aput T 6 V2) 7 B2) 7 (tr + 1) = χ (aI T 5) := by rw [aI_aput_s]; exact w2
  rw [a1, a2]
  have fin : ∀ y2 : Int, y2 = twoV op (ψ (aI T 5)) (χ (aI T 5)) → j_M_work_352 x2 c n (tr + 1) hi tr y2 (aput (aput T 6 V2) 7 B2) K (l_M_work_47 x2 c K m) := by
    rintro _ rfl
    unfold j_M_work_352 j_M_work_353
    refine ⟨by omega, ?_, ?_⟩
    · unfold twoV
      split <;> split <;> omega
    rintro _ rfl
    rw [aset_aput]
    exact ⟨by omega, hk⟩
  unfold twoV at fin
  refine ⟨fun _ => ⟨fun _ => ⟨fun _ => ⟨fun _ => ⟨fun _ => ⟨by omega, by omega, fun n21 => ⟨by omega, fun _ => fun _ => ⟨fun z => ?_, fun z => ⟨by omega, fun _ => fun _ => ⟨fun z2 => ?_, fun z2 => ?_⟩⟩⟩⟩, fun e21 => ⟨by omega, fun _ => fun _ => ⟨fun z => ?_, fun z => ⟨by omega, fun _ => fun _ => ⟨fun z2 => ?_, fun z2 => ?_⟩⟩⟩⟩⟩, fun z => absurd z (by omega)⟩, fun z => absurd z (by omega)⟩, fun z => absurd z (by omega)⟩, fun z => absurd z (by omega)⟩, fun z => absurd z (by omega)⟩
  · unfold j_M_work_347
    exact fin 1 (by rw [if_neg n21, if_neg z])
  · exact fin 0 (by rw [if_neg n21, if_pos z, z2])
  · unfold j_M_work_347
    exact fin 1 (by rw [if_neg n21, if_pos z]; omega)
  · unfold j_M_work_321
    exact fin 0 (by rw [if_pos e21, if_pos z])
  · unfold j_M_work_321
    exact fin 0 (by rw [if_pos e21, if_neg z, z2])
  · exact fin 1 (by rw [if_pos e21, if_neg z]; omega)
