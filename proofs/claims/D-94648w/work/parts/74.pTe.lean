/-! PURE: text(): what the steps mean -/
def clipV (x : Int) : Int := max (-1000000) (min 1000000 x)
def binV (op a b : Int) : Int := if op = 3 then clipV (a + b) else if op = 4 then clipV (a - b) else if op = 5 then clipV (a * b) else if b = 0 then 0 else clipV (Int.tdiv a b)
theorem clipV_bd (x : Int) : -1000000 ≤ clipV x ∧ clipV x ≤ 1000000 := by
  unfold clipV
  omega
theorem binV_bd (op a b : Int) : -1000000 ≤ binV op a b ∧ binV op a b ≤ 1000000 := by
  unfold binV
  split
  · exact clipV_bd _
  · split
    · exact clipV_bd _
    · split
      · exact clipV_bd _
      · split
        · omega
        · exact clipV_bd _
theorem pM_clip {x : Int} {K : Int → Prop} (hK : K (clipV x)) : w_M_clip x K := by
  unfold w_M_clip
  unfold clipV at hK
  refine ⟨fun c => ⟨fun c2 => ?_, fun c2 => ?_⟩, fun c => ?_⟩
  · rw [show max (-1000000) (min 1000000 x) = x by omega] at hK; exact hK
  · rw [show max (-1000000) (min 1000000 x) = -1000000 by omega] at hK; exact hK
  · rw [show max (-1000000) (min 1000000 x) = 1000000 by omega] at hK; exact hK
abbrev inM (a : Int) : Prop := -1000000 ≤ a ∧ a ≤ 1000000
theorem mul_inM {a b : Int} (ha : inM a) (hb : inM b) : -1000000000000 ≤ a * b ∧ a * b ≤ 1000000000000 := by
  have h : (a * b).natAbs ≤ 1000000 * 1000000 := by
    rw [Int.natAbs_mul]
    exact Nat.mul_le_mul (by omega) (by omega)
  omega
theorem tdiv_inM {a b : Int} (ha : inM a) : inM (Int.tdiv a b) := by
  have h : (Int.tdiv a b).natAbs ≤ a.natAbs := by
    rw [Int.natAbs_tdiv]
    exact Nat.div_le_self _ _
  omega
theorem pM_two {op a b : Int} {K : Int → Prop} (ho : 3 ≤ op ∧ op ≤ 6) (ha : inM a) (hb : inM b) (hK : K (binV op a b)) : w_M_two op a b K := by
  have m := mul_inM ha hb
  have t := tdiv_inM (b := b) ha
  unfold binV at hK
  unfold w_M_two
  refine ⟨fun c => ⟨⟨by omega, by omega⟩, pM_clip (fun _ => ?_)⟩, fun c => ⟨⟨by omega, by omega⟩, pM_clip (fun _ => ?_)⟩, fun c => ⟨⟨by omega, by omega⟩, pM_clip (fun _ => ?_)⟩, fun c => ⟨fun z => ⟨z, ⟨by omega, by omega⟩, pM_clip (fun _ => ?_)⟩, fun z => ?_⟩⟩
  · rw [if_pos c] at hK; exact hK
  · rw [if_neg (by omega), if_pos c] at hK; exact hK
  · rw [if_neg (by omega), if_neg (by omega), if_pos c] at hK; exact hK
  · rw [if_neg (by omega), if_neg (by omega), if_neg (by omega), if_neg z] at hK; exact hK
  · rw [if_neg (by omega), if_neg (by omega), if_neg (by omega), if_pos z] at hK; exact hK
theorem okF.bin {lim op : Int} {φ χ : (Int → Int) → Int} (h : okF lim φ) (h2 : okF lim χ) : okF lim (fun v => binV op (φ v) (χ v)) :=
  ⟨fun v v' e => by show binV op (φ v) (χ v) = binV op (φ v') (χ v'); rw [h.1 v v' e, h2.1 v v' e], fun v _ => binV_bd _ _ _⟩
theorem okF.neg {lim : Int} {φ : (Int → Int) → Int} (h : okF lim φ) : okF lim (fun v => -φ v) :=
  ⟨fun v v' e => by show -φ v = -φ v'; rw [h.1 v v' e], fun v hv => by have := h.2 v hv; show -1000000 ≤ -φ v ∧ -φ v ≤ 1000000; omega⟩
theorem okF.num {lim n : Int} (h : 0 ≤ n ∧ n ≤ 9999) : okF lim (fun _ => n) := ⟨fun _ _ _ => rfl, fun _ _ => by show -1000000 ≤ n ∧ n ≤ 1000000; omega⟩
theorem okF.name {lim i : Int} (h : 0 ≤ i ∧ i < lim) : okF lim (fun v => v i) := ⟨fun v v' e => e i h.1 h.2, fun v hv => by have := hv i h.1 h.2; show -1000000 ≤ v i ∧ v i ≤ 1000000; omega⟩
theorem cS_congr {tx tx' : Int → Int} {c lo hi lim : Int} {φ : (Int → Int) → Int} (h : cSum tx c lo hi lim φ) (e : ∀ i, c + 2 * lo ≤ i → i < c + 2 * hi → tx' i = tx i) : cSum tx' c lo hi lim φ :=
  ⟨h.1, fun n tr T h1 h2 h3 => h.2 n tr T (fun i i0 i1 => by rw [h1 i i0 i1, e i i0 i1]) h2 h3⟩
theorem cA_congr {tx tx' : Int → Int} {c lo hi lim : Int} {ψ : (Int → Int) → Int} (h : cAsk tx c lo hi lim ψ) (e : ∀ i, c + 2 * lo ≤ i → i < c + 2 * hi → tx' i = tx i) : cAsk tx' c lo hi lim ψ :=
  ⟨h.1, fun n tr T h1 h2 h3 h4 => h.2 n tr T (fun i i0 i1 => by rw [h1 i i0 i1, e i i0 i1]) h2 h3 h4⟩
theorem cS_num {tx : Int → Int} {c lo lim v : Int} (hc : 0 ≤ c ∧ 0 ≤ lo ∧ lo + 1 ≤ 300 ∧ c + 2 * (lo + 1) ≤ 2800) (h0 : tx (c + 2 * lo) = 0) (h1 : tx (c + 2 * lo + 1) = v) (hv : 0 ≤ v ∧ v ≤ 9999) : cSum tx c lo (lo + 1) lim (fun _ => v) := by
  refine ⟨by omega, fun n tr T e hn hN => ⟨fun y => if y = n then v else aI T 6 y, fun j hj => if_neg (by omega), if_pos rfl, fun x2 K m hx hh hk => ?_⟩⟩
  rw [show m + (lo + 1 - lo).toNat = m + 1 by omega]
  unfold l_M_work_47
  rw [e (c + 2 * lo) (by omega) (by omega), e (c + 2 * lo + 1) (by omega) (by omega), h0, h1]
  refine ⟨by omega, by omega, fun _ => ⟨fun z => absurd z (by omega), fun _ => ⟨by omega, by omega, by omega, fun _ => ?_⟩⟩⟩
  rintro _ rfl -
  refine ⟨by omega, by omega, fun _ => ?_⟩
  rintro _ rfl -
  refine ⟨fun z => absurd z (by omega), fun _ => ⟨fun z => absurd rfl z, fun _ => ?_⟩⟩
  unfold j_M_work_119 j_M_work_353
  refine ⟨by omega, ?_⟩
  rintro _ rfl
  refine ⟨by omega, by omega, ?_⟩
  rw [← aput_self T 6, aset_aput]
  exact hk
theorem cS_name {tx : Int → Int} {c lo lim i : Int} (hc : 0 ≤ c ∧ 0 ≤ lo ∧ lo + 1 ≤ 300 ∧ c + 2 * (lo + 1) ≤ 2800) (h0 : tx (c + 2 * lo) = 1) (h1 : tx (c + 2 * lo + 1) = i) (hi : 0 ≤ i ∧ i < lim ∧ i < 8) : cSum tx c lo (lo + 1) lim (fun v => v i) := by
  refine ⟨by omega, fun n tr T e hn hN => ⟨fun y => if y = n then aI T 5 i else aI T 6 y, fun j hj => if_neg (by omega), if_pos rfl, fun x2 K m hx hh hk => ?_⟩⟩
  rw [show m + (lo + 1 - lo).toNat = m + 1 by omega]
  unfold l_M_work_47
  rw [e (c + 2 * lo) (by omega) (by omega), e (c + 2 * lo + 1) (by omega) (by omega), h0, h1]
  refine ⟨by omega, by omega, fun _ => ⟨fun z => absurd z (by omega), fun _ => ⟨by omega, by omega, by omega, fun _ => ?_⟩⟩⟩
  rintro _ rfl -
  refine ⟨by omega, by omega, fun _ => ?_⟩
  rintro _ rfl -
  refine ⟨fun z => absurd z (by omega), fun _ => ⟨fun _ => ⟨by omega, fun _ => ?_⟩, fun z => absurd z (by decide)⟩⟩
  unfold j_M_work_119 j_M_work_353
  refine ⟨by omega, ?_⟩
  rintro _ rfl
  refine ⟨by omega, by omega, ?_⟩
  rw [← aput_self T 6, aset_aput, aput_self]
  exact hk
theorem cS_neg {tx : Int → Int} {c lo hi lim : Int} {φ : (Int → Int) → Int} (h : cSum tx c lo hi lim φ) (ok : okF lim φ) (hc : hi + 1 ≤ 300 ∧ c + 2 * (hi + 1) ≤ 2800) (h0 : tx (c + 2 * hi) = 2) (h1 : InR (tx (c + 2 * hi + 1))) : cSum tx c lo (hi + 1) lim (fun v => -φ v) := by
  obtain ⟨⟨c1, c2, c3, c4, c5⟩, h⟩ := h
  refine ⟨by omega, fun n tr T e hn hN => ?_⟩
  obtain ⟨V, v1, v2, v3⟩ := h n tr T (fun i i0 i1 => e i i0 (by omega)) (by omega) hN
  have bd := ok.2 _ hN
  refine ⟨fun y => if y = n then -φ (aI T 5) else V y, fun j hj => by show (if j = n then _ else V j) = _; rw [if_neg (by omega)]; exact v1 j hj, if_pos rfl, fun x2 K m hx hh hk => ?_⟩
  rw [show m + (hi + 1 - lo).toNat = m + 1 + (hi - lo).toNat by omega]
  refine v3 x2 K (m + 1) hx (by omega) ?_
  unfold l_M_work_47
  have e2 : ∀ j, aI (aput T 6 V) 2 j = aI T 2 j := fun j => aI_aput_n (by omega)
  rw [e2, e2, e2, e (c + 2 * hi) (by omega) (by omega), e (c + 2 * hi + 1) (by omega) (by omega), h0]
  refine ⟨by omega, by omega, fun _ => ⟨fun z => absurd z (by omega), fun _ => ⟨by omega, by omega, by omega, fun _ => ?_⟩⟩⟩
  rintro _ rfl -
  refine ⟨by omega, by omega, fun _ => ?_⟩
  rintro _ rfl -
  refine ⟨fun _ => ⟨fun z => absurd rfl z, fun _ => ⟨by omega, by omega, fun _ => ?_⟩⟩, fun z => absurd z (by omega)⟩
  rw [aI_aput_s, show n + 1 - 1 = n by omega, v2]
  refine ⟨⟨by omega, by omega⟩, by omega, ?_⟩
  rintro _ rfl
  unfold j_M_work_353
  refine ⟨by omega, ?_⟩
  rw [aset_aput]
  exact hk
theorem cS_bin {tx : Int → Int} {c lo mid hi lim op : Int} {φ χ : (Int → Int) → Int} (h : cSum tx c lo mid lim φ) (ok : okF lim φ) (g : cSum tx c mid hi lim χ) (hlm : lo < mid) (ok2 : okF lim χ) (hc : hi + 1 ≤ 300 ∧ c + 2 * (hi + 1) ≤ 2800) (h0 : tx (c + 2 * hi) = op) (ho : 3 ≤ op ∧ op ≤ 6) (h1 : InR (tx (c + 2 * hi + 1))) : cSum tx c lo (hi + 1) lim (fun v => binV op (φ v) (χ v)) := by
  obtain ⟨⟨c1, c2, c3, c4, c5⟩, h⟩ := h
  obtain ⟨⟨d1, d2, d3, d4, d5⟩, g⟩ := g
  refine ⟨by omega, fun n tr T e hn hN => ?_⟩
  obtain ⟨V, v1, v2, v3⟩ := h n tr T (fun i i0 i1 => e i i0 (by omega)) (by omega) hN
  have e5 : aI (aput T 6 V) 5 = aI T 5 := by funext y; exact aI_aput_n (by omega)
  obtain ⟨V2, w1, w2, w3⟩ := g (n + 1) tr (aput T 6 V) (fun i i0 i1 => by rw [aI_aput_n (by omega)]; exact e i (by omega) (by omega)) (by omega) (by rw [e5]; exact hN)
  rw [e5] at w2
  have bd := ok.2 _ hN
  have bd2 := ok2.2 _ hN
  refine ⟨fun y => if y = n then binV op (φ (aI T 5)) (χ (aI T 5)) else V2 y, fun j hj => ?_, if_pos rfl, fun x2 K m hx hh hk => ?_⟩
  · show (if j = n then _ else V2 j) = _
    rw [if_neg (by omega), w1 j (by omega), aI_aput_s]
    exact v1 j hj
  rw [show m + (hi + 1 - lo).toNat = m + 1 + (hi - mid).toNat + (mid - lo).toNat by omega]
  refine v3 x2 K (m + 1 + (hi - mid).toNat) hx (by omega) (w3 x2 K (m + 1) hx (by rw [aI_aput_n (by omega)]; omega) ?_)
  rw [aput_aput]
  unfold l_M_work_47
  have e2 : ∀ j, aI (aput T 6 V2) 2 j = aI T 2 j := fun j => aI_aput_n (by omega)
  rw [e2, e2, e2, e (c + 2 * hi) (by omega) (by omega), e (c + 2 * hi + 1) (by omega) (by omega), h0]
  refine ⟨by omega, by omega, fun _ => ⟨fun z => absurd z (by omega), fun _ => ⟨by omega, by omega, by omega, fun _ => ?_⟩⟩⟩
  rintro _ rfl -
  refine ⟨by omega, by omega, fun _ => ?_⟩
  rintro _ rfl -
  refine ⟨fun _ => ⟨fun _ => ⟨fun z => absurd z (by omega), fun _ => ⟨by omega, by omega, by omega, fun _ => ⟨by omega, fun _ => ?_⟩⟩⟩, fun z => absurd z (by omega)⟩, fun z => absurd z (by omega)⟩
  have a1 : aI (aput T 6 V2) 6 (n + 1 + 1 + -1 - 1) = φ (aI T 5) := by
    rw [aI_aput_s, show n + 1 + 1 + -1 - 1 = n by omega, w1 n (by omega), aI_aput_s]
    exact v2
  have a2 : aI (aput T 6 V2) 6 (n + 1 + 1 + -1) = χ (aI T 5) := by
    rw [aI_aput_s, show n + 1 + 1 + -1 = n + 1 by omega]
    exact w2
  rw [a1, a2]
  refine pM_two ho bd bd2 (fun _ => ⟨by omega, ?_⟩)
  rintro _ rfl
  unfold j_M_work_353
  refine ⟨by omega, ?_⟩
  rw [show n + 1 + 1 + -1 - 1 = n by omega, show n + 1 + 1 + -1 = n + 1 by omega, aset_aput]
  exact hk
