/-! PURE: text(): questions: both sides answer alike -/
section ASKS
variable {b : Int → Int} {n lim kd : Int}
def JA (b : Int → Int) (n lim kd p o : Int) : Prop := ∃ res, fOK res ∧ MSask b n lim p o res ∧ XSask b n lim kd p o res
def JB2 (b : Int → Int) (n lim kd p o : Int) : Prop := ∃ res, fOK res ∧ MSboth b n lim p o res ∧ XSboth b n lim kd p o res
def JE (b : Int → Int) (n lim kd p o : Int) : Prop := ∃ res, fOK res ∧ MSei b n lim p o res ∧ XSei b n lim kd p o res
theorem JA_in (hk : kdL kd lim) {p o : Int} (hp : 0 ≤ p ∧ p ≤ n) (ho : 0 ≤ o ∧ o ≤ 8) (H : ∀ p', p < p' → p' ≤ n → o < 8 → JA b n lim kd p' (o + 1)) : JA b n lim kd p o := by
  have J : ∀ p', 0 ≤ p' → p' ≤ n → J3 b n lim kd p' o := fun p' h0 h1 => (J_all hk ((n - p').toNat + 1) p' o h0 h1 (by omega) ho.1 ho.2).2.2
  by_cases ht : isNot b n p
  · have tg := te_gt (b := b) (n := n) (p := p) hp.2 (by rw [ht.1]; decide)
    by_cases h8 : o = 8
    · subst h8
      exact ⟨_, fOK.i (by decide), ask_deep ht, ask_deepX ht⟩
    · obtain ⟨res, rk, m, x⟩ := H (te b n p) tg.1 tg.2.1 (by omega)
      match res, rk, m, x with
      | .inl (f, q), rk, m, x => exact ⟨_, rk, ask_notF ht (by omega) m, ask_notFX (by omega) ht x⟩
      | .inr (ψ, p1), _, m, x => exact ⟨_, fOK.t, ask_not ht (by omega) m, ask_notX (by omega) hp ht x⟩
  · obtain ⟨res, rk, m, x⟩ := J p hp.1 hp.2
    match res, rk, m, x with
    | .inl (f, q), rk, m, x => exact ⟨_, rk, ask_f1 ht (by have := rk.1; omega) (m.sm ho.1), ask_f1X ho ht x⟩
    | .inr (φ, p1), _, m, x =>
      have hx := x.1.1
      by_cases hc : cmO (tk b n p1) < 0
      · exact ⟨_, fOK.i (by decide), ask_f2 ht (m.sm ho.1) hc, ask_f2X ho ht x hc⟩
      · have tg := te_gt (b := b) (n := n) (p := p1) hx.2 (cmO_0 (by omega))
        obtain ⟨res2, rk2, m2, x2⟩ := J (te b n p1) (by omega) tg.2.1
        match res2, rk2, m2, x2 with
        | .inl (f, q), rk2, m2, x2 => exact ⟨_, rk2, ask_f3 ht (by have := rk2.1; omega) (m.sm ho.1) (by omega) (m2.sm ho.1), ask_f3X ho ht x (by omega) x2⟩
        | .inr (χ, p2), _, m2, x2 => exact ⟨_, fOK.t, ask_cmp ht (m.sm ho.1) (by omega) (m2.sm ho.1), ask_cmpX ho ht x (by omega) x2⟩
theorem JA_all (hk : kdL kd lim) : ∀ (N : Nat) (p o : Int), 0 ≤ p → p ≤ n → n - p < N → 0 ≤ o → o ≤ 8 → JA b n lim kd p o := by
  intro N
  induction N with
  | zero => intro p o hp hn hN; omega
  | succ N ih =>
    intro p o hp hn hN ho ho8
    exact JA_in hk ⟨hp, hn⟩ ⟨ho, ho8⟩ (fun p' h1 h2 h3 => ih p' (o + 1) (by omega) h2 (by omega) (by omega) (by omega))
theorem JA_at (hk : kdL kd lim) {p o : Int} (hp : 0 ≤ p) (hn : p ≤ n) (ho : 0 ≤ o ∧ o ≤ 8) : JA b n lim kd p o := JA_all hk ((n - p).toNat + 1) p o hp hn (by omega) ho.1 ho.2
theorem J3_at (hk : kdL kd lim) {p o : Int} (hp : 0 ≤ p) (hn : p ≤ n) (ho : 0 ≤ o ∧ o ≤ 8) : J3 b n lim kd p o := (J_all hk ((n - p).toNat + 1) p o hp hn (by omega) ho.1 ho.2).2.2
theorem J_bL (hk : kdL kd lim) {o : Int} (ho : 0 ≤ o ∧ o ≤ 8) : ∀ (N : Nat) (ψ : (Int → Int) → Int) (p : Int), 0 ≤ p → p ≤ n → n - p < N → okB lim ψ → ∃ res, fOK res ∧ MSbL b n lim ψ p o res ∧ XbL b n lim kd ψ p o res := by
  intro N
  induction N with
  | zero => intro ψ p hp hn hN; omega
  | succ N ih =>
    intro ψ p hp hn hN ok
    by_cases h : isAnd b n p
    · have tg := te_gt (b := b) (n := n) (p := p) hn (by rw [h.1]; decide)
      obtain ⟨res, rk, m, x⟩ := JA_at (b := b) (n := n) hk (p := te b n p) (by omega) tg.2.1 ho
      match res, rk, m, x with
      | .inl (f, q), rk, m, x => exact ⟨_, rk, bL_fault h (by have := rk.1; omega) m, bL_faultX ho h x⟩
      | .inr (χ, p2), _, m, x =>
        have hx := x.bd
        obtain ⟨res2, rk2, m2, x2⟩ := ih (fun v => twoV 21 (ψ v) (χ v)) p2 (by omega) hx.1.2 (by omega) (okB.two ok hx.2)
        exact ⟨_, rk2, bL_go h m m2, bL_goX ho ⟨hp, hn⟩ h x x2⟩
    · exact ⟨_, fOK.t, bL_stop h, bL_stopX h ⟨hp, hn⟩ ok⟩
theorem JB_at (hk : kdL kd lim) {p o : Int} (hp : 0 ≤ p) (hn : p ≤ n) (ho : 0 ≤ o ∧ o ≤ 8) : JB2 b n lim kd p o := by
  obtain ⟨res, rk, m, x⟩ := JA_at (b := b) (n := n) hk hp hn ho
  match res, rk, m, x with
  | .inl (f, q), rk, m, x => exact ⟨_, rk, both_fault (by have := rk.1; omega) m, both_faultX ho x⟩
  | .inr (ψ, p1), _, m, x =>
    have hx := x.bd
    obtain ⟨res2, rk2, m2, x2⟩ := J_bL (b := b) (n := n) hk ho ((n - p1).toNat + 1) ψ p1 (by omega) hx.1.2 (by omega) hx.2
    exact ⟨_, rk2, both_ok m m2, both_okX ho x x2⟩
theorem J_eL (hk : kdL kd lim) {o : Int} (ho : 0 ≤ o ∧ o ≤ 8) : ∀ (N : Nat) (ψ : (Int → Int) → Int) (p : Int), 0 ≤ p → p ≤ n → n - p < N → okB lim ψ → ∃ res, fOK res ∧ MSeL b n lim ψ p o res ∧ XeL b n lim kd ψ p o res := by
  intro N
  induction N with
  | zero => intro ψ p hp hn hN; omega
  | succ N ih =>
    intro ψ p hp hn hN ok
    by_cases h : isOr b n p
    · have tg := te_gt (b := b) (n := n) (p := p) hn (by rw [h.1]; decide)
      obtain ⟨res, rk, m, x⟩ := JB_at (b := b) (n := n) hk (p := te b n p) (by omega) tg.2.1 ho
      match res, rk, m, x with
      | .inl (f, q), rk, m, x => exact ⟨_, rk, eL_fault h m, eL_faultX ho h x⟩
      | .inr (χ, p2), _, m, x =>
        have hx := x.bd
        obtain ⟨res2, rk2, m2, x2⟩ := ih (fun v => twoV 22 (ψ v) (χ v)) p2 (by omega) hx.1.2 (by omega) (okB.two ok hx.2)
        exact ⟨_, rk2, eL_go h m m2, eL_goX ho ⟨hp, hn⟩ h x x2⟩
    · exact ⟨_, fOK.t, eL_stop h, eL_stopX h ⟨hp, hn⟩ ok⟩
/-- either of both sides -/
theorem JE_at (hk : kdL kd lim) {p o : Int} (hp : 0 ≤ p) (hn : p ≤ n) (ho : 0 ≤ o ∧ o ≤ 8) : JE b n lim kd p o := by
  obtain ⟨res, rk, m, x⟩ := JB_at (b := b) (n := n) hk hp hn ho
  match res, rk, m, x with
  | .inl (f, q), rk, m, x => exact ⟨_, rk, ei_fault m, ei_faultX ho x⟩
  | .inr (ψ, p1), _, m, x =>
    have hx := x.bd
    obtain ⟨res2, rk2, m2, x2⟩ := J_eL (b := b) (n := n) hk ho ((n - p1).toNat + 1) ψ p1 (by omega) hx.1.2 (by omega) hx.2
    exact ⟨_, rk2, ei_ok m m2, ei_okX ho x x2⟩
end ASKS
