/-! PURE: text(): sums: both sides answer alike -/
theorem tm_nn {b : Int → Int} {n p : Int} (h1 : tk b n p = 1) : 0 ≤ tm b n p := by
  by_cases h : n ≤ tq b n p
  · have := (t_end h).2; omega
  · by_cases d : isDg (b (tq b n p))
    · have e := (t_dig h d).1
      unfold tm
      refine dgs_nn _ (fun k hk => rnE_all (n := n) (P := isDg) (p := tq b n p) _ (by omega) ?_)
      rw [← e]
      omega
    · exfalso
      by_cases h2 : isLt (b (tq b n p))
      · have := (t_let h h2).2; omega
      · by_cases h3 : (b (tq b n p) = 60 ∨ b (tq b n p) = 62) ∧ tq b n p + 1 < n ∧ b (tq b n p + 1) = 61
        · have e := (t_two h d h2 h3).2
          rw [e] at h1
          split at h1 <;> omega
        · have e := (t_one h d h2 h3).2
          rw [e] at h1
          split at h1
          · rename_i s
            unfold sgn at s
            omega
          · omega
def fOK : RSm → Prop
  | .inl (f, _) => 1 ≤ f ∧ f ≤ 6
  | .inr _ => True
theorem fOK.t {x : ((Int → Int) → Int) × Int} : fOK (.inr x) := trivial
theorem fOK.i {f pl : Int} (h : 1 ≤ f ∧ f ≤ 6) : fOK (.inl (f, pl)) := h
section SUMS
variable {b : Int → Int} {n lim kd : Int}
def J1 (b : Int → Int) (n lim kd p o : Int) : Prop := ∃ res, fOK res ∧ MSone b n lim p o res ∧ XS 0 20 20 b n lim kd p o res
def J2 (b : Int → Int) (n lim kd p o : Int) : Prop := ∃ res, fOK res ∧ MSprod b n lim p o res ∧ XS 1 10 30 b n lim kd p o res
def J3 (b : Int → Int) (n lim kd p o : Int) : Prop := ∃ res, fOK res ∧ MSsum b n lim p o res ∧ XS 2 0 40 b n lim kd p o res
theorem J_prL {o p0 : Int} (h0 : 0 ≤ p0) (H : ∀ p, p0 ≤ p → p ≤ n → J1 b n lim kd p o) : ∀ (N : Nat) (φ : (Int → Int) → Int) (p : Int), p0 ≤ p → p ≤ n → n - p ≤ N → okF lim φ → ∃ res, fOK res ∧ MSprL b n lim φ p o res ∧ XprL b n lim kd φ p o res := by
  intro N
  induction N with
  | zero =>
    intro φ p hp hn hN ok
    have h : tk b n p ≠ 42 ∧ tk b n p ≠ 47 := by
      refine ⟨fun z => ?_, fun z => ?_⟩ <;> (have := te_gt (b := b) (n := n) (p := p) hn (by omega); omega)
    exact ⟨_, fOK.t, prL_stop h, XprL_stop h (by omega) ok⟩
  | succ N ih =>
    intro φ p hp hn hN ok
    by_cases h : tk b n p = 42 ∨ tk b n p = 47
    · have tg := te_gt (b := b) (n := n) (p := p) hn (by omega)
      obtain ⟨res, rk, m, x⟩ := H (te b n p) (by omega) tg.2.1
      match res, rk, m, x with
      | .inl (f, q), rk, m, x => exact ⟨_, rk, prL_fault h m, XprL_fault h x⟩
      | .inr (χ, p2), _, m, x =>
        have hx := x.1
        obtain ⟨res2, rk2, m2, x2⟩ := ih (fun v => binV (opk (tk b n p)) (φ v) (χ v)) p2 (by omega) hx.1.2 (by omega) (okF.bin ok hx.2)
        exact ⟨_, rk2, prL_go h m m2, XprL_go h (by omega) x x2⟩
    · have h' : tk b n p ≠ 42 ∧ tk b n p ≠ 47 := by omega
      exact ⟨_, fOK.t, prL_stop h', XprL_stop h' (by omega) ok⟩
theorem J_sL {o p0 : Int} (h0 : 0 ≤ p0) (H : ∀ p, p0 ≤ p → p ≤ n → J2 b n lim kd p o) : ∀ (N : Nat) (φ : (Int → Int) → Int) (p : Int), p0 ≤ p → p ≤ n → n - p ≤ N → okF lim φ → ∃ res, fOK res ∧ MSsL b n lim φ p o res ∧ XsL b n lim kd φ p o res := by
  intro N
  induction N with
  | zero =>
    intro φ p hp hn hN ok
    have h : tk b n p ≠ 43 ∧ tk b n p ≠ 45 := by
      refine ⟨fun z => ?_, fun z => ?_⟩ <;> (have := te_gt (b := b) (n := n) (p := p) hn (by omega); omega)
    exact ⟨_, fOK.t, sL_stop h, XsL_stop h (by omega) ok⟩
  | succ N ih =>
    intro φ p hp hn hN ok
    by_cases h : tk b n p = 43 ∨ tk b n p = 45
    · have tg := te_gt (b := b) (n := n) (p := p) hn (by omega)
      obtain ⟨res, rk, m, x⟩ := H (te b n p) (by omega) tg.2.1
      match res, rk, m, x with
      | .inl (f, q), rk, m, x => exact ⟨_, rk, sL_fault h m, XsL_fault h x⟩
      | .inr (χ, p2), _, m, x =>
        have hx := x.1
        obtain ⟨res2, rk2, m2, x2⟩ := ih (fun v => binV (opk (tk b n p)) (φ v) (χ v)) p2 (by omega) hx.1.2 (by omega) (okF.bin ok hx.2)
        exact ⟨_, rk2, sL_go h m m2, XsL_go h (by omega) x x2⟩
    · have h' : tk b n p ≠ 43 ∧ tk b n p ≠ 45 := by omega
      exact ⟨_, fOK.t, sL_stop h', XsL_stop h' (by omega) ok⟩
/-- one, out of what lies behind -/
theorem J_one (hk : kdL kd lim) {p o : Int} (hp : 0 ≤ p ∧ p ≤ n) (ho : 0 ≤ o ∧ o ≤ 8) (H1 : ∀ p', p < p' → p' ≤ n → o < 8 → J1 b n lim kd p' (o + 1)) (H3 : ∀ p', p < p' → p' ≤ n → o < 8 → J3 b n lim kd p' (o + 1)) : J1 b n lim kd p o := by
  by_cases h1 : tk b n p = 1
  · have hv : 0 ≤ tm b n p := tm_nn h1
    by_cases h2 : tm b n p ≤ 9999
    · exact ⟨_, fOK.t, one_num h1 ⟨hv, h2⟩, one_numX ho hp h1 ⟨hv, h2⟩⟩
    · exact ⟨_, fOK.i (by decide), one_numF h1 (by omega), one_numFX ho h1 (by omega)⟩
  by_cases h40 : tk b n p = 40
  · have tg := te_gt (b := b) (n := n) (p := p) hp.2 (by omega)
    by_cases h8 : o = 8
    · subst h8
      exact ⟨_, fOK.i (by decide), one_deep (Or.inl h40), one_deepX (Or.inl h40)⟩
    · obtain ⟨res, rk, m, x⟩ := H3 (te b n p) tg.1 tg.2.1 (by omega)
      match res, rk, m, x with
      | .inl (f, q), rk, m, x => exact ⟨_, rk, one_parenF h40 (by omega) m, one_parenFX (by omega) h40 x⟩
      | .inr (φ, p1), _, m, x =>
        by_cases h41 : tk b n p1 = 41
        · exact ⟨_, fOK.t, one_paren h40 (by omega) m h41, one_parenX (by omega) hp h40 x h41⟩
        · exact ⟨_, fOK.i (by decide), one_noclose h40 (by omega) m h41, one_nocloseX (by omega) h40 x h41⟩
  by_cases h45 : tk b n p = 45
  · have tg := te_gt (b := b) (n := n) (p := p) hp.2 (by omega)
    by_cases h8 : o = 8
    · subst h8
      exact ⟨_, fOK.i (by decide), one_deep (Or.inr h45), one_deepX (Or.inr h45)⟩
    · obtain ⟨res, rk, m, x⟩ := H1 (te b n p) tg.1 tg.2.1 (by omega)
      match res, rk, m, x with
      | .inl (f, q), rk, m, x => exact ⟨_, rk, one_minusF h45 (by omega) m, one_minusFX (by omega) h45 x⟩
      | .inr (χ, p1), _, m, x => exact ⟨_, fOK.t, one_minus h45 (by omega) m, one_minusX (by omega) hp h45 x⟩
  by_cases ht : 0 ≤ tn b n p
  · by_cases hb : tn b n p < lim
    · exact ⟨_, fOK.t, one_name ht hb, one_nameX hk hp ht hb⟩
    · exact ⟨_, fOK.i (by decide), one_nameF ht (by omega), one_nameFX hk ht (by omega)⟩
  · exact ⟨_, fOK.i (by decide), one_stray ⟨h1, h40, h45⟩ (by omega), one_strayX ⟨h1, h40, h45⟩ (by omega)⟩
theorem J_all (hk : kdL kd lim) : ∀ (N : Nat) (p o : Int), 0 ≤ p → p ≤ n → n - p < N → 0 ≤ o → o ≤ 8 → J1 b n lim kd p o ∧ J2 b n lim kd p o ∧ J3 b n lim kd p o := by
  intro N
  induction N with
  | zero =>
    intro p o hp hn hN ho ho8
    omega
  | succ N ih =>
    intro p o hp hn hN ho ho8
    have j1 : J1 b n lim kd p o := J_one hk ⟨hp, hn⟩ ⟨ho, ho8⟩ (fun p' h1 h2 h3 => (ih p' (o + 1) (by omega) h2 (by omega) (by omega) (by omega)).1) (fun p' h1 h2 h3 => (ih p' (o + 1) (by omega) h2 (by omega) (by omega) (by omega)).2.2)
    have j2 : J2 b n lim kd p o := by
      obtain ⟨res, rk, m, x⟩ := j1
      match res, rk, m, x with
      | .inl (f, q), rk, m, x => exact ⟨_, rk, prod_fault m, prod_faultX x⟩
      | .inr (φ, p1), _, m, x =>
        have hx := x.1
        obtain ⟨res2, rk2, m2, x2⟩ := J_prL (b := b) (n := n) (lim := lim) (kd := kd) (o := o) (p0 := p + 1) (by omega) (fun p' h1 h2 => (ih p' o (by omega) h2 (by omega) ho ho8).1) N φ p1 (by omega) (by omega) (by omega) hx.2
        exact ⟨_, rk2, prod_ok m m2, prod_okX x x2⟩
    have j3 : J3 b n lim kd p o := by
      obtain ⟨res, rk, m, x⟩ := j2
      match res, rk, m, x with
      | .inl (f, q), rk, m, x => exact ⟨_, rk, sum_fault m, sum_faultX x⟩
      | .inr (φ, p1), _, m, x =>
        have hx := x.1
        obtain ⟨res2, rk2, m2, x2⟩ := J_sL (b := b) (n := n) (lim := lim) (kd := kd) (o := o) (p0 := p + 1) (by omega) (fun p' h1 h2 => (ih p' o (by omega) h2 (by omega) ho ho8).2.1) N φ p1 (by omega) (by omega) (by omega) hx.2
        exact ⟨_, rk2, sum_ok m m2, sum_okX x x2⟩
    exact ⟨j1, j2, j3⟩
end SUMS
