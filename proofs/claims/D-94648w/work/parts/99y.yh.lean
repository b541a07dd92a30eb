/-! PURE: text(): every clause, both sides -/
section CLALL
variable {T0 T : St} {b : Int → Int} {n p N c w : Int}
theorem JCl_at (h : TW T0 T b n p N c w) (ht : tk b n p ≠ 0) (hc : 0 ≤ c ∧ c ≤ 24) : JCl T0 T b n p N c w := by
  have hw := h.2.2.2.1
  have hb := h.2.2.2.2.1.2
  have hpn : p ≤ n := by
    obtain ⟨lim, e1⟩ := h.1
    exact e1.2.1.2
  have tg := te_gt (b := b) (n := n) (p := p) hpn ht
  have sb := soF_bd b n p
  by_cases hs : soF b n p < 0
  · exact J_bad h ht hs
  by_cases hd : soF b n p < 3 ∧ bt (fI T 21) (soF b n p) = 1
  · exact J_dup h ⟨by omega, hd.1⟩ hd.2
  have h1 : soF b n p < 3 → bt (fI T 21) (soF b n p) = 0 := fun z => by
    have := (hb _ (by omega) z).1
    have : bt (fI T 21) (soF b n p) ≠ 1 := fun y => hd ⟨z, y⟩
    omega
  by_cases hc24 : c = 24
  · exact J_six h (by omega) h1 hc24
  have hc' : 0 ≤ c ∧ c < 24 := by omega
  by_cases s0 : soF b n p = 0
  · obtain ⟨res, rk, m, x⟩ := J3_at (b := b) (n := n) (lim := 5) (kd := 200) (Or.inr ⟨by decide, rfl⟩) (p := te b n p) (o := 0) (by omega) tg.2.1 (by decide)
    rw [s0] at h1
    match res, rk, m, x with
    | .inl (f, pl), rk, m, x => exact J_sumF h ht s0.symm (h1 (by decide)) hc' rk m x
    | .inr (φ, p'), _, m, x => exact J_sumO h ht s0.symm (h1 (by decide)) hc' m x
  by_cases s12 : soF b n p = 1 ∨ soF b n p = 2
  · have hk : ∃ lim, ((soF b n p = 1 ∧ lim = 5) ∨ (soF b n p = 2 ∧ lim = 8)) ∧ kdL (soF b n p + 200) lim := by
      rcases s12 with e | e
      · exact ⟨5, Or.inl ⟨e, rfl⟩, Or.inr ⟨by omega, rfl⟩⟩
      · exact ⟨8, Or.inr ⟨e, rfl⟩, Or.inl ⟨by omega, rfl⟩⟩
    obtain ⟨lim, hsl, hkd⟩ := hk
    obtain ⟨res, rk, m, x⟩ := JE_at (b := b) (n := n) hkd (p := te b n p) (o := 0) (by omega) tg.2.1 (by decide)
    match res, rk, m, x with
    | .inl (f, pl), rk, m, x => exact J_eiF h ht hsl rfl (h1 (by omega)) hc' rk m x
    | .inr (ψ, p'), _, m, x => exact J_eiO h ht hsl rfl (h1 (by omega)) hc' m x
  by_cases s3 : soF b n p = 3
  · by_cases hn : nuP b n (te b n p) 0 19
    rotate_left
    · exact J_kdF h ht s3.symm hc' (fun z => hn z.1) (nuF_bd _ _ _) (k1_f hn) (k1_fX hn)
    by_cases htd : toldX (aI T 2) (700 * N) c (tm b n (te b n p))
    · exact J_kdT h ht s3.symm hc' hn htd
    by_cases h2 : woP b n (te b n (te b n p)) (W4 109 97 110 121)
    rotate_left
    · exact J_kdF h ht s3.symm hc' (fun z => htd z.2) (by decide) (k2_f hn h2) (k2_fX hn h2)
    by_cases h3 : nuP b n (te b n (te b n (te b n p))) 1 9
    rotate_left
    · exact J_kdF h ht s3.symm hc' (fun z => htd z.2) (nuF_bd _ _ _) (k3_f hn h2 h3) (k3_fX hn h2 h3)
    exact J_kdO h ht s3.symm hc' (fun z => htd z.2) hn rfl (k_ok hn h2 h3) (k_okX ⟨by omega, tg.2.1⟩ hn h2 h3)
  obtain ⟨res, rk, m, x⟩ := JD_at (b := b) (n := n) (p := te b n p) (s := soF b n p) ⟨by omega, tg.2.1⟩ (by omega)
  match res, rk, m, x with
  | .inl (f, pl), rk, m, x => exact J_dnF h ht (by omega) rfl hc' rk m x
  | .inr (a, v, r, p'), rk, m, x => exact J_dnO h ht (by omega) rfl hc' rk m x
end CLALL
