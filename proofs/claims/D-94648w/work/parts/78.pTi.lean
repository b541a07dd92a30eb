/-! PURE: text(): the twin's sums: rules of the sum -/
theorem hdS.P {r : List Int} (h : hdS r) : hdP r := fun a t e => by have := h a t e; omega
theorem opsP.S {l : List Int} (h : opsP l) : opsS l := ⟨by have := h.1; omega, fun a ha => by have := h.2 a ha; omega⟩
theorem sL_stop {b : Int → Int} {n lim p o : Int} {φ : (Int → Int) → Int} (h : tk b n p ≠ 43 ∧ tk b n p ≠ 45) : MSsL b n lim φ p o (.inr (φ, p)) :=
  fun h0 r T w k ops ha ho _ _ _ => ⟨Int.le_refl _, ⟨h0.1, h0.2, h.1, h.2⟩, ops, T, ha, ho, frS.rf T w, fun _ _ hk => hk⟩
theorem hd_opP {t : Int} {r : List Int} (ht : t = 43 ∨ t = 45) : hdP (opk t :: r) := by
  intro a s e
  have e2 : opk t = a := (List.cons.inj e).1
  rw [← e2]
  unfold opk
  rcases ht with e | e <;> rw [e] <;> simp
theorem sL_fault {b : Int → Int} {n lim p o f q : Int} {φ : (Int → Int) → Int} (ht : tk b n p = 43 ∨ tk b n p = 45) (h : MSprod b n lim (te b n p) o (.inl (f, q))) : MSsL b n lim φ p o (.inl (f, q)) := by
  intro _ r T w k ops ha ho hr hl hk
  obtain ⟨wm, T1, u1, u2, u3, u4, u5, u6, -⟩ := sL_op ht ha ho hr hl hk
  have z := h (opk (tk b n p) :: r) T1 wm k u2 (hd_opP ht) ⟨u5, hk⟩ (by rw [cons_len]; omega)
  exact flS.behind z u3 (by omega) u6
theorem sL_go {b : Int → Int} {n lim p o p2 : Int} {φ χ : (Int → Int) → Int} {res : RSm} (ht : tk b n p = 43 ∨ tk b n p = 45) (h : MSprod b n lim (te b n p) o (.inr (χ, p2))) (h2 : MSsL b n lim (fun v => binV (opk (tk b n p)) (φ v) (χ v)) p2 o res) : MSsL b n lim φ p o res := by
  intro _ r T w k ops ha ho hr hl hk
  obtain ⟨wm, T1, u1, u2, u3, u4, u5, u6, u7⟩ := sL_op ht ha ho hr hl hk
  have hp : p ≤ n := by
    obtain ⟨wr, a1, -⟩ := ha
    exact a1.2.1.2
  have tg := te_gt (b := b) (n := n) (p := p) hp (by omega)
  obtain ⟨z1, -, z2, ops', T2, ⟨wr, a1, a2, a3, a4, a5⟩, z4, z5, z9⟩ := h (opk (tk b n p) :: r) T1 wm k u2 (hd_opP ht) ⟨u5, hk⟩ (by rw [cons_len]; omega)
  have e12 : fI T1 12 = fI T 12 := u3.1 12 (by omega) (by omega) (by omega) (by omega) (by omega)
  have e12b : fI T2 12 = fI T1 12 := z5.1 12 (by omega) (by omega) (by omega) (by omega) (by omega)
  have n300 := a1.1.2.1.2
  have p2n := a1.2.1.2
  have x12 := a1.2.2.2.2.2.2.2.1
  rw [cons_len] at a5
  have l1 : ((ops' ++ [opk (tk b n p)]).length : Int) = ops'.length + 1 := by rw [List.length_append]; rfl
  have acc : acS b n lim T2 p2 r o w k (fun v => binV (opk (tk b n p)) (φ v) (χ v)) (ops' ++ [opk (tk b n p)]) := by
    refine ⟨wr, ?_, ?_, u7.bin a3, by rw [l1]; have := a2.1; omega, by rw [l1]; omega⟩
    · rw [List.append_assoc]
      exact a1
    · exact PF.bin (by rw [e12b, e12]; exact u4) (fun i i0 i1 => z5.2.2 i (Or.inl (by omega))) u7 a2 a3 u1 (opk_bd _) (by omega)
  have fin := h2 z2 r T2 w k _ acc ⟨by have := z4.1; omega, fun a ha => by
    rcases List.mem_append.mp ha with q | q
    · have := z4.2 a q
      omega
    · have e : a = opk (tk b n p) := by simpa using q
      rw [e]
      exact opk_bd _⟩ hr hl hk
  have fr2 : frS T T2 w := u3.trans z5 (by omega)
  cases res with
  | inl x =>
    obtain ⟨f, q⟩ := x
    exact flS.behind fin fr2 (Int.le_refl _) (u6.trans z9)
  | inr x =>
    obtain ⟨φ', p'⟩ := x
    obtain ⟨y1, y2, ops3, T3, y3, y4, y5, y6⟩ := fin
    exact ⟨by omega, y2, ops3, T3, y3, y4, fr2.trans y5 (Int.le_refl _), (u6.trans z9).trans y6⟩
theorem sum_fault {b : Int → Int} {n lim p o f q : Int} (h : MSprod b n lim p o (.inl (f, q))) : MSsum b n lim p o (.inl (f, q)) :=
  fun r T w k hi hr hk hl => h r T w k hi hr.P hk (by omega)
theorem sum_ok {b : Int → Int} {n lim p o p1 : Int} {φ : (Int → Int) → Int} {res : RSm} (h : MSprod b n lim p o (.inr (φ, p1))) (h2 : MSsL b n lim φ p1 o res) : MSsum b n lim p o res := by
  intro r T w k hi hr hk hl
  obtain ⟨z0, z1, z2, ops', T2, a1, z4, z5, z9⟩ := h r T w k hi hr.P hk (by omega)
  have fin := h2 z2 r T2 w k _ a1 z4.S hr hl hk.2
  cases res with
  | inl x =>
    obtain ⟨f, q⟩ := x
    exact flS.behind fin z5 (Int.le_refl _) z9
  | inr x =>
    obtain ⟨φ', p'⟩ := x
    obtain ⟨y1, y2, ops3, T3, y3, y4, y5, y6⟩ := fin
    exact ⟨by omega, by omega, y2, ops3, T3, y3, y4, z5.trans y5 (Int.le_refl _), z9.trans y6⟩
