/-! PURE: text(): a chain is done -/
theorem liX.lst {S : St} {l ed : Nat} {sz : Int} {el : Int → Nat} {g : Nat → Option PE} (h : liX S l sz ed el) (hl : g l = gI S l) (he : g ed = gI S ed) : lst g l sz el := by
  obtain ⟨-, pn, pf, h1, h2, h3, -, h5⟩ := h
  exact ⟨_, ed, pn, pf, by rw [hl]; exact h1, rfl, rfl, by rw [he]; exact h2, by omega, fun i i0 i1 => (h5 i i0 i1).1⟩
theorem liX.nc {S : St} {l ed : Nat} {sz : Int} {el : Int → Nat} (h : liX S l sz ed el) (hs : 0 < sz) : rI S 500 0 ≠ some ed := fun z => by
  obtain ⟨⟨e0, z1, z2⟩, pn, pf, h1, h2, h3, -⟩ := h
  rw [z] at z1
  cases z1
  rw [h2] at z2
  have : pn = 0 := by injection z2 with z2; injection z2 with z2; injection z2 with z2; injection z2 with _ z2; injection z2
  omega
theorem CH.ok {S0 S : St} {D q : Nat} {lim k : Int} {φ : (Int → Int) → Int} (h : CH S0 S D lim q k φ) (hk : 0 ≤ k) : okF lim φ := by
  obtain ⟨e0, m, s, edm, eds, elm, els, g, Φ, χs, tok, -, -, -, -, ⟨-, l2, -⟩, l4, l5, l6⟩ := h
  rw [← l6]
  by_cases c : k = 0
  · rw [c]; exact l2
  · have hn : ∀ n : Nat, (n : Int) ≤ k → okF lim (Φ n) := by
      intro n
      induction n with
      | zero => intro _; exact l2
      | succ n ih =>
        intro z
        have := l5 n (by omega) (by omega)
        rw [show ((n + 1 : Nat) : Int) = (n : Int) + 1 by omega, this]
        exact okF.bin (ih (by omega)) (l4 n (by omega) (by omega)).1.2.1
    have := hn k.toNat (by omega)
    rw [show ((k.toNat : Nat) : Int) = k by omega] at this
    exact this
theorem CH.end {S0 S : St} {D q : Nat} {lim k : Int} {φ : (Int → Int) → Int} (h : CH S0 S D lim q k φ) (hk : 0 ≤ k ∧ k ≤ 300) : ∃ e : Nat, (∀ K : Option Nat → St → Prop, K (some e) S → w_X6_itself q S K) ∧ xR S0 S (D + 1) lim e φ := by
  have hok := h.ok hk.1
  obtain ⟨e0, m, s, edm, eds, elm, els, g, Φ, χs, tok, ⟨i1, i2, i3⟩, ⟨i4, i5⟩, ⟨j1, j2, j3, j4, j5⟩, ⟨k1, k2, k3, k4, k5, k6, k7⟩, ⟨l1, l2, l3⟩, l4, l5, l6⟩ := h
  have hm : lst (gI S) m k elm := i2.lst rfl rfl
  obtain ⟨fs, ed, pn, pf, n1, n2, n3, n4, n5, n6⟩ := hm
  by_cases hz : k = 0
  · refine ⟨e0, fun K hK => ⟨_, m, i1, rfl, ⟨_, n1⟩, fs, k, n1, n3, fun _ => ⟨fun z => absurd hz z, fun _ _ => ⟨fun z => by omega, fun _ => ⟨_, e0, i1, rfl, hK⟩⟩⟩⟩, g, k1, k2, l1, fun d hd => ?_⟩
    rw [← l6, hz]
    exact l3 d (by omega)
  · refine ⟨q, fun K hK => ⟨_, m, i1, rfl, ⟨_, n1⟩, fs, k, n1, n3, fun _ => ⟨fun _ _ => ⟨fun _ => hK, fun z => absurd rfl z⟩, fun z => absurd z hz⟩⟩, fun a => if a = q ∨ a = m ∨ a = s ∨ a = edm ∨ a = eds then gI S a else g a, fun a y e => ?_, fun a y e => ?_, ⟨6, [.inr (.inr (some e0)), .inr (.inr (some m)), .inr (.inr (some s))], ?_, by omega, by omega⟩, fun d hd => ?_⟩
    · dsimp only at e
      split at e
      · exact e
      · exact k1 _ _ e
    · dsimp only at e
      split at e
      · rename_i c
        left
        rcases c with c | c | c | c | c
        · rw [c]; exact j1
        · rw [c]; exact j2
        · rw [c]; exact j3
        · rw [c]; exact j4 (i2.nc (by omega))
        · rw [c]; exact j5 (i3.nc (by omega))
      · exact k2 _ _ e
    · dsimp only
      rw [if_pos (Or.inl rfl)]
      exact i1
    · intro S' K hx hN hK
      have hg : extP g (gI S') := fun a y e => hx a y (by
        dsimp only
        split
        · exact k1 _ _ e
        · exact e)
      have hcell : ∀ a, (a = q ∨ a = m ∨ a = s ∨ a = edm ∨ a = eds) → ∀ y, gI S a = some y → gI S' a = some y := fun a c y e => hx a y (by dsimp only; rw [if_pos c]; exact e)
      obtain ⟨d', rfl⟩ : ∃ d', d = d' + 1 := ⟨d - 1, by omega⟩
      have hli : ∀ {l ed' el}, liX S l k ed' el → (l = m ∨ l = s) → (ed' = edm ∨ ed' = eds) → lst (gI S') l k el := fun {l ed' el} z c1 c2 => by
        obtain ⟨-, pn', pf', z1, z2, z3, -, z5⟩ := z
        exact ⟨_, ed', pn', pf', hcell _ (by rcases c1 with c | c; exact Or.inr (Or.inl c); exact Or.inr (Or.inr (Or.inl c))) _ z1, rfl, rfl, hcell _ (by rcases c2 with c | c; exact Or.inr (Or.inr (Or.inr (Or.inl c))); exact Or.inr (Or.inr (Or.inr (Or.inr c)))) _ z2, by omega, fun i i0 i1 => (z5 i i0 i1).1⟩
      have bd : ∀ n : Nat, (n : Int) ≤ k → bdV (Φ n (aI S' 9)) := by
        intro n hn
        cases n with
        | zero => exact l2.2 _ hN
        | succ n =>
          have := l5 n (by omega) (by omega)
          rw [show ((n + 1 : Nat) : Int) = (n : Int) + 1 by omega, this]
          exact binV_bd _ _ _
      refine of_chain (Φ := fun i => Φ i (aI S' 9)) (χ := fun i => χs i (aI S' 9)) (tok := tok) ⟨_, m, s, hcell q (Or.inl rfl) _ i1, rfl, rfl, rfl, hli i2 (Or.inl rfl) (Or.inl rfl), hli i3 (Or.inr rfl) (Or.inr rfl)⟩ hk (fun i i0 i1' => ?_) (fun K hK => l3 d' (by omega) S' K hg hN hK) (fun i i0 i1' => ?_) (fun i i0 i1' => ⟨?_, (l4 i i0 i1').1.2.1.2 _ hN⟩) (fun i i0 i1' => ?_) ?_
      · obtain ⟨-, z4, gs, z5, z6⟩ := l4 i i0 i1'
        exact ⟨z4, gs, hg _ _ z5, z6⟩
      · obtain ⟨⟨z1, z2, z3⟩, -⟩ := l4 i i0 i1'
        exact ⟨z1.S hg, fun K hK => z3 d' (by omega) S' K hg hN hK⟩
      · have := bd i.toNat (by omega)
        rw [show ((i.toNat : Nat) : Int) = i by omega] at this
        exact this
      · rw [l5 i i0 i1']
      · rw [l6]
        exact hK
