/-! PURE: text(): words packed and unpacked; digits -/
theorem pck_congr {b b' : Int → Int} {p p' : Int} : ∀ (m : Nat), (∀ k : Nat, k < m → b (p + k) = b' (p' + k)) → pck b m p 0 = pck b' m p' 0 := by
  intro m
  induction m with
  | zero => intro _; rfl
  | succ m ih =>
    intro h
    rw [pck_snoc, pck_snoc, ih (fun k hk => h k (by omega)), h m (by omega)]
theorem pck_pos {b : Int → Int} {p : Int} : ∀ (m : Nat), (∀ k : Nat, k < m → 1 ≤ b (p + k)) → 0 ≤ pck b m p 0 ∧ (0 < m → 1 ≤ pck b m p 0) := by
  intro m
  induction m with
  | zero => intro _; exact ⟨Int.le_refl _, fun h => absurd h (Nat.lt_irrefl _)⟩
  | succ m ih =>
    intro h
    have h1 := ih (fun k hk => h k (by omega))
    have h2 := h m (by omega)
    rw [pck_snoc]
    exact ⟨by omega, fun _ => by omega⟩
theorem pck_inj {b b' : Int → Int} {p p' : Int} : ∀ (m m' : Nat), (∀ k : Nat, k < m → 1 ≤ b (p + k) ∧ b (p + k) < 256) → (∀ k : Nat, k < m' → 1 ≤ b' (p' + k) ∧ b' (p' + k) < 256) → pck b m p 0 = pck b' m' p' 0 → m = m' ∧ ∀ k : Nat, k < m → b (p + k) = b' (p' + k) := by
  intro m
  induction m with
  | zero =>
    intro m' _ h' e
    cases m' with
    | zero => exact ⟨rfl, fun k hk => absurd hk (Nat.not_lt_zero k)⟩
    | succ m' =>
      have h1 := (pck_pos (m' + 1) (fun k hk => (h' k hk).1)).2 (by omega)
      rw [← e] at h1
      exact absurd h1 (by show ¬ (1 : Int) ≤ 0; decide)
  | succ m ih =>
    intro m' h h' e
    cases m' with
    | zero =>
      have h1 := (pck_pos (m + 1) (fun k hk => (h k hk).1)).2 (by omega)
      rw [e] at h1
      exact absurd h1 (by show ¬ (1 : Int) ≤ 0; decide)
    | succ m' =>
      rw [pck_snoc, pck_snoc] at e
      have g1 := h m (by omega)
      have g2 := h' m' (by omega)
      obtain ⟨e1, e2⟩ := ih m' (fun k hk => h k (by omega)) (fun k hk => h' k (by omega)) (by omega)
      subst e1
      refine ⟨rfl, fun k hk => ?_⟩
      by_cases c : k = m
      · subst c; omega
      · exact e2 k (by omega)
/-- word i of the component's table, packed -/
def pw (i : Nat) : Int := pck (fun k => wch i k) (wlen i).toNat 0 0
def wsF (w : Int) : Nat → Int
  | 0 => 302
  | m + 1 => if w = pw m then 200 + (m : Int) else wsF w m
theorem pw_inj : ∀ i, i < 24 → ∀ j, j < 24 → pw i = pw j → i = j := by decide +kernel
theorem wsF_hit {w : Int} {i : Nat} (h : w = pw i) (hi : i < 24) : ∀ m, m ≤ 24 → wsF w m = if i < m then 200 + (i : Int) else 302 := by
  intro m
  induction m with
  | zero => intro _; rfl
  | succ m ih =>
    intro hm
    show (if w = pw m then 200 + (m : Int) else wsF w m) = _
    by_cases c : i = m
    · subst c
      rw [if_pos h, if_pos (by omega)]
    · rw [if_neg (fun z => c (pw_inj i hi m (by omega) (h.symm.trans z))), ih (by omega)]
      by_cases c2 : i < m
      · rw [if_pos c2, if_pos (by omega)]
      · rw [if_neg c2, if_neg (by omega)]
theorem wsF_miss {w : Int} (h : ∀ i, i < 24 → w ≠ pw i) : ∀ m, m ≤ 24 → wsF w m = 302 := by
  intro m
  induction m with
  | zero => intro _; rfl
  | succ m ih =>
    intro hm
    show (if w = pw m then _ else wsF w m) = _
    rw [if_neg (h m (by omega))]
    exact ih (by omega)
theorem pw_nm : ∀ i, i < 24 → nmW (pw i) = if 16 ≤ i then (i : Int) - 16 else -1 := by decide +kernel
theorem pw_so : ∀ i, i < 24 → soW (pw i) = if i ≤ 8 then (i : Int) else -1 := by decide +kernel
theorem pw_vals : pw 0 = W4 119 111 114 110 ∧ pw 1 = W4 104 111 108 121 ∧ pw 2 = W6 117 110 108 105 107 101 ∧ pw 3 = W4 107 105 110 100 ∧ pw 4 = W4 108 101 110 100 ∧ pw 5 = W4 115 119 97 112 ∧ pw 6 = W5 115 116 101 97 108 ∧ pw 7 = W4 98 117 114 110 ∧ pw 8 = W4 112 97 115 115 ∧ pw 9 = W4 109 97 110 121 ∧ pw 10 = 29807 ∧ pw 11 = W3 102 111 114 ∧ pw 12 = W4 119 105 116 104 ∧ pw 13 = 28530 ∧ pw 14 = W3 97 110 100 ∧ pw 15 = W3 110 111 116 ∧ pw 16 = W4 115 111 114 116 ∧ pw 17 = W6 119 101 105 103 104 116 ∧ pw 18 = W4 116 111 119 110 ∧ pw 19 = W6 112 114 111 111 102 115 ∧ pw 20 = W4 121 101 97 114 ∧ pw 21 = W5 111 115 111 114 116 ∧ pw 22 = W3 111 119 101 * 4294967296 + W4 105 103 104 116 ∧ pw 23 = W5 111 116 111 119 110 := by decide +kernel
/-- what the tables say of a word -/
theorem w_cases (w : Int) : (∃ i, i < 24 ∧ w = pw i ∧ wsF w 24 = 200 + (i : Int) ∧ nmW w = (if 16 ≤ i then (i : Int) - 16 else -1) ∧ soW w = (if i ≤ 8 then (i : Int) else -1)) ∨ ((∀ i, i < 24 → w ≠ pw i) ∧ wsF w 24 = 302 ∧ nmW w = -1 ∧ soW w = -1) := by
  by_cases h : ∃ i, i < 24 ∧ w = pw i
  · obtain ⟨i, hi, e⟩ := h
    refine Or.inl ⟨i, hi, e, ?_, ?_, ?_⟩
    · rw [wsF_hit e hi 24 (by omega), if_pos hi]
    · rw [e, pw_nm i hi]
    · rw [e, pw_so i hi]
  · have h2 : ∀ i, i < 24 → w ≠ pw i := fun i hi e => h ⟨i, hi, e⟩
    obtain ⟨v0, v1, v2, v3, v4, v5, v6, v7, v8, v9, v10, v11, v12, v13, v14, v15, v16, v17, v18, v19, v20, v21, v22, v23⟩ := pw_vals
    refine Or.inr ⟨h2, wsF_miss h2 24 (by omega), ?_, ?_⟩
    · unfold nmW
      rw [← v16, ← v17, ← v18, ← v19, ← v20, ← v21, ← v22, ← v23, if_neg (h2 16 (by omega)), if_neg (h2 17 (by omega)), if_neg (h2 18 (by omega)), if_neg (h2 19 (by omega)), if_neg (h2 20 (by omega)), if_neg (h2 21 (by omega)), if_neg (h2 22 (by omega)), if_neg (h2 23 (by omega))]
    · unfold soW
      rw [← v0, ← v1, ← v2, ← v3, ← v4, ← v5, ← v6, ← v7, ← v8, if_neg (h2 0 (by omega)), if_neg (h2 1 (by omega)), if_neg (h2 2 (by omega)), if_neg (h2 3 (by omega)), if_neg (h2 4 (by omega)), if_neg (h2 5 (by omega)), if_neg (h2 6 (by omega)), if_neg (h2 7 (by omega)), if_neg (h2 8 (by omega))]
/-- the word stands in the text from q to e -/
theorem mtc_pw {b : Int → Int} {q e : Int} {i : Nat} (hi : i < 24) (hqe : q ≤ e) (hb : ∀ k, q ≤ k → k < e → isLt (b k)) : (e - q = wlen i ∧ mtc b q i) ↔ (if e - q ≤ 7 then pck b (e - q).toNat q 0 else 0) = pw i := by
  have hw := wlen_b (i := (i : Int)) ⟨by omega, by omega⟩
  have hl : ∀ k : Nat, k < (e - q).toNat → 1 ≤ b (q + k) ∧ b (q + k) < 256 := fun k hk => by
    have := hb (q + k) (by omega) (by omega)
    unfold isLt at this
    omega
  have h1 : ∀ i, i < 24 → ∀ k, k < 7 → k < wLen.getD i 0 → 1 ≤ ((wByt.getD i []).getD k 0).toInt ∧ ((wByt.getD i []).getD k 0).toInt < 256 := by decide +kernel
  have hl2 : ∀ k : Nat, k < (wlen i).toNat → 1 ≤ (fun k => wch i k) (0 + k) ∧ (fun k => wch i k) (0 + k) < 256 := fun k hk => by
    have h3 : k < wLen.getD i 0 := by
      have : wlen (i : Int) = (wLen.getD i 0 : Nat) := by unfold wlen; rw [Int.toNat_natCast]
      omega
    have h2 := h1 i hi k (by omega) h3
    show 1 ≤ wch i (0 + k) ∧ wch i (0 + k) < 256
    unfold wch
    rw [Int.toNat_natCast, show (0 + (k : Int)).toNat = k by omega]
    exact h2
  constructor
  · rintro ⟨h2, h3⟩
    rw [if_pos (by omega)]
    unfold pw
    rw [show (e - q).toNat = (wlen i).toNat by rw [h2]]
    refine pck_congr _ (fun k hk => ?_)
    have := h3 k (by omega) (by omega)
    rw [this, show (0 + (k : Int)) = k by omega]
  · intro h2
    have hp := (pck_pos (b := fun k => wch i k) (p := 0) (wlen i).toNat (fun k hk => (hl2 k hk).1)).2 (by omega)
    by_cases c : e - q ≤ 7
    · rw [if_pos c] at h2
      obtain ⟨e1, e2⟩ := pck_inj _ _ hl hl2 h2
      refine ⟨by omega, fun k k0 k1 => ?_⟩
      have := e2 k.toNat (by omega)
      rw [show ((k.toNat : Nat) : Int) = k by omega] at this
      rw [this]
      show wch i (0 + k) = wch i k
      rw [show (0 + k) = k by omega]
    · rw [if_neg c] at h2
      unfold pw at h2
      omega
theorem dgs_snoc (b : Int → Int) : ∀ (m : Nat) (p a : Int), dgs b (m + 1) p a = if 100000 ≤ dgs b m p a then dgs b m p a else 10 * dgs b m p a + b (p + m) - 48 := by
  intro m
  induction m with
  | zero => intro p a; show (if 100000 ≤ a then a else 10 * a + b p - 48) = (if 100000 ≤ a then a else 10 * a + b (p + ((0 : Nat) : Int)) - 48); rw [show p + ((0 : Nat) : Int) = p by omega]
  | succ m ih =>
    intro p a
    show dgs b (m + 1) (p + 1) _ = _
    rw [ih]
    show _ = if 100000 ≤ dgs b m (p + 1) _ then dgs b m (p + 1) _ else 10 * dgs b m (p + 1) _ + b (p + ((m + 1 : Nat) : Int)) - 48
    rw [show p + 1 + (m : Int) = p + ((m + 1 : Nat) : Int) by push_cast; omega]
theorem dgs_nn {b : Int → Int} {p : Int} : ∀ (m : Nat), (∀ k : Nat, k < m → isDg (b (p + k))) → 0 ≤ dgs b m p 0 := by
  intro m
  induction m with
  | zero => intro _; exact Int.le_refl _
  | succ m ih =>
    intro h
    have h1 := ih (fun k hk => h k (by omega))
    have h2 := h m (by omega)
    unfold isDg at h2
    rw [dgs_snoc]
    split <;> omega
/-- the component's sort of the token behind p -/
def sX (b : Int → Int) (n p : Int) : Int := if tk b n p = 0 then 301 else if tk b n p = 1 then 300 else if tk b n p = 2 then wsF (tw b n p) 24 else if tk b n p = 3 then 302 else if tk b n p = 4 then 303 else if tk b n p = 5 then 304 else tk b n p
