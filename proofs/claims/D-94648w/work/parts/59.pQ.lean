/-! PURE: rounds: all orders, one behind the other -/
def setO (p : Int → Int) (n U k : Int) (f : Int → Int) : Prop := (∀ i, k ≤ i → i < n → ∃ s, 0 ≤ s ∧ s < n ∧ bt U s = 0 ∧ f i = p s) ∧ ∀ s, 0 ≤ s → s < n → bt U s = 0 → ∃ i, k ≤ i ∧ i < n ∧ f i = p s
def AS (p : Int → Int) (n U k : Int) (f : Int → Int) : Prop := setO p n U k f ∧ ∀ a b, k ≤ a → a < b → b < n → f a < f b
def DS (p : Int → Int) (n U k : Int) (f : Int → Int) : Prop := setO p n U k f ∧ ∀ a b, k ≤ a → a < b → b < n → f b < f a
def mono (p : Int → Int) (n : Int) : Prop := ∀ i j, 0 ≤ i → i < j → j < n → p i < p j
theorem mono.inj {p : Int → Int} {n s t : Int} (h : mono p n) (hs : 0 ≤ s ∧ s < n) (ht : 0 ≤ t ∧ t < n) (e : p s = p t) : s = t := by
  by_cases c : s < t
  · have := h s t hs.1 c ht.2
    omega
  · by_cases c2 : t < s
    · have := h t s ht.1 c2 hs.2
      omega
    · omega
theorem mono.lt {p : Int → Int} {n s t : Int} (h : mono p n) (hs : 0 ≤ s ∧ s < n) (ht : 0 ≤ t ∧ t < n) (e : p s < p t) : s < t := by
  by_cases c : t < s
  · have := h t s ht.1 c hs.2
    omega
  · by_cases c2 : s = t
    · rw [c2] at e
      omega
    · omega
theorem AS.first {p f : Int → Int} {n U k : Int} (hp : mono p n) (h : AS p n U k f) (hk : k < n) : ∃ s, (0 ≤ s ∧ s < n) ∧ bt U s = 0 ∧ f k = p s ∧ (∀ s', 0 ≤ s' → s' < s → bt U s' = 1) ∧ ∀ U', (∀ i, 0 ≤ i → bt U' i = if i = s then 1 else bt U i) → AS p n U' (k + 1) f := by
  obtain ⟨⟨h1, h2⟩, h3⟩ := h
  obtain ⟨s, s0, s1, sU, sf⟩ := h1 k (Int.le_refl k) hk
  refine ⟨s, ⟨s0, s1⟩, sU, sf, fun s' q0 q1 => ?_, fun U' hU => ⟨⟨fun i i0 i1 => ?_, fun t t0 t1 tU => ?_⟩, fun a b a0 ab b1 => h3 a b (by omega) ab b1⟩⟩
  · rcases bt_01 U s' with z | z
    · exfalso
      obtain ⟨i, i0, i1, i2⟩ := h2 s' q0 (by omega) z
      have l := hp s' s q0 q1 s1
      by_cases e : i = k
      · rw [e] at i2
        omega
      · have := h3 k i (by omega) (by omega) i1
        omega
    · exact z
  · obtain ⟨t, t0, t1, tU, tf⟩ := h1 i (by omega) i1
    refine ⟨t, t0, t1, ?_, tf⟩
    have l := h3 k i (by omega) (by omega) i1
    rw [hU t t0, if_neg ?_]
    · exact tU
    · intro e
      rw [e] at tf
      omega
  · rw [hU t t0] at tU
    by_cases e : t = s
    · rw [if_pos e] at tU
      omega
    · rw [if_neg e] at tU
      obtain ⟨i, i0, i1, i2⟩ := h2 t t0 t1 tU
      refine ⟨i, ?_, i1, i2⟩
      by_cases e2 : i = k
      · exfalso
        rw [e2, sf] at i2
        exact e (hp.inj ⟨s0, s1⟩ ⟨t0, t1⟩ i2).symm
      · omega
theorem DS.last {p f : Int → Int} {n U U' k s : Int} (hp : mono p n) (hs : 0 ≤ s ∧ s < n) (hsU : bt U s = 0) (hU : ∀ i, 0 ≤ i → bt U' i = if i = s then 1 else bt U i) (h : DS p n U' (k + 1) f) (hk : k < n) (hf : f k = p s) (hno : ∀ t, s < t → t < n → bt U t = 1) : DS p n U k f := by
  obtain ⟨⟨h1, h2⟩, h3⟩ := h
  have un : ∀ i, k + 1 ≤ i → i < n → ∃ t, 0 ≤ t ∧ t < n ∧ bt U t = 0 ∧ f i = p t ∧ t < s := by
    intro i i0 i1
    obtain ⟨t, t0, t1, tU, tf⟩ := h1 i i0 i1
    rw [hU t t0] at tU
    by_cases e : t = s
    · rw [if_pos e] at tU
      omega
    · rw [if_neg e] at tU
      refine ⟨t, t0, t1, tU, tf, ?_⟩
      by_cases c : s < t
      · have := hno t c t1
        omega
      · omega
  refine ⟨⟨fun i i0 i1 => ?_, fun t t0 t1 tU => ?_⟩, fun a b a0 ab b1 => ?_⟩
  · by_cases e : i = k
    · exact ⟨s, hs.1, hs.2, hsU, by rw [e]; exact hf⟩
    · obtain ⟨t, t0, t1, tU, tf, -⟩ := un i (by omega) i1
      exact ⟨t, t0, t1, tU, tf⟩
  · by_cases e : t = s
    · exact ⟨k, Int.le_refl k, hk, by rw [e]; exact hf⟩
    · obtain ⟨i, i0, i1, i2⟩ := h2 t t0 t1 (by rw [hU t t0, if_neg e]; exact tU)
      exact ⟨i, by omega, i1, i2⟩
  · by_cases e : a = k
    · obtain ⟨t, t0, t1, tU, tf, ts⟩ := un b (by omega) b1
      rw [e, tf, hf]
      exact hp t s t0 ts hs.2
    · exact h3 a b (by omega) ab b1
theorem DS.next {p f : Int → Int} {n U U' k s s' : Int} (hp : mono p n) (hs : 0 ≤ s ∧ s < n) (hsU : bt U s = 0) (hU : ∀ i, 0 ≤ i → bt U' i = if i = s then 1 else bt U i) (h : DS p n U' (k + 1) f) (hk : k < n) (hf : f k = p s)
    (h1' : s < s' ∧ s' < n) (h2' : bt U s' = 0) (h3' : ∀ t, s < t → t < s' → bt U t = 1) : ∃ j, (k < j ∧ j < n) ∧ f k < f j ∧ (∀ a, j < a → a < n → f a < f k) ∧ f j = p s' ∧
    ∀ U2, (∀ i, 0 ≤ i → bt U2 i = if i = s' then 1 else bt U i) → AS p n U2 (k + 1) (turn (exch f k j) (k + 1) (n - 1)) := by
  obtain ⟨⟨h1, h2⟩, h3⟩ := h
  have ps := hp s s' hs.1 h1'.1 h1'.2
  obtain ⟨j, j0, j1, j2⟩ := h2 s' (by omega) h1'.2 (by rw [hU s' (by omega), if_neg (by omega)]; exact h2')
  have lo : ∀ a, j < a → a < n → f a < f k := by
    intro a a0 a1
    obtain ⟨t, t0, t1, tU, tf⟩ := h1 a (by omega) a1
    rw [hU t t0] at tU
    have l := h3 j a j0 a0 a1
    rw [j2, tf] at l
    have l2 := hp.lt ⟨t0, t1⟩ ⟨by omega, h1'.2⟩ l
    by_cases e : t = s
    · rw [if_pos e] at tU
      omega
    · rw [if_neg e] at tU
      by_cases c : s < t
      · have := h3' t c l2
        omega
      · rw [tf, hf]
        exact hp t s t0 (by omega) hs.2
  have e : ∀ x, k + 1 ≤ x → x < n → exch f k j x = if x = j then f k else f x := by
    intro x x0 x1
    unfold exch
    by_cases c : x = j
    · rw [if_pos c, if_pos c]
    · rw [if_neg c, if_neg c, if_neg (by omega)]
  have g : ∀ y, k + 1 ≤ y → y < n → turn (exch f k j) (k + 1) (n - 1) y = if k + n - y = j then f k else f (k + n - y) := by
    intro y y0 y1
    unfold turn
    rw [if_pos (by omega), show k + 1 + (n - 1) - y = k + n - y by omega, e _ (by omega) (by omega)]
  refine ⟨j, ⟨by omega, j1⟩, by rw [hf, j2]; exact ps, lo, j2, fun U2 hU2 => ⟨⟨fun y y0 y1 => ?_, fun t t0 t1 tU => ?_⟩, fun a b a0 ab b1 => ?_⟩⟩
  · rw [g y y0 y1]
    by_cases c : k + n - y = j
    · rw [if_pos c]
      exact ⟨s, hs.1, hs.2, by rw [hU2 s hs.1, if_neg (by omega)]; exact hsU, hf⟩
    · rw [if_neg c]
      obtain ⟨t, t0, t1, tU, tf⟩ := h1 (k + n - y) (by omega) (by omega)
      refine ⟨t, t0, t1, ?_, tf⟩
      rw [hU t t0] at tU
      rw [hU2 t t0]
      by_cases e1 : t = s
      · rw [if_pos e1] at tU
        omega
      · rw [if_neg e1] at tU
        rw [if_neg ?_]
        · exact tU
        · intro e2
          rw [e2, ← j2] at tf
          by_cases c2 : j < k + n - y
          · have := h3 j _ j0 c2 (by omega)
            omega
          · have := h3 (k + n - y) j (by omega) (by omega) j1
            omega
  · rw [hU2 t t0] at tU
    by_cases c : t = s'
    · rw [if_pos c] at tU
      omega
    · rw [if_neg c] at tU
      by_cases c2 : t = s
      · refine ⟨k + n - j, by omega, by omega, ?_⟩
        rw [g _ (by omega) (by omega), if_pos (by omega), c2]
        exact hf
      · obtain ⟨x, x0, x1, x2⟩ := h2 t t0 t1 (by rw [hU t t0, if_neg c2]; exact tU)
        refine ⟨k + n - x, by omega, by omega, ?_⟩
        rw [g _ (by omega) (by omega), show k + n - (k + n - x) = x by omega, if_neg ?_]
        · exact x2
        · intro e2
          rw [e2, j2] at x2
          exact c (hp.inj ⟨by omega, h1'.2⟩ ⟨t0, t1⟩ x2).symm
  · rw [g a a0 (by omega), g b (by omega) b1]
    by_cases ca : k + n - a = j
    · rw [if_pos ca, if_neg (by omega)]
      have := h3 (k + n - b) j (by omega) (by omega) j1
      rw [j2] at this
      rw [hf]
      omega
    · rw [if_neg ca]
      by_cases cb : k + n - b = j
      · rw [if_pos cb]
        exact lo _ (by omega) (by omega)
      · rw [if_neg cb]
        exact h3 _ _ (by omega) (by omega) (by omega)
theorem unused {U n : Int} : ∀ (m : Nat) (i : Int), n - i ≤ m → (∃ s, i ≤ s ∧ s < n ∧ bt U s = 0 ∧ ∀ t, i ≤ t → t < s → bt U t = 1) ∨ ∀ t, i ≤ t → t < n → bt U t = 1 := by
  intro m
  induction m with
  | zero => intro i hi; exact Or.inr (fun t t0 t1 => by omega)
  | succ m ih =>
    intro i hi
    by_cases c : i < n
    · rcases bt_01 U i with z | z
      · exact Or.inl ⟨i, Int.le_refl i, c, z, fun t t0 t1 => by omega⟩
      · rcases ih (i + 1) (by omega) with ⟨s, s0, s1, s2, s3⟩ | q
        · refine Or.inl ⟨s, by omega, s1, s2, fun t t0 t1 => ?_⟩
          by_cases e : t = i
          · rw [e]
            exact z
          · exact s3 t (by omega) t1
        · refine Or.inr (fun t t0 t1 => ?_)
          by_cases e : t = i
          · rw [e]
            exact z
          · exact q t (by omega) t1
    · exact Or.inr (fun t t0 t1 => by omega)
/-- the way along f, k legs of it -/
def pth (D : Int → Int → Int) (f : Int → Int) : Nat → Int
  | 0 => 0
  | k + 1 => pth D f k + D (f k) (f ((k : Int) + 1))
theorem pth_congr {D : Int → Int → Int} {f g : Int → Int} : ∀ (k : Nat), (∀ i : Int, 0 ≤ i → i ≤ k → f i = g i) → pth D f k = pth D g k := by
  intro k
  induction k with
  | zero => intro _; rfl
  | succ k ih =>
    intro h
    show pth D f k + D (f k) (f ((k : Int) + 1)) = pth D g k + D (g k) (g ((k : Int) + 1))
    rw [ih (fun i i0 i1 => h i i0 (by omega)), h k (by omega) (by omega), h ((k : Int) + 1) (by omega) (by omega)]
theorem pth_bd {D : Int → Int → Int} {f : Int → Int} {a : Int} (hD : ∀ x y, 0 ≤ x → x < a → 0 ≤ y → y < a → 0 ≤ D x y ∧ D x y ≤ 198) : ∀ (k : Nat), (∀ i : Int, 0 ≤ i → i ≤ k → 0 ≤ f i ∧ f i < a) → 0 ≤ pth D f k ∧ pth D f k ≤ 198 * k := by
  intro k
  induction k with
  | zero => intro _; exact ⟨Int.le_refl 0, Int.le_refl 0⟩
  | succ k ih =>
    intro h
    have h1 := ih (fun i i0 i1 => h i i0 (by omega))
    have f1 := h k (by omega) (by omega)
    have f2 := h ((k : Int) + 1) (by omega) (by omega)
    have d := hD (f k) (f ((k : Int) + 1)) f1.1 f1.2 f2.1 f2.2
    show 0 ≤ pth D f k + D (f k) (f ((k : Int) + 1)) ∧ pth D f k + D (f k) (f ((k : Int) + 1)) ≤ _
    omega
theorem dist_bd {S T : St} (h : nowA S T) : ∀ x y, 0 ≤ x → x < aI S 0 0 → 0 ≤ y → y < aI S 0 0 → 0 ≤ dist (aI S 1) (aI S 2) x y ∧ dist (aI S 1) (aI S 2) x y ≤ 198 := by
  intro x y x0 x1 y0 y1
  have t1 := h.2.1 x x0 x1
  have t2 := h.2.1 y y0 y1
  unfold dist
  omega
def tot (D : Int → Int → Int) (f : Int → Int) (n : Int) : Int := pth D f (n - 1).toNat + D (f (n - 1)) (f 0)
theorem pM_milesOf {S T : St} {n : Int} {K : Int → Prop} (h : nowA S T) (hn : 1 ≤ n ∧ n ≤ 8) (hf : ∀ i : Int, 0 ≤ i → i < n → 0 ≤ aI T 15 i ∧ aI T 15 i < aI S 0 0) (hK : K (tot (dist (aI S 1) (aI S 2)) (aI T 15) n)) : w_M_milesOf n T K := by
  have hD := dist_bd h
  have g : ∀ (m : Nat) (k : Nat), (k : Int) < n → n - k < m → l_M_milesOf_4 n T K m (pth (dist (aI S 1) (aI S 2)) (aI T 15) k) k := by
    intro m
    induction m with
    | zero => intro k k0 k1; omega
    | succ m ih =>
      intro k k0 k1
      have f1 := hf k (by omega) k0
      have b := pth_bd hD k (f := aI T 15) (fun i i0 i1 => hf i i0 (by omega))
      unfold l_M_milesOf_4 j_M_milesOf_35
      refine ⟨fun c => absurd c (by omega), fun _ => ⟨by omega, fun _ => ⟨by omega, fun c => ⟨by omega, fun _ => ?_⟩, fun c => ⟨by omega, fun _ => ?_⟩⟩⟩⟩
      · have f2 := hf ((k : Int) + 1) (by omega) (by omega)
        have d := hD (aI T 15 k) (aI T 15 ((k : Int) + 1)) f1.1 f1.2 f2.1 f2.2
        refine pM_miles h f1 f2 (fun _ => ⟨by omega, ?_⟩)
        rintro _ rfl
        exact fun _ => ⟨by omega, ih (k + 1) (by omega) (by omega)⟩
      · have f2 := hf 0 (by omega) (by omega)
        have d := hD (aI T 15 k) (aI T 15 0) f1.1 f1.2 f2.1 f2.2
        refine pM_miles h f1 f2 (fun _ => ⟨by omega, ?_⟩)
        rintro _ rfl
        refine fun _ => ⟨by omega, ?_⟩
        have e : (n - 1).toNat = k := by omega
        have e2 : n - 1 = (k : Int) := by omega
        unfold tot at hK
        rw [e, e2] at hK
        match m, ih with
        | 0, _ => omega
        | m + 1, _ =>
          unfold l_M_milesOf_4
          exact ⟨fun _ => hK, fun c2 => absurd (by omega) c2⟩
  exact ⟨10, g 10 0 (by omega) (by omega)⟩
