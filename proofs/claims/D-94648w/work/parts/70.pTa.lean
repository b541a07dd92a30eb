/-! PURE: text(): tokens, as both sides read them; the twin's reader of tokens -/
theorem fset_self (S : St) (k : Nat) : fset S k (fI S k) = S := by
  obtain ⟨a, b⟩ := S
  show (_, _) = (_, _)
  congr 1
  funext x
  show (if x = k then a k else a x) = a x
  by_cases c : x = k
  · rw [if_pos c, c]
  · rw [if_neg c]
theorem fset_comm {S : St} {j k : Nat} {a b : Int} (h : j ≠ k) : fset (fset S j a) k b = fset (fset S k b) j a := by
  show (_, _) = (_, _)
  congr 1
  funext x
  show (if x = k then b else if x = j then a else S.1 x) = (if x = j then a else if x = k then b else S.1 x)
  by_cases c : x = k
  · rw [if_pos c, if_neg (fun q => h (q.symm.trans c)), if_pos c]
  · rw [if_neg c, if_neg c]
abbrev isBl (c : Int) : Prop := c = 32 ∨ c = 10
abbrev isDg (c : Int) : Prop := 48 ≤ c ∧ c ≤ 57
abbrev isLt (c : Int) : Prop := (97 ≤ c ∧ c ≤ 122) ∨ (65 ≤ c ∧ c ≤ 90)
/-- where a run of bytes like P ends, from p on -/
def rn (b : Int → Int) (n : Int) (P : Int → Prop) [DecidablePred P] : Nat → Int → Int
  | 0, p => p
  | m + 1, p => if p < n ∧ P (b p) then rn b n P m (p + 1) else p
def rnE (b : Int → Int) (n : Int) (P : Int → Prop) [DecidablePred P] (p : Int) : Int := rn b n P (n - p).toNat p
theorem rnE_stop {b : Int → Int} {n p : Int} {P : Int → Prop} [DecidablePred P] (h : ¬ (p < n ∧ P (b p))) : rnE b n P p = p := by
  unfold rnE
  cases (n - p).toNat with
  | zero => rfl
  | succ m =>
    show (if p < n ∧ P (b p) then _ else p) = p
    rw [if_neg h]
theorem rnE_go {b : Int → Int} {n p : Int} {P : Int → Prop} [DecidablePred P] (h : p < n ∧ P (b p)) : rnE b n P p = rnE b n P (p + 1) := by
  unfold rnE
  rw [show (n - p).toNat = (n - (p + 1)).toNat + 1 by omega]
  show (if p < n ∧ P (b p) then _ else p) = _
  rw [if_pos h]
theorem rn_bd {b : Int → Int} {n : Int} {P : Int → Prop} [DecidablePred P] : ∀ (m : Nat) (p : Int), p ≤ n → p ≤ rn b n P m p ∧ rn b n P m p ≤ n := by
  intro m
  induction m with
  | zero => intro p hp; exact ⟨Int.le_refl _, hp⟩
  | succ m ih =>
    intro p hp
    show p ≤ (if p < n ∧ P (b p) then _ else p) ∧ (if p < n ∧ P (b p) then _ else p) ≤ n
    by_cases c : p < n ∧ P (b p)
    · rw [if_pos c]
      have := ih (p + 1) (by omega)
      omega
    · rw [if_neg c]
      omega
theorem rnE_bd {b : Int → Int} {n : Int} {P : Int → Prop} [DecidablePred P] {p : Int} (hp : p ≤ n) : p ≤ rnE b n P p ∧ rnE b n P p ≤ n := rn_bd _ p hp
/-- digits, as the twin reads them; letters packed -/
def dgs (b : Int → Int) : Nat → Int → Int → Int
  | 0, _, a => a
  | m + 1, p, a => dgs b m (p + 1) (if 100000 ≤ a then a else 10 * a + b p - 48)
def pck (b : Int → Int) : Nat → Int → Int → Int
  | 0, _, a => a
  | m + 1, p, a => pck b m (p + 1) (a * 256 + b p)
abbrev sgn (c : Int) : Prop := c = 60 ∨ c = 62 ∨ c = 61 ∨ c = 35 ∨ c = 43 ∨ c = 45 ∨ c = 42 ∨ c = 47 ∨ c = 40 ∨ c = 41 ∨ c = 59
/-- the token behind p: where it starts, ends; what it is (0 the end, 1 a number, 2 letters, 3 none, 4 <=, 5 >=, else the sign) -/
def tq (b : Int → Int) (n p : Int) : Int := rnE b n isBl p
def te (b : Int → Int) (n p : Int) : Int :=
  let q := tq b n p
  if n ≤ q then q else if isDg (b q) then rnE b n isDg q else if isLt (b q) then rnE b n isLt q else if (b q = 60 ∨ b q = 62) ∧ q + 1 < n ∧ b (q + 1) = 61 then q + 2 else q + 1
def tk (b : Int → Int) (n p : Int) : Int :=
  let q := tq b n p
  if n ≤ q then 0 else if isDg (b q) then 1 else if isLt (b q) then 2 else if (b q = 60 ∨ b q = 62) ∧ q + 1 < n ∧ b (q + 1) = 61 then (if b q = 60 then 4 else 5) else if sgn (b q) then b q else 3
def tm (b : Int → Int) (n p : Int) : Int := dgs b (te b n p - tq b n p).toNat (tq b n p) 0
def tw (b : Int → Int) (n p : Int) : Int := if te b n p - tq b n p ≤ 7 then pck b (te b n p - tq b n p).toNat (tq b n p) 0 else 0
/-- the twin's tape -/
def tpM (T : St) (b : Int → Int) (n : Int) : Prop := fI T 4 = n ∧ (0 ≤ n ∧ n ≤ 300) ∧ ∀ k, 0 ≤ k → k < n → aI T 3 k = b k ∧ 0 ≤ b k ∧ b k ≤ 255
theorem pM_byteAt {T : St} {b : Int → Int} {n x : Int} {K : Int → Prop} (h4 : fI T 4 = n) (hn : n ≤ 300) (h3 : ∀ k, 0 ≤ k → k < n → aI T 3 k = b k ∧ 0 ≤ b k ∧ b k ≤ 255) (hx : 0 ≤ x) (h1 : x < n → K (b x)) (h0 : n ≤ x → K (-1)) : w_M_byteAt x T K := by
  unfold w_M_byteAt
  rw [h4]
  refine fun _ => ⟨fun c => h0 c, fun c => ⟨by omega, fun _ => ?_⟩⟩
  rw [(h3 x hx (by omega)).1]
  exact h1 (by omega)
theorem pM_isDigit {x : Int} {K : Int → Prop} (h1 : isDg x → K 1) (h0 : ¬ isDg x → K 0) : w_M_isDigit x K := by
  unfold w_M_isDigit
  exact p_isIn (fun a b => fun _ => h1 ⟨a, b⟩) (fun c => fun _ => h0 c)
theorem pM_isLetter {x : Int} {K : Int → Prop} (h1 : isLt x → K 1) (h0 : ¬ isLt x → K 0) : w_M_isLetter x K := by
  unfold w_M_isLetter
  refine p_isIn (fun a b => fun _ => ⟨fun _ => h1 (Or.inl ⟨a, b⟩), fun z => absurd z (by decide)⟩) (fun c => fun _ => ⟨fun z => absurd rfl z, fun _ => ?_⟩)
  exact p_isIn (fun a b => fun _ => ⟨fun z => absurd z (by decide), fun _ => h1 (Or.inr ⟨a, b⟩)⟩) (fun c2 => fun _ => ⟨fun _ => h0 (fun q => q.elim c c2), fun z => absurd rfl z⟩)
/-- over blanks -/
theorem pM_tok0 {T : St} {b : Int → Int} {n : Int} {K : St → Prop} {X : St → Prop} (h4 : fI T 4 = n) (hn : n ≤ 300) (h3 : ∀ k, 0 ≤ k → k < n → aI T 3 k = b k ∧ 0 ≤ b k ∧ b k ≤ 255) :
    ∀ (m : Nat) (p : Int), 0 ≤ p → p ≤ n → n - p < m → X (fset T 7 (rnE b n isBl p)) → l_M_nextToken_0 K X m (fset T 7 p) := by
  intro m
  induction m with
  | zero => intro p p0 p1 p2; omega
  | succ m ih =>
    intro p p0 p1 p2 hX
    have f7 : fI (fset T 7 p) 7 = p := fI_fset_s T 7 p
    have f4 : fI (fset T 7 p) 4 = n := by rw [fI_fset_n (by omega)]; exact h4
    have go : p < n ∧ isBl (b p) → j_M_nextToken_26 (fset T 7 p) K X (l_M_nextToken_0 K X m) := by
      intro c
      unfold j_M_nextToken_26
      rw [f7]
      refine fun _ => ⟨by omega, ?_⟩
      rintro _ rfl
      rw [fset_fset]
      rw [rnE_go c] at hX
      exact ih (p + 1) (by omega) (by omega) (by omega) hX
    unfold l_M_nextToken_0
    rw [f7]
    refine fun _ => pM_byteAt f4 hn h3 p0 (fun c => fun _ => ⟨fun e => go ⟨c, Or.inl e⟩, fun ne => pM_byteAt f4 hn h3 p0 (fun _ => fun _ => ⟨fun ne2 => ?_, fun e => go ⟨c, Or.inr e⟩⟩) (fun c2 => absurd c2 (by omega))⟩) (fun c => fun _ => ⟨fun z => absurd z (by decide), fun _ => pM_byteAt f4 hn h3 p0 (fun c2 => absurd c2 (by omega)) (fun _ => fun _ => ⟨fun _ => ?_, fun z => absurd z (by decide)⟩)⟩)
    · rw [rnE_stop (fun q => by rcases q.2 with e | e <;> omega)] at hX
      exact hX
    · rw [rnE_stop (fun q => by omega)] at hX
      exact hX
/-- digits -/
theorem pM_tok85 {T : St} {b : Int → Int} {n : Int} {K : St → Prop} (h4 : fI T 4 = n) (hn : n ≤ 300) (h3 : ∀ k, 0 ≤ k → k < n → aI T 3 k = b k ∧ 0 ≤ b k ∧ b k ≤ 255) :
    ∀ (m : Nat) (p a : Int), 0 ≤ p → p ≤ n → n - p < m → (0 ≤ a ∧ a ≤ 1000009) → K (fset (fset T 10 (dgs b (rnE b n isDg p - p).toNat p a)) 7 (rnE b n isDg p)) → l_M_nextToken_85 K m (fset (fset T 10 a) 7 p) := by
  intro m
  induction m with
  | zero => intro p a p0 p1 p2; omega
  | succ m ih =>
    intro p a p0 p1 p2 ha hX
    have f7 : fI (fset (fset T 10 a) 7 p) 7 = p := fI_fset_s _ 7 p
    have f10 : fI (fset (fset T 10 a) 7 p) 10 = a := by rw [fI_fset_n (by omega), fI_fset_s]
    have f4 : fI (fset (fset T 10 a) 7 p) 4 = n := by rw [fI_fset_n (by omega), fI_fset_n (by omega)]; exact h4
    unfold l_M_nextToken_85 j_M_nextToken_131
    rw [f7, f10]
    refine fun _ => pM_byteAt f4 hn h3 p0 (fun c => fun _ => pM_isDigit (fun d => fun _ => ⟨fun z => absurd z (by decide), fun _ => ?_⟩) (fun d => fun _ => ⟨fun _ => ?_, fun z => absurd rfl z⟩)) (fun c => fun _ => pM_isDigit (fun d => absurd d (by omega)) (fun d => fun _ => ⟨fun _ => ?_, fun z => absurd rfl z⟩))
    · have bb := (h3 p p0 c).2
      have d' : 48 ≤ b p ∧ b p ≤ 57 := d
      have hb := rnE_bd (b := b) (n := n) (P := isDg) (p := p + 1) (by omega)
      rw [rnE_go ⟨c, d⟩] at hX
      have e1 : (rnE b n isDg (p + 1) - p).toNat = (rnE b n isDg (p + 1) - (p + 1)).toNat + 1 := by omega
      rw [e1] at hX
      have hX' : K (fset (fset T 10 (dgs b (rnE b n isDg (p + 1) - (p + 1)).toNat (p + 1) (if 100000 ≤ a then a else 10 * a + b p - 48))) 7 (rnE b n isDg (p + 1))) := hX
      refine fun _ => ⟨fun ge => fun _ => ⟨by omega, ?_⟩, fun lt => ⟨by omega, pM_byteAt f4 hn h3 p0 (fun _ => fun _ => ⟨by omega, by omega, ?_⟩) (fun z => absurd z (by omega))⟩⟩
      · rintro _ rfl
        rw [fset_fset]
        rw [if_pos ge] at hX'
        exact ih (p + 1) a (by omega) (by omega) (by omega) ha hX'
      · rintro _ rfl
        have g7 : fI (fset (fset (fset T 10 a) 7 p) 10 (10 * a + b p - 48)) 7 = p := by rw [fI_fset_n (by omega)]; exact f7
        rw [g7]
        refine fun _ => ⟨by omega, ?_⟩
        rintro _ rfl
        rw [if_neg lt] at hX'
        have es : fset (fset (fset (fset T 10 a) 7 p) 10 (10 * a + b p - 48)) 7 (p + 1) = fset (fset T 10 (10 * a + b p - 48)) 7 (p + 1) := by
          rw [fset_comm (show (7 : Nat) ≠ 10 by omega), fset_fset, fset_fset]
        rw [es]
        exact ih (p + 1) _ (by omega) (by omega) (by omega) (by omega) hX'
    · rw [rnE_stop (fun q => d q.2)] at hX
      rw [show (p - p).toNat = 0 by omega] at hX
      exact hX
    · rw [rnE_stop (fun q => by omega)] at hX
      rw [show (p - p).toNat = 0 by omega] at hX
      exact hX
