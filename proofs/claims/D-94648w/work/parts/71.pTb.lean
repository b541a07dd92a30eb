/-! PURE: text(): the twin's next token -/
theorem i64_nat (a : Nat) : (Int64.ofInt (a : Int)).toBitVec = BitVec.ofNat 64 a := by
  show BitVec.ofInt 64 (a : Int) = BitVec.ofNat 64 a
  exact BitVec.ofInt_natCast 64 a
theorem i64_toInt_nat (v : Int64) (n : Nat) (h : v.toBitVec = BitVec.ofNat 64 n) (hn : n < 9223372036854775808) : v.toInt = (n : Int) := by
  show v.toBitVec.toInt = _
  rw [h, BitVec.toInt_eq_toNat_of_lt (by rw [BitVec.toNat_ofNat]; omega), BitVec.toNat_ofNat]
  omega
theorem jOr_nat {a b : Nat} (ha : a < 9223372036854775808) (hb : b < 9223372036854775808) : jOr (a : Int) (b : Int) = ((a ||| b : Nat) : Int) := by
  unfold jOr
  refine i64_toInt_nat _ _ ?_ (Nat.or_lt_two_pow (n := 63) ha hb)
  rw [Int64.toBitVec_or, i64_nat, i64_nat]
  apply BitVec.eq_of_toNat_eq
  rw [BitVec.toNat_or, BitVec.toNat_ofNat, BitVec.toNat_ofNat, BitVec.toNat_ofNat]
  rw [Nat.mod_eq_of_lt (by omega : a < 2 ^ 64), Nat.mod_eq_of_lt (by omega : b < 2 ^ 64)]
  have := Nat.or_lt_two_pow (n := 63) ha hb
  omega
theorem jOr_256 {a c : Int} (ha : 0 ≤ a ∧ a < 36028797018963968) (hc : 0 ≤ c ∧ c < 256) : jOr (a * 256) c = a * 256 + c := by
  obtain ⟨a, rfl⟩ := Int.eq_ofNat_of_zero_le ha.1
  obtain ⟨c, rfl⟩ := Int.eq_ofNat_of_zero_le hc.1
  have e := jOr_nat (a := a * 256) (b := c) (by omega) (by omega)
  have e2 : 2 ^ 8 * a + c = 2 ^ 8 * a ||| c := Nat.two_pow_add_eq_or_of_lt (by omega) a
  rw [show a * 256 = 2 ^ 8 * a by omega] at e
  rw [← e2] at e
  have e3 : ((a : Int) * 256) = ((2 ^ 8 * a : Nat) : Int) := by omega
  rw [e3, e]
  omega
theorem pck_bd {b : Int → Int} {n : Int} (h3 : ∀ k, 0 ≤ k → k < n → 0 ≤ b k ∧ b k ≤ 255) : ∀ (m : Nat) (p a B : Int), 0 ≤ p → p + m ≤ n → (0 ≤ a ∧ a < B) → 0 ≤ pck b m p a ∧ pck b m p a < B * 256 ^ m := by
  intro m
  induction m with
  | zero =>
    intro p a B p0 p1 ha
    show 0 ≤ a ∧ a < B * 256 ^ 0
    rw [Int.pow_zero]
    omega
  | succ m ih =>
    intro p a B p0 p1 ha
    have hb := h3 p p0 (by omega)
    have := ih (p + 1) (a * 256 + b p) (B * 256) (by omega) (by omega) (by omega)
    show 0 ≤ pck b m (p + 1) (a * 256 + b p) ∧ pck b m (p + 1) (a * 256 + b p) < B * 256 ^ (m + 1)
    rw [Int.pow_succ]
    rw [show B * (256 ^ m * 256) = B * 256 * 256 ^ m by rw [Int.mul_comm (256 ^ m) 256, Int.mul_assoc]]
    exact this
theorem pck_snoc {b : Int → Int} : ∀ (m : Nat) (p a : Int), pck b (m + 1) p a = pck b m p a * 256 + b (p + m) := by
  intro m
  induction m with
  | zero =>
    intro p a
    show a * 256 + b p = a * 256 + b (p + 0)
    rw [Int.add_zero]
  | succ m ih =>
    intro p a
    show pck b (m + 1) (p + 1) (a * 256 + b p) = _
    rw [ih, show p + 1 + (m : Int) = p + ((m + 1 : Nat) : Int) by omega]
    rfl
/-- letters -/
theorem pM_tok161 {T : St} {b : Int → Int} {n q : Int} {K : St → Prop} {X : St → Prop} (h4 : fI T 4 = n) (hn : n ≤ 300) (h3 : ∀ k, 0 ≤ k → k < n → aI T 3 k = b k ∧ 0 ≤ b k ∧ b k ≤ 255) (h8 : fI T 8 = q) (q0 : 0 ≤ q) :
    ∀ (m : Nat) (p : Int), q ≤ p → p ≤ n → n - p < m → (∀ w, (rnE b n isLt p - q ≤ 7 → w = pck b (rnE b n isLt p - q).toNat q 0) → X (fset (fset T 11 w) 7 (rnE b n isLt p))) → ∀ w, (p - q ≤ 7 → w = pck b (p - q).toNat q 0) → l_M_nextToken_161 K X m (fset (fset T 11 w) 7 p) := by
  intro m
  induction m with
  | zero => intro p p0 p1 p2; omega
  | succ m ih =>
    intro p p0 p1 p2 hX w hw
    have f7 : fI (fset (fset T 11 w) 7 p) 7 = p := fI_fset_s _ 7 p
    have f11 : fI (fset (fset T 11 w) 7 p) 11 = w := by rw [fI_fset_n (by omega), fI_fset_s]
    have f4 : fI (fset (fset T 11 w) 7 p) 4 = n := by rw [fI_fset_n (by omega), fI_fset_n (by omega)]; exact h4
    have f8 : fI (fset (fset T 11 w) 7 p) 8 = q := by rw [fI_fset_n (by omega), fI_fset_n (by omega)]; exact h8
    have h3b : ∀ k, 0 ≤ k → k < n → 0 ≤ b k ∧ b k ≤ 255 := fun k k0 k1 => (h3 k k0 k1).2
    unfold l_M_nextToken_161 j_M_nextToken_210
    rw [f7, f8, f11]
    refine fun _ => pM_byteAt f4 hn h3 (by omega) (fun c => fun _ => pM_isLetter (fun d => fun _ => ⟨fun z => absurd z (by decide), fun _ => fun _ => ⟨by omega, ?_⟩⟩) (fun d => fun _ => ⟨fun _ => ?_, fun z => absurd rfl z⟩)) (fun c => fun _ => pM_isLetter (fun d => absurd d (by omega)) (fun d => fun _ => ⟨fun _ => ?_, fun z => absurd rfl z⟩))
    · have bb := h3b p (by omega) c
      rw [rnE_go ⟨c, d⟩] at hX
      refine ⟨fun ge => fun _ => ⟨by omega, ?_⟩, fun lt => fun _ => ?_⟩
      · rintro _ rfl
        rw [fset_fset]
        exact ih (p + 1) (by omega) (by omega) (by omega) hX w (fun z => absurd z (by omega))
      · have ew := hw (by omega)
        have wb := pck_bd (n := n) h3b (p - q).toNat q 0 1 q0 (by omega) (by omega)
        have p6 : (256 : Int) ^ (p - q).toNat ≤ 281474976710656 := by
          have k6 : (p - q).toNat ≤ 6 := by omega
          generalize (p - q).toNat = k at k6
          have : k = 0 ∨ k = 1 ∨ k = 2 ∨ k = 3 ∨ k = 4 ∨ k = 5 ∨ k = 6 := by omega
          rcases this with rfl | rfl | rfl | rfl | rfl | rfl | rfl <;> decide
        have wl : 0 ≤ w ∧ w < 281474976710656 := by rw [ew]; omega
        have e8 : (2 : Int) ^ Int.toNat 8 = 256 := by decide
        rw [e8]
        refine ⟨⟨by omega, by omega⟩, pM_byteAt f4 hn h3 (by omega) (fun _ => fun _ => ?_) (fun z => absurd z (by omega))⟩
        rintro _ rfl
        have g7 : fI (fset (fset (fset T 11 w) 7 p) 11 (jOr (w * 256) (b p))) 7 = p := by rw [fI_fset_n (by omega)]; exact f7
        rw [g7]
        refine fun _ => ⟨by omega, ?_⟩
        rintro _ rfl
        have es : fset (fset (fset (fset T 11 w) 7 p) 11 (jOr (w * 256) (b p))) 7 (p + 1) = fset (fset T 11 (w * 256 + b p)) 7 (p + 1) := by
          rw [jOr_256 (by omega) (by omega), fset_comm (show (7 : Nat) ≠ 11 by omega), fset_fset, fset_fset]
        rw [es]
        refine ih (p + 1) (by omega) (by omega) (by omega) hX _ (fun _ => ?_)
        rw [show (p + 1 - q).toNat = (p - q).toNat + 1 by omega, pck_snoc, ← ew]
        rw [show q + ((p - q).toNat : Int) = p by omega]
    · rw [rnE_stop (fun q => d q.2)] at hX
      exact hX w hw
    · rw [rnE_stop (fun q => by omega)] at hX
      exact hX w hw
/-- the token at hand -/
def tokM (T : St) (b : Int → Int) (n p : Int) : Prop := fI T 8 = tq b n p ∧ fI T 7 = te b n p ∧ fI T 9 = tk b n p ∧ (tk b n p = 1 → fI T 10 = tm b n p) ∧ (tk b n p = 2 → fI T 11 = tw b n p)
def tokK (T T' : St) : Prop := (∀ k, ¬ (7 ≤ k ∧ k ≤ 11) → fI T' k = fI T k) ∧ aI T' = aI T
theorem pM_sign {S : St} {b : Int → Int} {n q c y : Int} (h4 : fI S 4 = n) (hn : n ≤ 300) (h3 : ∀ k, 0 ≤ k → k < n → aI S 3 k = b k ∧ 0 ≤ b k ∧ b k ≤ 255) (h7 : fI S 7 = q + 1) (hq : 0 ≤ q ∧ q < n) :
    ∃ T', fI T' 7 = (if (c = 60 ∨ c = 62) ∧ q + 1 < n ∧ b (q + 1) = 61 then q + 2 else q + 1) ∧ fI T' 9 = (if (c = 60 ∨ c = 62) ∧ q + 1 < n ∧ b (q + 1) = 61 then (if c = 60 then 4 else 5) else y) ∧ (∀ k, k ≠ 7 → k ≠ 9 → fI T' k = fI S k) ∧ aI T' = aI S ∧ ∀ K : St → Prop, K T' → j_M_nextToken_337 c y S K := by
  have f7 : fI (fset S 9 y) 7 = q + 1 := by rw [fI_fset_n (by omega)]; exact h7
  have f4 : fI (fset S 9 y) 4 = n := by rw [fI_fset_n (by omega)]; exact h4
  by_cases cc : (c = 60 ∨ c = 62) ∧ q + 1 < n ∧ b (q + 1) = 61
  · rw [if_pos cc, if_pos cc]
    refine ⟨fset (fset (fset S 9 y) 7 (q + 2)) 9 (if c = 60 then 4 else 5), by rw [fI_fset_n (by omega), fI_fset_s], fI_fset_s _ _ _, fun k k0 k1 => by rw [fI_fset_n k1, fI_fset_n k0, fI_fset_n k1], rfl, fun K hK => ?_⟩
    have go : j_M_nextToken_352 c (fset S 9 y) K := by
      unfold j_M_nextToken_352
      rw [f7]
      refine fun _ => pM_byteAt f4 hn h3 (by omega) (fun _ => fun _ => ⟨fun z => absurd cc.2.2 z, fun _ => ⟨by omega, ?_⟩⟩) (fun z => absurd z (by omega))
      rintro _ rfl
      rw [show q + 1 + 1 = q + 2 by omega]
      refine ⟨fun z => ?_, fun z => ?_⟩
      · rintro _ rfl
        rw [if_neg z] at hK
        exact hK
      · rintro _ rfl
        rw [if_pos z] at hK
        exact hK
    unfold j_M_nextToken_337
    rintro _ rfl
    exact ⟨fun _ => go, fun z => ⟨fun z2 => absurd cc.1 (fun w => w.elim z z2), fun _ => go⟩⟩
  · rw [if_neg cc, if_neg cc]
    refine ⟨fset S 9 y, f7, fI_fset_s _ _ _, fun k k0 k1 => fI_fset_n k1, rfl, fun K hK => ?_⟩
    have go : (c = 60 ∨ c = 62) → j_M_nextToken_352 c (fset S 9 y) K := by
      intro w
      unfold j_M_nextToken_352
      rw [f7]
      exact fun _ => pM_byteAt f4 hn h3 (by omega) (fun lt => fun _ => ⟨fun _ => hK, fun z => absurd ⟨w, lt, z⟩ cc⟩) (fun z => fun _ => ⟨fun _ => hK, fun z => absurd z (by decide)⟩)
    unfold j_M_nextToken_337
    rintro _ rfl
    exact ⟨fun z => go (Or.inl z), fun _ => ⟨fun _ => hK, fun z => go (Or.inr z)⟩⟩
theorem pM_39 {T : St} {b : Int → Int} {n q : Int} {K : St → Prop} (h4 : fI T 4 = n) (hn : n ≤ 300) (h3 : ∀ k, 0 ≤ k → k < n → aI T 3 k = b k ∧ 0 ≤ b k ∧ b k ≤ 255) (hq : 0 ≤ q ∧ q ≤ n)
    (hE : n ≤ q → K (fset (fset (fset T 7 q) 8 q) 9 0)) (hD : q < n → isDg (b q) → ∃ m, l_M_nextToken_85 K m (fset (fset (fset (fset T 7 q) 8 q) 9 1) 10 0))
    (hL : q < n → ¬ isDg (b q) → isLt (b q) → ∃ m, l_M_nextToken_161 K (fun (zS : St) => j_M_nextToken_223 zS K) m (fset (fset (fset (fset T 7 q) 8 q) 9 2) 11 0))
    (hS : q < n → ¬ isDg (b q) → ¬ isLt (b q) → j_M_nextToken_337 (b q) (if sgn (b q) then b q else 3) (fset (fset (fset T 7 q) 8 q) 7 (q + 1)) K) : j_M_nextToken_39 (fset T 7 q) K := by
  have f7 : fI (fset (fset T 7 q) 8 q) 7 = q := by rw [fI_fset_n (by omega), fI_fset_s]
  have f4 : fI (fset (fset T 7 q) 8 q) 4 = n := by rw [fI_fset_n (by omega), fI_fset_n (by omega)]; exact h4
  unfold j_M_nextToken_39
  rw [fI_fset_s]
  rintro - _ rfl
  rw [f7]
  refine fun _ => pM_byteAt f4 hn h3 hq.1 (fun c => fun _ => ⟨fun _ => pM_isDigit (fun d => fun _ => ⟨fun z => absurd z (by decide), fun _ => ?_⟩) (fun d => fun _ => ⟨fun _ => pM_isLetter (fun l => fun _ => ⟨fun z => absurd z (by decide), fun _ => ?_⟩) (fun l => fun _ => ⟨fun _ => ⟨by omega, ?_⟩, fun z => absurd rfl z⟩), fun z => absurd rfl z⟩), fun z => absurd (h3 q hq.1 c).2.1 z⟩) (fun c => fun _ => ⟨fun z => absurd z (by decide), fun _ => ?_⟩)
  · rintro _ rfl _ rfl
    exact hD c d
  · rintro _ rfl _ rfl
    exact hL c d l
  · rintro _ rfl
    have hs := hS c d l
    have H1 : sgn (b q) → j_M_nextToken_321 (b q) (fset (fset (fset T 7 q) 8 q) 7 (q + 1)) K := by
      intro s
      rw [if_pos s] at hs
      unfold j_M_nextToken_321 j_M_nextToken_326
      exact ⟨fun z => absurd z (by decide), fun _ => hs⟩
    have H0 : ¬ sgn (b q) → j_M_nextToken_326 (b q) 0 (fset (fset (fset T 7 q) 8 q) 7 (q + 1)) K := by
      intro s
      rw [if_neg s] at hs
      unfold j_M_nextToken_326
      exact ⟨fun _ => hs, fun z => absurd rfl z⟩
    exact ⟨fun e => H1 (by omega), fun _ => ⟨fun e => H1 (by omega), fun _ => ⟨fun e => H1 (by omega), fun _ => ⟨fun e => H1 (by omega), fun _ => ⟨fun e => H1 (by omega), fun _ => ⟨fun e => H1 (by omega), fun _ => ⟨fun e => H1 (by omega), fun _ => ⟨fun e => H1 (by omega), fun _ => ⟨fun e => H1 (by omega), fun _ => ⟨fun e => H1 (by omega), fun _ => ⟨fun e => H0 (by omega), fun e => H1 (by omega)⟩⟩⟩⟩⟩⟩⟩⟩⟩⟩⟩
  · rintro _ rfl
    exact hE c
theorem pM_next {T : St} {b : Int → Int} {n p : Int} (h : tpM T b n) (h7 : fI T 7 = p) (hp : 0 ≤ p ∧ p ≤ n) : ∃ T', tokM T' b n p ∧ tokK T T' ∧ ∀ K : St → Prop, K T' → w_M_nextToken T K := by
  obtain ⟨h4, hn, h3⟩ := h
  have qb := rnE_bd (b := b) (n := n) (P := isBl) (p := p) hp.2
  have start : ∀ K : St → Prop, j_M_nextToken_39 (fset T 7 (rnE b n isBl p)) K → w_M_nextToken T K := by
    intro K hK
    have e := fset_self T 7
    rw [h7] at e
    have := pM_tok0 (X := fun zS => j_M_nextToken_39 zS K) (K := K) h4 hn.2 h3 ((n - p).toNat + 1) p hp.1 hp.2 (by omega) hK
    rw [e] at this
    unfold w_M_nextToken
    exact ⟨_, this⟩
  have tqe : tq b n p = rnE b n isBl p := rfl
  generalize rnE b n isBl p = q at start qb tqe
  have g4 : fI (fset (fset T 7 q) 8 q) 4 = n := by rw [fI_fset_n (by omega), fI_fset_n (by omega)]; exact h4
  by_cases c : n ≤ q
  · refine ⟨fset (fset (fset T 7 q) 8 q) 9 0, ⟨?_, ?_, ?_, fun z => ?_, fun z => ?_⟩, ⟨fun k hk => ?_, rfl⟩, fun K hK => start K (pM_39 h4 hn.2 h3 (by omega) (fun _ => hK) (fun z => absurd z (by omega)) (fun z => absurd z (by omega)) (fun z => absurd z (by omega)))⟩
    · rw [fI_fset_n (by omega), fI_fset_s, tqe]
    · rw [fI_fset_n (by omega), fI_fset_n (by omega), fI_fset_s]
      unfold te
      rw [tqe]
      dsimp only
      rw [if_pos c]
    · rw [fI_fset_s]
      unfold tk
      rw [tqe]
      dsimp only
      rw [if_pos c]
    · unfold tk at z
      rw [tqe] at z
      dsimp only at z
      rw [if_pos c] at z
      omega
    · unfold tk at z
      rw [tqe] at z
      dsimp only at z
      rw [if_pos c] at z
      omega
    · rw [fI_fset_n (by omega), fI_fset_n (by omega), fI_fset_n (by omega)]
  · by_cases d : isDg (b q)
    · have eb := rnE_bd (b := b) (n := n) (P := isDg) (p := q) qb.2
      have ek : tk b n p = 1 := by
        unfold tk
        rw [tqe]
        dsimp only
        rw [if_neg c, if_pos d]
      have ee : te b n p = rnE b n isDg q := by
        unfold te
        rw [tqe]
        dsimp only
        rw [if_neg c, if_pos d]
      refine ⟨fset (fset (fset (fset (fset T 7 q) 8 q) 9 1) 10 (tm b n p)) 7 (te b n p), ⟨?_, fI_fset_s _ _ _, ?_, fun _ => ?_, fun z => by omega⟩, ⟨fun k hk => ?_, rfl⟩, fun K hK => start K (pM_39 h4 hn.2 h3 (by omega) (fun z => absurd z c) (fun _ _ => ⟨(n - q).toNat + 1, ?_⟩) (fun _ z => absurd d z) (fun _ z => absurd d z))⟩
      · rw [fI_fset_n (by omega), fI_fset_n (by omega), fI_fset_n (by omega), fI_fset_s, tqe]
      · rw [fI_fset_n (by omega), fI_fset_n (by omega), fI_fset_s, ek]
      · rw [fI_fset_n (by omega), fI_fset_s]
      · rw [fI_fset_n (by omega), fI_fset_n (by omega), fI_fset_n (by omega), fI_fset_n (by omega), fI_fset_n (by omega)]
      · have e9 : fset (fset (fset (fset (fset T 7 q) 8 q) 9 1) 10 0) 7 q = fset (fset (fset (fset T 7 q) 8 q) 9 1) 10 0 := by
          have z := fset_self (fset (fset (fset (fset T 7 q) 8 q) 9 1) 10 0) 7
          rw [show fI (fset (fset (fset (fset T 7 q) 8 q) 9 1) 10 0) 7 = q by rw [fI_fset_n (by omega), fI_fset_n (by omega), fI_fset_n (by omega), fI_fset_s]] at z
          exact z
        rw [← e9]
        refine pM_tok85 (T := fset (fset (fset T 7 q) 8 q) 9 1) (b := b) (n := n) (by rw [fI_fset_n (by omega)]; exact g4) hn.2 h3 ((n - q).toNat + 1) q 0 (by omega) (by omega) (by omega) (by omega) ?_
        have em : tm b n p = dgs b (rnE b n isDg q - q).toNat q 0 := by
          unfold tm
          rw [ee, tqe]
        rw [← em, ← ee]
        exact hK
    · by_cases l : isLt (b q)
      · have eb := rnE_bd (b := b) (n := n) (P := isLt) (p := q) qb.2
        have ek : tk b n p = 2 := by
          unfold tk
          rw [tqe]
          dsimp only
          rw [if_neg c, if_neg d, if_pos l]
        have ee : te b n p = rnE b n isLt q := by
          unfold te
          rw [tqe]
          dsimp only
          rw [if_neg c, if_neg d, if_pos l]
        have h8 : fI (fset (fset (fset T 7 q) 8 q) 9 2) 8 = q := by rw [fI_fset_n (by omega), fI_fset_s]
        have h49 : fI (fset (fset (fset T 7 q) 8 q) 9 2) 4 = n := by rw [fI_fset_n (by omega)]; exact g4
        refine ⟨fset (fset (fset (fset (fset T 7 q) 8 q) 9 2) 11 (tw b n p)) 7 (te b n p), ⟨?_, fI_fset_s _ _ _, ?_, fun z => by omega, fun _ => ?_⟩, ⟨fun k hk => ?_, rfl⟩, fun K hK => start K (pM_39 h4 hn.2 h3 (by omega) (fun z => absurd z c) (fun _ z => absurd z d) (fun _ _ _ => ⟨(n - q).toNat + 1, ?_⟩) (fun _ _ z => absurd l z))⟩
        · rw [fI_fset_n (by omega), fI_fset_n (by omega), h8, tqe]
        · rw [fI_fset_n (by omega), fI_fset_n (by omega), fI_fset_s, ek]
        · rw [fI_fset_n (by omega), fI_fset_s]
        · rw [fI_fset_n (by omega), fI_fset_n (by omega), fI_fset_n (by omega), fI_fset_n (by omega), fI_fset_n (by omega)]
        · have e9 : fset (fset (fset (fset (fset T 7 q) 8 q) 9 2) 11 0) 7 q = fset (fset (fset (fset T 7 q) 8 q) 9 2) 11 0 := by
            have z := fset_self (fset (fset (fset (fset T 7 q) 8 q) 9 2) 11 0) 7
            rw [show fI (fset (fset (fset (fset T 7 q) 8 q) 9 2) 11 0) 7 = q by rw [fI_fset_n (by omega), fI_fset_n (by omega), fI_fset_n (by omega), fI_fset_s]] at z
            exact z
          rw [← e9]
          refine pM_tok161 (T := fset (fset (fset T 7 q) 8 q) 9 2) (b := b) (n := n) (q := q) h49 hn.2 h3 h8 (by omega) ((n - q).toNat + 1) q (Int.le_refl _) (by omega) (by omega) (fun w hw => ?_) 0 (fun _ => by rw [show (q - q).toNat = 0 by omega]; rfl)
          rw [← ee] at hw ⊢
          have k7 : fI (fset (fset (fset (fset (fset T 7 q) 8 q) 9 2) 11 w) 7 (te b n p)) 7 = te b n p := fI_fset_s _ _ _
          have k8 : fI (fset (fset (fset (fset (fset T 7 q) 8 q) 9 2) 11 w) 7 (te b n p)) 8 = q := by rw [fI_fset_n (by omega), fI_fset_n (by omega)]; exact h8
          unfold j_M_nextToken_223
          rw [k7, k8]
          refine fun _ => fun _ => ⟨by omega, fun z => ?_, fun z => ?_⟩
          · have ew : tw b n p = w := by
              unfold tw
              rw [tqe, if_pos z]
              exact (hw z).symm
            rw [ew] at hK
            exact hK
          · rintro _ rfl
            have ew : tw b n p = 0 := by
              unfold tw
              rw [tqe, if_neg z]
            rw [ew] at hK
            rw [fset_comm (show (7 : Nat) ≠ 11 by omega), fset_fset]
            exact hK
      · obtain ⟨T', u1, u2, u3, u4, u5⟩ := pM_sign (S := fset (fset (fset T 7 q) 8 q) 7 (q + 1)) (b := b) (n := n) (q := q) (c := b q) (y := if sgn (b q) then b q else 3) (by rw [fI_fset_n (by omega)]; exact g4) hn.2 h3 (fI_fset_s _ _ _) (by omega)
        have ek : tk b n p = fI T' 9 := by
          rw [u2]
          unfold tk
          rw [tqe]
          dsimp only
          rw [if_neg c, if_neg d, if_neg l]
        have n12 : fI T' 9 ≠ 1 ∧ fI T' 9 ≠ 2 := by
          rw [u2]
          by_cases z : (b q = 60 ∨ b q = 62) ∧ q + 1 < n ∧ b (q + 1) = 61
          · rw [if_pos z]
            by_cases z2 : b q = 60
            · rw [if_pos z2]; omega
            · rw [if_neg z2]; omega
          · rw [if_neg z]
            by_cases z2 : sgn (b q)
            · rw [if_pos z2]; omega
            · rw [if_neg z2]; omega
        refine ⟨T', ⟨?_, ?_, ek.symm, fun z => by omega, fun z => by omega⟩, ⟨fun k hk => ?_, u4⟩, fun K hK => start K (pM_39 h4 hn.2 h3 (by omega) (fun z => absurd z c) (fun _ z => absurd z d) (fun _ _ z => absurd z l) (fun _ _ _ => u5 K hK))⟩
        · rw [u3 8 (by omega) (by omega), fI_fset_n (by omega), fI_fset_s, tqe]
        · rw [u1]
          unfold te
          rw [tqe]
          dsimp only
          rw [if_neg c, if_neg d, if_neg l]
        · rw [u3 k (by omega) (by omega), fI_fset_n (by omega), fI_fset_n (by omega), fI_fset_n (by omega)]
