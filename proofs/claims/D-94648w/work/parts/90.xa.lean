/-! PURE: text(): the component's reader of tokens -/
theorem gset_self {S : St} {a : Nat} {e : PE} (h : gI S a = some e) : gset S a e = S := by
  unfold gset
  refine Prod.ext rfl (Prod.ext rfl (Prod.ext rfl ?_))
  funext x
  by_cases c : x = a
  · subst c
    simp
    exact h.symm
  · simp [c]
theorem gI_gset_n {S : St} {a x : Nat} {e : PE} (h : x ≠ a) : gI (gset S a e) x = gI S x := by rw [gI_gset, if_neg h]
/-- the reader at work: its object -/
def tS (S : St) (x0 tp : Nat) (n at' tok so num o kd : Int) : St := gset S x0 (.inr (.inl (3, [.inr (.inr (some tp)), .inl n, .inl at', .inl tok, .inl so, .inl num, .inl o, .inl kd])))
theorem tS_g {S : St} {x0 tp : Nat} {n at' tok so num o kd : Int} : gI (tS S x0 tp n at' tok so num o kd) x0 = some (.inr (.inl (3, [.inr (.inr (some tp)), .inl n, .inl at', .inl tok, .inl so, .inl num, .inl o, .inl kd]))) := gI_gset_s _ _ _
def hT (S : St) (b : Int → Int) (n : Int) (tp : Nat) : Prop := rI S 500 1 = some tp ∧ (0 ≤ n ∧ n ≤ 300) ∧ ∀ k, 0 ≤ k → k < n → aI S 8 k % 256 = b k ∧ -128 ≤ aI S 8 k ∧ aI S 8 k ≤ 127
theorem wch_b {i k : Int} (hi : 0 ≤ i ∧ i < 25) (hk : 0 ≤ k ∧ k < 11) : 0 ≤ wch i k ∧ wch i k ≤ 127 := by
  have h : ∀ i, i < 25 → ∀ k, k < 11 → 0 ≤ ((wByt.getD i []).getD k 0).toInt ∧ ((wByt.getD i []).getD k 0).toInt ≤ 127 := by decide +kernel
  exact h i.toNat (by omega) k.toNat (by omega)
theorem wlen_b {i : Int} (hi : 0 ≤ i ∧ i < 24) : 2 ≤ wlen i ∧ wlen i ≤ 7 := by
  have h : ∀ i, i < 24 → 2 ≤ wLen.getD i 0 ∧ wLen.getD i 0 ≤ 7 := by decide +kernel
  have := h i.toNat (by omega)
  unfold wlen
  omega
theorem wlen_24 : wlen 24 = 11 := by decide +kernel
def mtc (b : Int → Int) (q i : Int) : Prop := ∀ k, 0 ≤ k → k < wlen i → b (q + k) = wch i k
section XTOK
variable {S : St} {b : Int → Int} {n at' tok so num o kd : Int} {tp x0 : Nat}
theorem x_isWord_l {i : Int} {K : Int → St → Prop} (hh : hT S b n tp) (hi : 0 ≤ i ∧ i < 24) (he : at' - tok = wlen i) (h0 : 0 ≤ tok) (h1 : at' ≤ n) (k1 : mtc b tok i → K 1 (tS S x0 tp n at' tok so num o kd)) (k0 : ¬ mtc b tok i → K 0 (tS S x0 tp n at' tok so num o kd)) :
    ∀ (m : Nat) (x2 : Int), 0 ≤ x2 → x2 ≤ wlen i → (∀ k, 0 ≤ k → k < x2 → b (tok + k) = wch i k) → wlen i - x2 < m → l_X3_isWord_20 x0 i K m x2 (tS S x0 tp n at' tok so num o kd) := by
  have hw := wlen_b hi
  have hn := hh.2.1
  intro m
  induction m with
  | zero => intro x2 _ h2 _ h4; exact absurd h4 (by show ¬ (_ < (0 : Int)); omega)
  | succ m ih =>
    intro x2 a1 a2 a3 a4
    have hc : wlen i ≤ x2 → K 1 (tS S x0 tp n at' tok so num o kd) := fun c => k1 (fun k q1 q2 => a3 k q1 (by omega))
    refine ⟨⟨hi.1, by omega⟩, hc, fun c => ?_⟩
    refine ⟨_, _, tS_g, rfl, hh.1, _, _, tS_g, rfl, fun _ => ⟨by constructor <;> omega, ⟨by omega, by have := hh.2.1; omega⟩, fun _ _ => ⟨⟨hi.1, by omega⟩, ⟨a1, by omega⟩, ?_⟩⟩⟩
    obtain ⟨g1, g2, g3⟩ := hh.2.2 (tok + x2) (by omega) (by omega)
    have hb := wch_b (i := i) (k := x2) ⟨hi.1, by omega⟩ ⟨a1, by omega⟩
    have e8 : aI (tS S x0 tp n at' tok so num o kd) 8 (tok + x2) = aI S 8 (tok + x2) := rfl
    rw [e8]
    refine ⟨fun c2 => ⟨by constructor <;> omega, ih (x2 + 1) (by omega) (by omega) (fun k q1 q2 => ?_) (by push_cast at a4; omega)⟩, fun c2 => k0 (fun hm => ?_)⟩
    · by_cases c3 : k = x2
      · subst c3
        omega
      · exact a3 k q1 (by omega)
    · have := hm x2 a1 (by omega)
      omega
theorem x_isWord {i : Int} {K : Int → St → Prop} (hh : hT S b n tp) (hi : 0 ≤ i ∧ i < 24) (h0 : 0 ≤ tok ∧ tok ≤ at') (h1 : at' ≤ n) (k1 : at' - tok = wlen i → mtc b tok i → K 1 (tS S x0 tp n at' tok so num o kd)) (k0 : ¬ (at' - tok = wlen i ∧ mtc b tok i) → K 0 (tS S x0 tp n at' tok so num o kd)) : w_X3_isWord x0 i (tS S x0 tp n at' tok so num o kd) K := by
  have hn := hh.2.1
  have hw := wlen_b hi
  refine ⟨_, _, tS_g, rfl, fun _ => ⟨_, _, tS_g, rfl, fun _ => ⟨by constructor <;> omega, ⟨hi.1, by omega⟩, fun c => ⟨(wlen i).toNat + 1, ?_⟩, fun c => k0 (fun z => c z.1)⟩⟩⟩
  exact x_isWord_l hh hi c h0.1 h1 (k1 c) (fun z => k0 (fun y => z y.2)) _ 0 (by omega) (by omega) (fun k q1 q2 => by omega) (by push_cast; omega)
theorem p_isLetX {x : Int} {K : Int → Prop} (h1 : isLt x → K 1) (h0 : ¬ isLt x → K 0) : w_X3_isLetter x K := by
  unfold w_X3_isLetter j_X3_isLetter_12
  grind
theorem p_isDigX {x : Int} {K : Int → Prop} (h1 : isDg x → K 1) (h0 : ¬ isDg x → K 0) : w_X3_isDigit x K := by
  unfold w_X3_isDigit
  grind
end XTOK
