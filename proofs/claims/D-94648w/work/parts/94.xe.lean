/-! PURE: text(): the component's reader: frames, a token behind the next, faults -/
/-- all but the reader's object, the room and new cells is as it was -/
def frX (S S' : St) (x0 : Nat) : Prop := (∀ k, k ≠ 200 → k ≠ 201 → fI S' k = fI S k) ∧ aI S' = aI S ∧ rI S' = rI S ∧ ∀ a e, a ≠ x0 → gI S a = some e → gI S' a = some e
theorem frX.refl (S : St) (x0 : Nat) : frX S S x0 := ⟨fun _ _ _ => rfl, rfl, rfl, fun _ _ _ h => h⟩
theorem frX.trans {S S1 S2 : St} {x0 : Nat} (h : frX S S1 x0) (h' : frX S1 S2 x0) : frX S S2 x0 := ⟨fun k a c => (h'.1 k a c).trans (h.1 k a c), h'.2.1.trans h.2.1, h'.2.2.1.trans h.2.2.1, fun a e c q => h'.2.2.2 a e c (h.2.2.2 a e c q)⟩
theorem frX.bs {S S1 : St} {x0 : Nat} {a b c d : Int} (h : frX (bset S a b) S1 x0) : frX S (bset S1 c d) x0 := ⟨fun k k1 k2 => by rw [fI_bset k1 k2, h.1 k k1 k2, fI_bset k1 k2], h.2.1, h.2.2.1, h.2.2.2⟩
theorem frX.new {S S1 : St} {x0 q : Nat} {e : PE} {c d : Int} (h : gI S q = none) (e1 : S1 = bset (gset S q e) c d) : frX S S1 x0 := by
  subst e1
  refine ⟨fun k k1 k2 => by rw [fI_bset k1 k2]; rfl, rfl, rfl, fun a f _ q1 => ?_⟩
  rw [gI_bset, gI_gset_n (fun z => by rw [z, h] at q1; cases q1)]
  exact q1
/-- the reader stands at the token behind p -/
def xtk (S : St) (x0 : Nat) (b : Int → Int) (n p o kd : Int) : Prop := (0 ≤ p ∧ p ≤ n) ∧ ∃ (tp : Nat) (num : Int), hT S b n tp ∧ gI S x0 = some (.inr (.inl (3, [.inr (.inr (some tp)), .inl n, .inl (te b n p), .inl (tq b n p), .inl (sX b n p), .inl num, .inl o, .inl kd]))) ∧ (tk b n p = 1 → num = min 99999 (tm b n p))
theorem xtk.bs {S : St} {x0 : Nat} {b : Int → Int} {n p o kd c d : Int} (h : xtk S x0 b n p o kd) : xtk (bset S c d) x0 b n p o kd := h
theorem xtk.fr {S S' : St} {x0 q : Nat} {b : Int → Int} {n p o kd : Int} (h : xtk S x0 b n p o kd) (hf : frX S S' q) (hq : x0 ≠ q) : xtk S' x0 b n p o kd := by
  obtain ⟨hp, tp, num, h1, h2, h3⟩ := h
  refine ⟨hp, tp, num, ?_, hf.2.2.2 _ _ hq h2, h3⟩
  unfold hT at h1 ⊢
  rw [hf.2.1, hf.2.2.1]
  exact h1
theorem xtk.o {S : St} {x0 : Nat} {b : Int → Int} {n p o kd : Int} (h : xtk S x0 b n p o kd) : ∃ fs : List PV, gI S x0 = some (.inr (.inl (3, fs))) := by
  obtain ⟨-, tp, num, -, h2, -⟩ := h
  exact ⟨_, h2⟩
/-- a Wrong -/
def eW (S : St) (q : Nat) (f pl : Int) : Prop := ∃ fs : List PV, gI S q = some (.inr (.inl (5, fs))) ∧ fs[6]? = some (.inl f) ∧ fs[7]? = some (.inl pl)
theorem te_bd {b : Int → Int} {n p : Int} (hp : p ≤ n) : p ≤ tq b n p ∧ tq b n p ≤ te b n p ∧ te b n p ≤ n := by
  have hq : p ≤ tq b n p ∧ tq b n p ≤ n := rnE_bd hp
  by_cases h : n ≤ tq b n p
  · have := (t_end h).1
    omega
  · by_cases h1 : isDg (b (tq b n p))
    · have e := (t_dig h h1).1
      have := rnE_bd (b := b) (n := n) (P := isDg) hq.2
      omega
    · by_cases h2 : isLt (b (tq b n p))
      · have e := (t_let h h2).1
        have := rnE_bd (b := b) (n := n) (P := isLt) hq.2
        omega
      · by_cases h3 : (b (tq b n p) = 60 ∨ b (tq b n p) = 62) ∧ tq b n p + 1 < n ∧ b (tq b n p + 1) = 61
        · have e := (t_two h h1 h2 h3).1
          omega
        · have e := (t_one h h1 h2 h3).1
          omega
section XLAW
variable {S : St} {x0 : Nat} {b : Int → Int} {n p o kd : Int}
theorem x_nx {K : St → Prop} (h : xtk S x0 b n p o kd) (hB : 0 ≤ fI S 200 ∧ 0 ≤ fI S 201) (hK : ∀ S', frX S S' x0 → fI S' = fI S → xtk S' x0 b n (te b n p) o kd → K S') : w_X3_next x0 S K := by
  obtain ⟨hp, tp, num, h1, h2, h3⟩ := h
  have hb := te_bd (b := b) hp.2
  have e : S = tS S x0 tp n (te b n p) (tq b n p) (sX b n p) num o kd := (gset_self h2).symm
  have hK2 : ∀ num' : Int, (tk b n (te b n p) = 1 → num' = min 99999 (tm b n (te b n p))) → K (tS S x0 tp n (te b n (te b n p)) (tq b n (te b n p)) (sX b n (te b n p)) num' o kd) := fun num' hn => by
    refine hK _ ⟨fun _ _ _ => rfl, rfl, rfl, fun a f c q => ?_⟩ rfl ⟨⟨by omega, hb.2.2⟩, tp, num', h1, tS_g, hn⟩
    show gI (gset S x0 _) a = some f
    rw [gI_gset_n c]
    exact q
  have := x_next (p := te b n p) (S := S) (x0 := x0) (o := o) (kd := kd) (t0 := tq b n p) (s0 := sX b n p) (m0 := num) h1 hB ⟨by omega, hb.2.2⟩ (K := K) (fun num' hn _ => hK2 num' hn)
  rw [← e] at this
  exact this
/-- next(), at a call -/
theorem nxB {G : St → Prop} (h : xtk S x0 b n p o kd) (hB : 0 ≤ fI S 200 ∧ 0 ≤ fI S 201) (hG : ∀ S', frX S S' x0 → (fI S' 200 = fI S 200 ∧ fI S' 201 = fI S 201) → xtk S' x0 b n (te b n p) o kd → G S') : ∃ c d : Int, ((0 ≤ c ∧ c ≤ fI S 200) ∧ 0 ≤ d ∧ d ≤ fI S 201) ∧ w_X3_next x0 (bset S c d) (fun S1 => ∀ S2 : St, S2 = bset S1 (fI S 200 - c) (fI S 201 - d) → G S2) := by
  refine ⟨0, 0, ⟨⟨Int.le_refl _, hB.1⟩, Int.le_refl _, hB.2⟩, x_nx (S := bset S 0 0) h.bs (by rw [bset_200, bset_201]; exact ⟨Int.le_refl _, Int.le_refl _⟩) (fun S1 f1 _ t1 S2 e2 => ?_)⟩
  subst e2
  exact hG _ f1.bs (by rw [bset_200, bset_201]; exact ⟨by omega, by omega⟩) t1.bs
/-- wrong(f), at a call -/
theorem wrB {f : Int} {E : Nat → St → Prop} (h : xtk S x0 b n p o kd) (hB : 1 ≤ fI S 200 ∧ 8 ≤ fI S 201) (hE : ∀ (q : Nat) (S' : St), frX S S' x0 → eW S' q f (tq b n p) → E q S') : ∃ c d : Int, ((0 ≤ c ∧ c ≤ fI S 200) ∧ 0 ≤ d ∧ d ≤ fI S 201) ∧ w_X3_wrong x0 f (bset S c d) (fun r S1 => ∀ S2 : St, S2 = bset S1 (fI S 200 - c) (fI S 201 - d) → ∃ q : Nat, r = some q ∧ ((∃ fs : List PV, gI S2 q = some (.inr (.inl (5, fs)))) ∧ E q S2)) := by
  obtain ⟨hp, tp, num, h1, h2, h3⟩ := h
  refine ⟨1, 8, ⟨⟨by omega, hB.1⟩, by omega, hB.2⟩, _, _, h2, rfl, by rw [bset_200, bset_201]; exact ⟨by omega, by omega⟩, fun q u v S1 hq e1 S2 e2 => ⟨q, rfl, ?_⟩⟩
  subst e2
  have hg : gI (bset S1 (fI S 200 - 1) (fI S 201 - 8)) q = some (.inr (.inl (5, [.inr (.inr (some q)), .inr (.inr u), .inr (.inr v), .inr (.inr none), .inr (.inr none), .inl 0, .inl f, .inl (tq b n p)]))) := by
    rw [e1, gI_bset, gI_bset, gI_gset_s]
  exact ⟨⟨_, hg⟩, hE q _ (frX.bs (frX.new hq e1)) ⟨_, hg, rfl, rfl⟩⟩
end XLAW
