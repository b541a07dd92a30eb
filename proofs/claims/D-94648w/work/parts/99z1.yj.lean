/-! PURE: text(): read, component: the Text is made -/
/-- the reader before its first token -/
def xt0 (S : St) (x0 tp : Nat) (n : Int) : Prop := gI S x0 = some (.inr (.inl (3, [.inr (.inr (some tp)), .inl n, .inl 0, .inl 0, .inl 0, .inl 0, .inl 0, .inl 0])))
theorem nx0B {S : St} {x0 tp : Nat} {b : Int → Int} {n : Int} {G : St → Prop} (hT : hT S b n tp) (h : xt0 S x0 tp n) (hB : 0 ≤ fI S 200 ∧ 0 ≤ fI S 201) (hG : ∀ S', frX S S' x0 → (fI S' 200 = fI S 200 ∧ fI S' 201 = fI S 201) → xtk S' x0 b n 0 0 0 → G S') : ∃ c d : Int, ((0 ≤ c ∧ c ≤ fI S 200) ∧ 0 ≤ d ∧ d ≤ fI S 201) ∧ w_X3_next x0 (bset S c d) (fun S1 => ∀ S2 : St, S2 = bset S1 (fI S 200 - c) (fI S 201 - d) → G S2) := by
  refine ⟨0, 0, ⟨⟨Int.le_refl _, hB.1⟩, Int.le_refl _, hB.2⟩, ?_⟩
  have e : bset S 0 0 = tS (bset S 0 0) x0 tp n 0 0 0 0 0 0 := (gset_self (S := bset S 0 0) h).symm
  rw [e]
  refine x_next (S := bset S 0 0) (b := b) (p := 0) hT (by rw [bset_200, bset_201]; omega) ⟨Int.le_refl _, hT.2.1.1⟩ (fun num hn _ S2 e2 => ?_)
  have f : frW S S2 (fun a => a = x0) := by rw [e2]; exact frW.br (frW.tr (frW.br (frW.refl _ _)) (frW.old rfl))
  refine hG S2 f.X (by rw [e2, bset_200, bset_201]; omega) ⟨⟨Int.le_refl _, hT.2.1.1⟩, tp, num, ?_, by rw [e2]; exact tS_g, hn⟩
  obtain ⟨k1, k2, k3⟩ := hT
  exact ⟨by rw [f.2.2.1]; exact k1, k2, fun k k0 kk => by rw [f.2.1]; exact k3 k k0 kk⟩
theorem x_t_initB {S0 S : St} {q : Nat} {G : St → Prop} (h : gI S q = some (.inr (.inl (4, [.inr (.inr none), .inr (.inr none), .inr (.inr none), .inr (.inr none), .inr (.inr none), .inl 0])))) (q0 : gI S0 q = none) (hl : liv S0 S) (hB : 2 ≤ fI S 200 ∧ 23 ≤ fI S 201)
    (hG : ∀ (S' : St) (m l ed : Nat), frW S S' (fun a => a = q) → (fI S' 200 = fI S 200 - 2 ∧ fI S' 201 = fI S 201 - 23) → TC S0 S' q 0 none none none m l ed (fun _ => 0) 0 (fun _ => 0) (fun _ => none) → G S') :
    ∃ u v : Int, ((0 ≤ u ∧ u ≤ fI S 200) ∧ 0 ≤ v ∧ v ≤ fI S 201) ∧ w_X4_init q (bset S u v) (fun S1 => ∀ S2 : St, S2 = bset S1 (fI S 200 - u) (fI S 201 - v) → G S2) := by
  refine ⟨2, 23, ⟨⟨by omega, hB.1⟩, by omega, hB.2⟩, ⟨by rw [bset_200, bset_201]; omega, fun m S1 hm e1 => ?_⟩⟩
  have hmS : gI S m = none := hm
  have qm : q ≠ m := fun z => by rw [← z, h] at hmS; cases hmS
  have f1 : frW S S1 (fun a => a = q) := by rw [e1]; exact frW.bs (frW.new hm)
  have g1 : gI S1 q = some (.inr (.inl (4, [.inr (.inr none), .inr (.inr none), .inr (.inr none), .inr (.inr none), .inr (.inr none), .inl 0]))) := by rw [e1, gI_bset, gI_gset_n qm]; exact h
  have m1 : gI S1 m = some (.inl (0, 20, fun _ => 0)) := by rw [e1, gI_bset, gI_gset_s]
  have b1 : fI S1 200 = 1 ∧ fI S1 201 = 3 := by rw [e1, bset_200, bset_201, bset_200, bset_201]; exact ⟨rfl, rfl⟩
  clear e1
  refine ⟨_, g1, rfl, fun S2 e2 => ?_⟩
  have f2' : frW S1 S2 (fun a => a = q) := by rw [e2]; exact frW.old rfl
  have g2 : gI S2 q = some (.inr (.inl (4, [.inr (.inr none), .inr (.inr none), .inr (.inr none), .inr (.inr (some m)), .inr (.inr none), .inl 0]))) := by rw [e2, gI_gset_s]; rfl
  have m2 := f2'.2.2.2 _ _ qm.symm m1
  have b2 : fI S2 200 = 1 ∧ fI S2 201 = 3 := by rw [e2]; exact b1
  have f2 := frW.tr f1 f2'
  clear e2
  refine ⟨by omega, fun l S3 hll e3 => ?_⟩
  have ql : q ≠ l := fun z => by rw [← z, g2] at hll; cases hll
  have ml : m ≠ l := fun z => by rw [← z, m2] at hll; cases hll
  have hlS : gI S l = none := by
    cases hg : gI S l with
    | none => rfl
    | some y => rw [f2.2.2.2 _ _ ql.symm hg] at hll; cases hll
  have f3' : frW S2 S3 (fun a => a = q) := by rw [e3]; exact frW.br (frW.new hll)
  have q3 : gI S3 q = some (.inr (.inl (4, [.inr (.inr none), .inr (.inr none), .inr (.inr none), .inr (.inr (some m)), .inr (.inr none), .inl 0]))) := by rw [e3, gI_bset, gI_gset_n ql]; exact g2
  have m3 := f3'.2.2.2 _ _ qm.symm m2
  have l3 : gI S3 l = some (.inr (.inl (14, [.inl 0, .inr (.inr none), .inl 0]))) := by rw [e3, gI_bset, gI_gset_s]
  have b3 : fI S3 200 = 0 ∧ fI S3 201 = 0 := by rw [e3, bset_200, bset_201]; omega
  clear e3
  refine ⟨0, 0, ⟨⟨by omega, by omega⟩, by omega, by omega⟩, x_li_init (S := bset S3 0 0) l3 (by rw [bset_200, bset_201]; omega) (fun e0 S4 c1 c2 f4 g4 S5 e5 => ?_)⟩
  have f5' : frW S3 S5 (fun a => a = l) := by rw [e5]; exact frW.bs f4
  have q5 := f5'.2.2.2 _ _ ql q3
  have m5 := f5'.2.2.2 _ _ ml m3
  have l5 : gI S5 l = some (.inr (.inl (14, [.inl 0, .inr (.inr (some e0)), .inl 0]))) := by rw [e5]; exact g4
  have el : e0 ≠ l := fun z => by rw [z] at c2; have := c2.symm.trans l3; cases this
  have c5 : gI S5 e0 = some (.inr (.inr (8, 0, fun _ => none))) := f5'.2.2.2 _ _ el c2
  have r5 : rI S5 500 0 = some e0 := by rw [f5'.2.2.1]; exact c1
  have f5 : frW S S5 (fun a => a = q) := frW.trans (frW.tr f2 f3') f5' (fun a z => Or.inr (by rw [z]; exact hlS))
  clear e5
  refine ⟨_, q5, rfl, fun S6 e6 S7 e7 => ?_⟩
  have f7' : frW S5 S7 (fun a => a = q) := by rw [e7, e6]; exact frW.br (frW.old rfl)
  have q7 : gI S7 q = some (.inr (.inl (4, [.inr (.inr none), .inr (.inr none), .inr (.inr none), .inr (.inr (some m)), .inr (.inr (some l)), .inl 0]))) := by rw [e7, gI_bset, e6, gI_gset_s]; rfl
  have qe : e0 ≠ q := fun z => by rw [z, q5] at c5; cases c5
  have r7 : rI S7 500 0 = some e0 := by rw [f7'.2.2.1]; exact r5
  have c7 := f7'.2.2.2 _ _ qe c5
  exact hG S7 m l e0 (frW.tr f5 f7') (by rw [e7, bset_200, bset_201]; exact ⟨rfl, rfl⟩) ⟨q7, f7'.2.2.2 _ _ qm.symm m5, ⟨⟨e0, r7, c7⟩, 0, _, f7'.2.2.2 _ _ ql.symm l5, c7, by omega, fun _ => r7, fun i i0 i1 => by omega⟩, q0, hl _ hmS, hl _ hlS, fun z => absurd r7 z, (fun a y w => by cases w), (fun a y w => by cases w), rfl, rfl, rfl, rfl⟩
