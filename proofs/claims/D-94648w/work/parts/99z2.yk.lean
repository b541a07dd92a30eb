/-! PURE: text(): read, both sides -/
section READ
variable {T : St} {b : Int → Int} {n N : Int}
theorem bt_0 (i : Int) : bt 0 i = 0 := by
  unfold bt
  simp
theorem TW_0 (ht : tpM T b n) (hN : aI T 0 3 = N) (hN2 : 0 ≤ N ∧ N ≤ 3) : ∃ T1, TW T T1 b n 0 N 0 0 ∧ ∀ K : Int → St → Prop, (∃ m, l_M_readText_48 K m T1) → w_M_readText T K := by
  obtain ⟨T1, lim, h1, h2, h3, h4, h5, h6, h7, h8⟩ := rd_in ht hN hN2
  refine ⟨T1, ⟨⟨lim, h1⟩, ⟨h2, hN2⟩, h4, by omega, ⟨by omega, fun i i0 i3 => ?_⟩, fun k k1 k2 k3 => h5 k (by omega) (by omega) k2 (by omega) (by omega), fun k k1 _ => h6 k k1, fun i hi => h7 i (by omega)⟩, h8⟩
  rw [h3, bt_0]
  refine ⟨Or.inl rfl, fun z => by omega, fun ⟨k, k0, k1, _⟩ => by omega⟩
theorem TH_0 {tx : Int → Int} {base : Int} (h : tx base = 0) : TH (fun _ => none) tx base 0 0 none none none (fun _ => 0) 0 (fun _ => 0) (fun _ => 0) :=
  ⟨h, by omega, fun k k0 k1 => by omega, fun k k0 k1 => by omega, Or.inl ⟨rfl, fun k k0 k1 => by omega⟩, Or.inl ⟨rfl, fun k k0 k1 => by omega⟩, Or.inl ⟨rfl, fun k k0 k1 => by omega⟩, fun kd k0 k1 => Or.inl ⟨rfl, fun k k0 k1 => by omega⟩, by omega, fun i i0 i1 => by omega, fun i i0 i1 => by omega, fun i k i0 i1 z1 z2 k0 k1 => by omega⟩
/-- read up to its loop -/
theorem xr_in {S : St} {x0 tp : Nat} {K : Option Nat → Option Nat → St → Prop} {tx : Int → Int} {fs0 : List PV} (hT : hT S b n tp) (hx : xt0 S x0 tp n) (h0 : gI S x0 = some (.inr (.inl (3, fs0)))) (htx : tx (700 * N) = 0) (hB : 3 ≤ fI S 200 ∧ 29 ≤ fI S 201)
    (hj : ∀ (S' : St) (q : Nat), gI S q = none → xtk S' x0 b n 0 0 0 → frX S S' x0 → TI S S' q tx (700 * N) 0 0 0 → (fI S' 200 = fI S 200 - 3 ∧ fI S' 201 = fI S 201 - 29) → ∃ m, l_X3_read_12 x0 q K m S') : w_X3_read x0 S K := by
  refine ⟨by omega, fun q S1 hq e1 => ?_⟩
  have qx : q ≠ x0 := fun z => by rw [z, h0] at hq; cases hq
  have f1 : frW S S1 (fun _ => False) := by rw [e1]; exact frW.br (frW.new hq)
  have g1 : gI S1 q = some (.inr (.inl (4, [.inr (.inr none), .inr (.inr none), .inr (.inr none), .inr (.inr none), .inr (.inr none), .inl 0]))) := by rw [e1, gI_bset, gI_gset_s]
  have b1 : fI S1 200 = fI S 200 - 1 ∧ fI S1 201 = fI S 201 - 6 := by rw [e1, bset_200, bset_201]; exact ⟨rfl, rfl⟩
  clear e1
  have x1 : xt0 S1 x0 tp n := f1.2.2.2 _ _ id hx
  have l1 : liv S S1 := (f1.mono (Q := fun a => a = x0) (fun _ z => z.elim)).liv (ne_some x1)
  refine x_t_initB g1 hq l1 (by omega) (fun S2 m l ed f2 b2 T2 => ?_)
  have x2 : xt0 S2 x0 tp n := f2.2.2.2 _ _ (fun z => qx z.symm) x1
  have f02 : frX S S2 x0 := (frW.trans (f1.mono (Q := fun a => a = x0) (fun _ z => z.elim)) f2 (fun a z => Or.inr (by rw [z]; exact hq))).X
  refine ⟨⟨_, x2⟩, nx0B (b := b) (tp := tp) ?_ x2 (by omega) (fun S3 f3 b3 t3 => ?_)⟩
  · obtain ⟨k1, k2, k3⟩ := hT
    exact ⟨by rw [f02.2.2.1]; exact k1, k2, fun k k0 kk => by rw [f02.2.1]; exact k3 k k0 kk⟩
  · exact hj S3 q hq t3 (f02.trans f3) ⟨_, _, _, _, _, _, _, _, _, _, _, T2.fr f3.W h0 x2, TH_0 htx⟩ (by omega)
def JR (T : St) (b : Int → Int) (n N : Int) : Prop :=
  (∃ (f pl : Int) (T2 : St), (1 ≤ f ∧ f ≤ 6) ∧ fI T2 8 = pl ∧ twF T T2 N ∧ (∀ K : Int → St → Prop, K f T2 → w_M_readText T K) ∧ ∀ (S : St) (x0 tp : Nat) (K : Option Nat → Option Nat → St → Prop), hT S b n tp → xt0 S x0 tp n → (40 * n + 110 ≤ fI S 200 ∧ 2000 * n + 700 ≤ fI S 201) → (∀ q' S', frX S S' x0 → eW S' q' f pl → K (some q') none S') → w_X3_read x0 S K) ∨
  ∃ (T2 : St), twF T T2 N ∧ (∀ K : Int → St → Prop, K 0 T2 → w_M_readText T K) ∧ ∀ (S : St) (x0 tp : Nat) (K : Option Nat → Option Nat → St → Prop), hT S b n tp → xt0 S x0 tp n → (40 * n + 110 ≤ fI S 200 ∧ 2000 * n + 700 ≤ fI S 201) → (∀ q S', frX S S' x0 → gI S q = none → txt (gI S') q (aI T2 2) (700 * N) → K none (some q) S') → w_X3_read x0 S K
theorem JR_at (ht : tpM T b n) (hN : aI T 0 3 = N) (hN2 : 0 ≤ N ∧ N ≤ 3) : JR T b n N := by
  obtain ⟨T1, tW, k1⟩ := TW_0 ht hN hN2
  have htx : aI T1 2 (700 * N) = 0 := tW.2.2.1
  rcases JRd_all (T0 := T) (b := b) (n := n) (N := N) ((n - 0).toNat + 1) T1 0 0 0 tW (by omega) (by omega) with ⟨f, pl, T2, hf, hpl, tF, h2, M, hX⟩ | ⟨T2, p', c', w', tW2, h2, M, hX⟩
  · refine Or.inl ⟨f, pl, T2, hf, hpl, tF, fun K hK => k1 K (h2 K hK), fun S x0 tp K hT hx hB hK => ?_⟩
    have hn := hT.2.1
    exact xr_in hT hx hx htx (by omega) (fun S' q hq t' f' T' b' => ⟨M, hX S S' x0 q 0 K _ hx t' f' T' (by omega) hK⟩)
  · refine Or.inr ⟨T2, tW2.2.2.2.2.2, fun K hK => k1 K (h2 K hK), fun S x0 tp K hT hx hB hK => ?_⟩
    have hn := hT.2.1
    exact xr_in hT hx hx htx (by omega) (fun S' q hq t' f' T' b' => ⟨M, hX S S' x0 q 0 K _ hx t' f' T' (by omega) (fun S2 f2 T2' => hK q S2 f2 hq T2'.txt)⟩)
end READ
