/-! PURE: text(): the loop of clauses, component -/
theorem sX_so (b : Int → Int) (n p : Int) : (0 ≤ soF b n p ∧ soF b n p ≤ 8 ∧ sX b n p = 200 + soF b n p) ∨ (soF b n p < 0 ∧ (sX b n p < 200 ∨ 208 < sX b n p)) := by
  by_cases h : tk b n p = 2
  · have e : soF b n p = soW (tw b n p) := by unfold soF; rw [if_pos h]
    rcases w_cases (tw b n p) with ⟨i, hi, -, e2, -, e3⟩ | ⟨-, e2, -, e3⟩
    · rw [e, e3, sX_2 h, e2]
      split <;> omega
    · rw [e, e3, sX_2 h, e2]
      omega
  · have e : soF b n p = -1 := by unfold soF; rw [if_neg h]
    right
    rw [e]
    rcases sX_all b n p with ⟨a, c⟩ | ⟨a, c⟩ | ⟨a, -⟩ | ⟨a, c⟩ | ⟨a, c⟩ | ⟨a, c⟩ | ⟨-, a, c, d⟩
    · omega
    · omega
    · exact absurd a h
    · omega
    · omega
    · omega
    · omega
section RDX
variable {S0 S S' : St} {q m l ed x0 : Nat} {cf nd : Int} {fw fh fu : Option Nat} {pm : Int → Int} {el : Int → Nat} {g : Nat → Option PE} {b : Int → Int} {n p o kd : Int} {K : Option Nat → Option Nat → St → Prop} {N : Nat}
theorem rdx_stop (ht : tk b n p = 0) (hx : xtk S x0 b n p o kd) (hK : K none (some q) S) : l_X3_read_12 x0 q K (N + 1) S := by
  obtain ⟨hp, tp, num, y1, y2, y3⟩ := hx
  exact ⟨_, _, y2, rfl, fun _ => ⟨fun _ => hK, fun z => absurd (sX_301.mpr ht) z⟩⟩
theorem rdx_bad (ht : tk b n p ≠ 0) (hs : soF b n p < 0) (hx : xtk S x0 b n p o kd) (hB : 1 ≤ fI S 200 ∧ 8 ≤ fI S 201) (hK : ∀ q' S', frX S S' x0 → eW S' q' 1 (tq b n p) → K (some q') none S') : l_X3_read_12 x0 q K (N + 1) S := by
  have hx' := hx
  obtain ⟨hp, tp, num, y1, y2, y3⟩ := hx'
  have hc : sX b n p < 200 ∨ 208 < sX b n p := by rcases sX_so b n p with z | z <;> omega
  exact ⟨_, _, y2, rfl, fun _ => ⟨fun z => absurd (sX_301.mp z) ht, fun _ => ⟨_, _, y2, rfl, fun _ => ⟨fun _ => ⟨hx.o, wrB hx hB hK⟩, fun z => ⟨_, _, y2, rfl, fun _ => ⟨fun z2 => by omega, fun _ => ⟨hx.o, wrB hx hB hK⟩⟩⟩⟩⟩⟩⟩
/-- the kind of the clause is set -/
theorem xtk_kd {s : Int} (hx : xtk S x0 b n p o kd) : ∃ fs : List PV, gI S x0 = some (.inr (.inl (3, fs))) ∧ fs.length = 8 ∧ ∀ S1, S1 = gset S x0 (.inr (.inl (3, fs.set 7 (.inl s)))) → xtk S1 x0 b n p o s ∧ frX S S1 x0 ∧ fI S1 = fI S := by
  obtain ⟨hp, tp, num, y1, y2, y3⟩ := hx
  refine ⟨_, y2, rfl, fun S1 e => ?_⟩
  subst e
  exact ⟨⟨hp, tp, num, y1, gI_gset_s _ _ _, y3⟩, frW.X (frW.old rfl), rfl⟩
theorem rdx_set {s : Int} (hs : s = soF b n p) (h0s : 0 ≤ s) (hx : xtk S x0 b n p o kd) (hj : ∀ S1, xtk S1 x0 b n p o (s + 200) → frX S S1 x0 → fI S1 = fI S → ((¬ s + 200 = 200 → j_X3_read_73 x0 q S1 K (l_X3_read_12 x0 q K N)) ∧ (s + 200 = 200 → (∃ (fs142 : List PV) (v145 : Option Nat), gI S1 q = some (.inr (.inl (4, fs142))) ∧ fs142[0]? = some (.inr (.inr v145)) ∧ ((v145 = none → j_X3_read_73 x0 q S1 K (l_X3_read_12 x0 q K N)) ∧ (∀ q147 : Nat, v145 = some q147 → ((∃ fs : List PV, gI S1 x0 = some (.inr (.inl (3, fs)))) ∧ (∃ a148 b149 : Int, ((0 ≤ a148 ∧ a148 ≤ fI S1 200) ∧ 0 ≤ b149 ∧ b149 ≤ fI S1 201) ∧ w_X3_wrong x0 4 (bset S1 a148 b149) (fun (r152 : Option Nat) (S153 : St) => ∀ S154 : St, S154 = bset S153 (fI S1 200 - a148) (fI S1 201 - b149) → (∃ q156 : Nat, r152 = some q156 ∧ ((∃ fs158 : List PV, gI S154 q156 = some (.inr (.inl (5, fs158)))) ∧ K (some q156) none S154))))))))))) : l_X3_read_12 x0 q K (N + 1) S := by
  have hx' := hx
  obtain ⟨hp, tp, num, y1, y2, y3⟩ := hx'
  have hc : sX b n p = s + 200 ∧ s ≤ 8 := by rcases sX_so b n p with z | z <;> omega
  obtain ⟨fs, z1, z2, z3⟩ := xtk_kd (s := s + 200) hx
  refine ⟨_, _, y2, rfl, fun _ => ⟨fun z => by omega, fun _ => ⟨_, _, y2, rfl, fun _ => ⟨fun z => by omega, fun _ => ⟨_, _, y2, rfl, fun _ => ⟨fun _ => ⟨_, _, y2, rfl, fun _ => ⟨fs, z1, z2, fun S1 e1 => ?_⟩⟩, fun z => by omega⟩⟩⟩⟩⟩⟩
  rw [hc.1] at e1
  obtain ⟨t1, f1, b1⟩ := z3 S1 e1
  have hj1 := hj S1 t1 f1 b1
  obtain ⟨hp', tp', num', w1, w2, w3⟩ := t1
  exact ⟨_, _, w2, rfl, fun _ => hj1⟩
def fldT (s : Int) (fw fh fu : Option Nat) : Option Nat := if s = 0 then fw else if s = 1 then fh else if s = 2 then fu else none
theorem rdx_dup {s : Int} {e : Nat} {fs0 : List PV} (hs : s = soF b n p) (h0s : 0 ≤ s) (hx : xtk S x0 b n p o kd) (hT : TC S0 S q cf fw fh fu m l ed pm nd el g) (h0 : gI S0 x0 = some (.inr (.inl (3, fs0)))) (hd : fldT s fw fh fu = some e) (hB : 1 ≤ fI S 200 ∧ 8 ≤ fI S 201) (hK : ∀ q' S', frX S S' x0 → eW S' q' 4 (tq b n p) → K (some q') none S') : l_X3_read_12 x0 q K (N + 1) S := by
  obtain ⟨fs, hxo⟩ := hx.o
  refine rdx_set hs h0s hx (fun S1 t1 f1 b1 => ?_)
  have T1 := hT.fr f1.W h0 hxo
  have hw : (∃ fs : List PV, gI S1 x0 = some (.inr (.inl (3, fs)))) ∧ _ := ⟨t1.o, wrB (f := 4) (E := fun q' S' => K (some q') none S') t1 (by rw [b1]; exact hB) (fun q' S2 f2 w2 => hK q' S2 (f1.trans f2) w2)⟩
  unfold fldT at hd
  have t1' := t1
  obtain ⟨hp, tp, num, y1, y2, y3⟩ := t1'
  by_cases c0 : s = 0
  · rw [if_pos c0] at hd
    exact ⟨fun z => by omega, fun _ => ⟨_, fw, T1.hq, rfl, (fun z => by rw [hd] at z; cases z), fun q9 z => hw⟩⟩
  rw [if_neg c0] at hd
  by_cases c1 : s = 1
  · rw [if_pos c1] at hd
    exact ⟨fun _ => ⟨_, _, y2, rfl, fun _ => ⟨fun z => by omega, fun _ => ⟨_, fh, T1.hq, rfl, (fun z => by rw [hd] at z; cases z), fun q9 z => hw⟩⟩⟩, fun z => by omega⟩
  rw [if_neg c1] at hd
  by_cases c2 : s = 2
  · rw [if_pos c2] at hd
    exact ⟨fun _ => ⟨_, _, y2, rfl, fun _ => ⟨fun _ => ⟨_, _, y2, rfl, fun _ => ⟨fun z => by omega, fun _ => ⟨_, fu, T1.hq, rfl, (fun z => by rw [hd] at z; cases z), fun q9 z => hw⟩⟩⟩, fun z => by omega⟩⟩, fun z => by omega⟩
  · rw [if_neg c2] at hd
    cases hd
theorem rdx_go {s : Int} {fs0 : List PV} (hs : s = soF b n p) (h0s : 0 ≤ s) (hx : xtk S x0 b n p o kd) (hT : TC S0 S q cf fw fh fu m l ed pm nd el g) (h0 : gI S0 x0 = some (.inr (.inl (3, fs0)))) (hd : fldT s fw fh fu = none)
    (hj : ∀ S1, xtk S1 x0 b n p o (s + 200) → frX S S1 x0 → fI S1 = fI S → TC S0 S1 q cf fw fh fu m l ed pm nd el g → j_X3_read_113 x0 q S1 K (l_X3_read_12 x0 q K N)) : l_X3_read_12 x0 q K (N + 1) S := by
  obtain ⟨fs, hxo⟩ := hx.o
  refine rdx_set hs h0s hx (fun S1 t1 f1 b1 => ?_)
  have T1 := hT.fr f1.W h0 hxo
  have hj1 := hj S1 t1 f1 b1 T1
  unfold fldT at hd
  have t1' := t1
  obtain ⟨hp, tp, num, y1, y2, y3⟩ := t1'
  have h90 : (s = 2 → fu = none) → j_X3_read_90 x0 q S1 K (l_X3_read_12 x0 q K N) := fun e2 => ⟨_, _, y2, rfl, fun _ => ⟨fun _ => hj1, fun z => ⟨_, fu, T1.hq, rfl, fun _ => hj1, fun q9 z9 => by rw [e2 (by omega)] at z9; cases z9⟩⟩⟩
  have h73 : (s = 1 → fh = none) → (s = 2 → fu = none) → j_X3_read_73 x0 q S1 K (l_X3_read_12 x0 q K N) := fun e1 e2 => ⟨_, _, y2, rfl, fun _ => ⟨fun _ => h90 e2, fun z => ⟨_, fh, T1.hq, rfl, fun _ => h90 e2, fun q9 z9 => by rw [e1 (by omega)] at z9; cases z9⟩⟩⟩
  by_cases c0 : s = 0
  · rw [if_pos c0] at hd
    exact ⟨fun z => by omega, fun _ => ⟨_, fw, T1.hq, rfl, fun _ => h73 (fun z => by omega) (fun z => by omega), fun q9 z => by rw [hd] at z; cases z⟩⟩
  rw [if_neg c0] at hd
  refine ⟨fun _ => h73 (fun z => ?_) (fun z => ?_), fun z => by omega⟩
  · rw [if_pos z] at hd; exact hd
  · rw [if_neg (by omega), if_pos z] at hd; exact hd
theorem rdx_six {C : St → Prop} (hx : xtk S x0 b n p o kd) (hT : TC S0 S q 24 fw fh fu m l ed pm nd el g) (hB : 1 ≤ fI S 200 ∧ 8 ≤ fI S 201) (hK : ∀ q' S', frX S S' x0 → eW S' q' 6 (tq b n p) → K (some q') none S') : j_X3_read_113 x0 q S K C :=
  ⟨_, 24, hT.hq, rfl, fun _ => ⟨fun z => absurd rfl z, fun _ => ⟨hx.o, wrB hx hB hK⟩⟩⟩
/-- a clause with a fault -/
theorem rdx_clF {C : St → Prop} {A B f pl : Int} (hx : xtk S x0 b n p o kd) (hc : 0 ≤ cf ∧ cf < 24) (hT : TC S0 S q cf fw fh fu m l ed pm nd el g) (h0 : ∃ fs0 : List PV, gI S0 x0 = some (.inr (.inl (3, fs0)))) (hB : (0 ≤ A ∧ A ≤ fI S 200) ∧ 0 ≤ B ∧ B ≤ fI S 201)
    (hcl : ∀ (S1 : St) (Kc : Option Nat → St → Prop), frX S S1 x0 → (fI S1 200 = A ∧ fI S1 201 = B) → xtk S1 x0 b n (te b n p) o kd → TC S0 S1 q cf fw fh fu m l ed pm nd el g → (∀ q' S', frX S1 S' x0 → eW S' q' f pl → Kc (some q') S') → w_X3_clause x0 q S1 Kc)
    (hK : ∀ q' S', frX S S' x0 → eW S' q' f pl → K (some q') none S') : j_X3_read_113 x0 q S K C := by
  obtain ⟨fs0, h0⟩ := h0
  obtain ⟨fs, hxo⟩ := hx.o
  refine ⟨_, cf, hT.hq, rfl, fun _ => ⟨fun _ => ⟨hx.o, nxB hx (by omega) (fun S1 f1 b1 t1 => ⟨t1.o, A, B, ⟨⟨by omega, by omega⟩, by omega, by omega⟩, hcl (bset S1 A B) _ f1.W.br.X (by rw [bset_200, bset_201]; exact ⟨rfl, rfl⟩) t1.bs (hT.fr (frW.br f1.W) h0 hxo) (fun q' S2 f2 w2 S3 e3 => ?_)⟩)⟩, fun z => by omega⟩⟩
  subst e3
  exact ⟨(fun q9 z => by cases z; exact hK q' _ (f1.trans f2.bs) w2), fun z => by cases z⟩
theorem TI.fr {tx : Int → Int} {base c w : Int} {fs fs0 : List PV} (h : TI S0 S q tx base cf c w) (f : frW S S' (fun a => a = x0)) (h0 : gI S0 x0 = some (.inr (.inl (3, fs0)))) (hx : gI S x0 = some (.inr (.inl (3, fs)))) : TI S0 S' q tx base cf c w := by
  obtain ⟨fw, fh, fu, m, l, ed, pm, nd, el, js, g, h, t⟩ := h
  exact ⟨fw, fh, fu, m, l, ed, pm, nd, el, js, g, h.fr f h0 hx, t⟩
/-- the clause went well, its semicolon is missing -/
theorem rdx_w59 {C : St → Prop} {A B p' : Int} (hx : xtk S x0 b n p o kd) (hc : 0 ≤ cf ∧ cf < 24) (hT : TC S0 S q cf fw fh fu m l ed pm nd el g) (h0 : ∃ fs0 : List PV, gI S0 x0 = some (.inr (.inl (3, fs0)))) (hB : (0 ≤ A ∧ A + 1 ≤ fI S 200) ∧ 0 ≤ B ∧ B + 8 ≤ fI S 201) (ht : tk b n p' ≠ 59)
    (hcl : ∀ (S1 : St) (Kc : Option Nat → St → Prop), frX S S1 x0 → (fI S1 200 = A ∧ fI S1 201 = B) → xtk S1 x0 b n (te b n p) o kd → TC S0 S1 q cf fw fh fu m l ed pm nd el g → (∀ S', frX S0 S' x0 → xtk S' x0 b n p' o kd → Kc none S') → w_X3_clause x0 q S1 Kc)
    (hK : ∀ q' S', frX S0 S' x0 → eW S' q' 1 (tq b n p') → K (some q') none S') : j_X3_read_113 x0 q S K C := by
  obtain ⟨fs0, h0⟩ := h0
  obtain ⟨fs, hxo⟩ := hx.o
  refine ⟨_, cf, hT.hq, rfl, fun _ => ⟨fun _ => ⟨hx.o, nxB hx (by omega) (fun S1 f1 b1 t1 => ⟨t1.o, A, B, ⟨⟨by omega, by omega⟩, by omega, by omega⟩, hcl (bset S1 A B) _ f1.W.br.X (by rw [bset_200, bset_201]; exact ⟨rfl, rfl⟩) t1.bs (hT.fr (frW.br f1.W) h0 hxo) (fun S2 f2 t2 S3 e3 => ?_)⟩)⟩, fun z => by omega⟩⟩
  have t3 : xtk S3 x0 b n p' o kd := by rw [e3]; exact t2.bs
  have f3 : frX S0 S3 x0 := by rw [e3]; exact f2.W.br.X
  have b3 : fI S3 200 = fI S1 200 - A ∧ fI S3 201 = fI S1 201 - B := by rw [e3, bset_200, bset_201]; exact ⟨rfl, rfl⟩
  exact ⟨(fun q9 z => by cases z), fun _ => ⟨t3.o, wantB t3 (by omega) (fun z => absurd ((sX_sg (by omega)).mp z) ht) (fun _ q' S4 f4 w4 => hK q' S4 (f3.trans f4) w4)⟩⟩
/-- a clause that goes well -/
theorem rdx_ok {C : St → Prop} {A B p' w' base : Int} {tx' : Int → Int} (hx : xtk S x0 b n p o kd) (hc : 0 ≤ cf ∧ cf < 24) (hT : TC S0 S q cf fw fh fu m l ed pm nd el g) (h0 : ∃ fs0 : List PV, gI S0 x0 = some (.inr (.inl (3, fs0)))) (hB : (0 ≤ A ∧ A + 1 ≤ fI S 200) ∧ 0 ≤ B ∧ B + 8 ≤ fI S 201) (ht : tk b n p' = 59)
    (hcl : ∀ (S1 : St) (Kc : Option Nat → St → Prop), frX S S1 x0 → (fI S1 200 = A ∧ fI S1 201 = B) → xtk S1 x0 b n (te b n p) o kd → TC S0 S1 q cf fw fh fu m l ed pm nd el g → (∀ S', frX S0 S' x0 → xtk S' x0 b n p' o kd → TI S0 S' q tx' base cf (cf + 1) w' → Kc none S') → w_X3_clause x0 q S1 Kc)
    (hG : ∀ S', frX S0 S' x0 → (fI S' 200 = fI S 200 - A - 1 ∧ fI S' 201 = fI S 201 - B - 8) → xtk S' x0 b n (te b n p') o kd → TI S0 S' q tx' base (cf + 1) (cf + 1) w' → C S') : j_X3_read_113 x0 q S K C := by
  obtain ⟨fs0, h0⟩ := h0
  obtain ⟨fs, hxo⟩ := hx.o
  refine ⟨_, cf, hT.hq, rfl, fun _ => ⟨fun _ => ⟨hx.o, nxB hx (by omega) (fun S1 f1 b1 t1 => ⟨t1.o, A, B, ⟨⟨by omega, by omega⟩, by omega, by omega⟩, hcl (bset S1 A B) _ f1.W.br.X (by rw [bset_200, bset_201]; exact ⟨rfl, rfl⟩) t1.bs (hT.fr (frW.br f1.W) h0 hxo) (fun S2 f2 t2 T2 S3 e3 => ?_)⟩)⟩, fun z => by omega⟩⟩
  have t3 : xtk S3 x0 b n p' o kd := by rw [e3]; exact t2.bs
  have f3 : frX S0 S3 x0 := by rw [e3]; exact f2.W.br.X
  have b3 : fI S3 200 = fI S1 200 - A ∧ fI S3 201 = fI S1 201 - B := by rw [e3, bset_200, bset_201]; exact ⟨rfl, rfl⟩
  have T3 : TI S0 S3 q tx' base cf (cf + 1) w' := by
    obtain ⟨fs2, hx2⟩ := t2.o
    rw [e3]
    exact T2.fr (frW.br (frW.refl _ _)) h0 hx2
  clear e3
  refine ⟨(fun q9 z => by cases z), fun _ => ⟨t3.o, wantB t3 (by omega) (fun _ S4 f4 b4 t4 => ?_) (fun z => absurd ((sX_sg (by omega)).mpr ht) z)⟩⟩
  obtain ⟨fs3, hx3⟩ := t3.o
  obtain ⟨fw, fh, fu, m, l, ed, pm, nd, el, js, g, T4, H4⟩ := T3.fr f4.W h0 hx3
  refine ⟨_, cf, T4.hq, rfl, fun _ => ⟨by constructor <;> omega, _, T4.hq, rfl, fun S5 e5 => ?_⟩⟩
  have f5 : frW S4 S5 (fun a => a = q) := by rw [e5]; exact frW.old rfl
  have qx : q ≠ x0 := fun z => by have := T4.q0; rw [z, h0] at this; cases this
  exact hG S5 (frW.trans (f3.trans f4).W f5 (fun a z => Or.inr (by rw [z]; exact T4.q0))).X (by rw [show fI S5 = fI S4 by rw [e5]; rfl]; omega) (t4.frW f5 (fun z => qx z.symm)) ⟨fw, fh, fu, m, l, ed, pm, nd, el, js, g, T4.set (cf' := cf + 1) (fw' := fw) (fh' := fh) (fu' := fu) e5, H4⟩
end RDX
