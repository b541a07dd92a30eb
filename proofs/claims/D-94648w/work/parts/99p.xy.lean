/-! PURE: text(): the Text object under construction -/
theorem gU_ex {S0 S : St} {g1 g2 : Nat → Option PE} (k1 : extP g1 (gI S)) (k2 : gNw S0 g1) (r1 : extP g2 (gI S)) (r2 : gNw S0 g2) : ∃ g : Nat → Option PE, extP g (gI S) ∧ extP g1 g ∧ extP g2 g ∧ gNw S0 g ∧ ∀ a, g1 a = none → g2 a = none → g a = none := by
  refine ⟨fun a => if (g1 a).isSome = true ∨ (g2 a).isSome = true then gI S a else none, fun a y w => ?_, fun a y w => ?_, fun a y w => ?_, fun a y w => ?_, fun a z1 z2 => ?_⟩
  · dsimp only at w
    split at w
    · exact w
    · cases w
  · dsimp only
    rw [if_pos (Or.inl (by rw [w]; rfl))]
    exact k1 _ _ w
  · dsimp only
    rw [if_pos (Or.inr (by rw [w]; rfl))]
    exact r1 _ _ w
  · dsimp only at w
    split at w
    · rename_i hc
      rcases hc with hc | hc
      · cases hz : g1 a with
        | none => rw [hz] at hc; cases hc
        | some y1 =>
          have := k1 _ _ hz
          rw [w] at this
          cases this
          exact k2 _ _ hz
      · cases hz : g2 a with
        | none => rw [hz] at hc; cases hc
        | some y1 =>
          have := r1 _ _ hz
          rw [w] at this
          cases this
          exact r2 _ _ hz
    · cases w
  · dsimp only
    rw [if_neg]
    rintro (z | z)
    · rw [z1] at z; cases z
    · rw [z2] at z; cases z
/-- the cells of a Text under construction -/
def TC (S0 S : St) (q : Nat) (cf : Int) (fw fh fu : Option Nat) (m l ed : Nat) (pm : Int → Int) (nd : Int) (el : Int → Nat) (g : Nat → Option PE) : Prop :=
  (gI S q = some (.inr (.inl (4, [.inr (.inr fw), .inr (.inr fh), .inr (.inr fu), .inr (.inr (some m)), .inr (.inr (some l)), .inl cf])))) ∧ (gI S m = some (.inl (0, 20, pm))) ∧ (liX S l nd ed el) ∧ (gI S0 q = none) ∧ (gI S0 m = none) ∧ (gI S0 l = none) ∧ (rI S 500 0 ≠ some ed → gI S0 ed = none) ∧ (extP g (gI S)) ∧ (gNw S0 g) ∧ (g q = none) ∧ (g m = none) ∧ (g l = none) ∧ (g ed = none)
theorem TC.hq {S0 S : St} {q : Nat} {cf : Int} {fw fh fu : Option Nat} {m l ed : Nat} {pm : Int → Int} {nd : Int} {el : Int → Nat} {g : Nat → Option PE} (h : TC S0 S q cf fw fh fu m l ed pm nd el g) : gI S q = some (.inr (.inl (4, [.inr (.inr fw), .inr (.inr fh), .inr (.inr fu), .inr (.inr (some m)), .inr (.inr (some l)), .inl cf]))) := h.1
theorem TC.hm {S0 S : St} {q : Nat} {cf : Int} {fw fh fu : Option Nat} {m l ed : Nat} {pm : Int → Int} {nd : Int} {el : Int → Nat} {g : Nat → Option PE} (h : TC S0 S q cf fw fh fu m l ed pm nd el g) : gI S m = some (.inl (0, 20, pm)) := h.2.1
theorem TC.hl {S0 S : St} {q : Nat} {cf : Int} {fw fh fu : Option Nat} {m l ed : Nat} {pm : Int → Int} {nd : Int} {el : Int → Nat} {g : Nat → Option PE} (h : TC S0 S q cf fw fh fu m l ed pm nd el g) : liX S l nd ed el := h.2.2.1
theorem TC.q0 {S0 S : St} {q : Nat} {cf : Int} {fw fh fu : Option Nat} {m l ed : Nat} {pm : Int → Int} {nd : Int} {el : Int → Nat} {g : Nat → Option PE} (h : TC S0 S q cf fw fh fu m l ed pm nd el g) : gI S0 q = none := h.2.2.2.1
theorem TC.m0 {S0 S : St} {q : Nat} {cf : Int} {fw fh fu : Option Nat} {m l ed : Nat} {pm : Int → Int} {nd : Int} {el : Int → Nat} {g : Nat → Option PE} (h : TC S0 S q cf fw fh fu m l ed pm nd el g) : gI S0 m = none := h.2.2.2.2.1
theorem TC.l0 {S0 S : St} {q : Nat} {cf : Int} {fw fh fu : Option Nat} {m l ed : Nat} {pm : Int → Int} {nd : Int} {el : Int → Nat} {g : Nat → Option PE} (h : TC S0 S q cf fw fh fu m l ed pm nd el g) : gI S0 l = none := h.2.2.2.2.2.1
theorem TC.e0 {S0 S : St} {q : Nat} {cf : Int} {fw fh fu : Option Nat} {m l ed : Nat} {pm : Int → Int} {nd : Int} {el : Int → Nat} {g : Nat → Option PE} (h : TC S0 S q cf fw fh fu m l ed pm nd el g) : rI S 500 0 ≠ some ed → gI S0 ed = none := h.2.2.2.2.2.2.1
theorem TC.x {S0 S : St} {q : Nat} {cf : Int} {fw fh fu : Option Nat} {m l ed : Nat} {pm : Int → Int} {nd : Int} {el : Int → Nat} {g : Nat → Option PE} (h : TC S0 S q cf fw fh fu m l ed pm nd el g) : extP g (gI S) := h.2.2.2.2.2.2.2.1
theorem TC.nw {S0 S : St} {q : Nat} {cf : Int} {fw fh fu : Option Nat} {m l ed : Nat} {pm : Int → Int} {nd : Int} {el : Int → Nat} {g : Nat → Option PE} (h : TC S0 S q cf fw fh fu m l ed pm nd el g) : gNw S0 g := h.2.2.2.2.2.2.2.2.1
theorem TC.gq {S0 S : St} {q : Nat} {cf : Int} {fw fh fu : Option Nat} {m l ed : Nat} {pm : Int → Int} {nd : Int} {el : Int → Nat} {g : Nat → Option PE} (h : TC S0 S q cf fw fh fu m l ed pm nd el g) : g q = none := h.2.2.2.2.2.2.2.2.2.1
theorem TC.gm {S0 S : St} {q : Nat} {cf : Int} {fw fh fu : Option Nat} {m l ed : Nat} {pm : Int → Int} {nd : Int} {el : Int → Nat} {g : Nat → Option PE} (h : TC S0 S q cf fw fh fu m l ed pm nd el g) : g m = none := h.2.2.2.2.2.2.2.2.2.2.1
theorem TC.gl {S0 S : St} {q : Nat} {cf : Int} {fw fh fu : Option Nat} {m l ed : Nat} {pm : Int → Int} {nd : Int} {el : Int → Nat} {g : Nat → Option PE} (h : TC S0 S q cf fw fh fu m l ed pm nd el g) : g l = none := h.2.2.2.2.2.2.2.2.2.2.2.1
theorem TC.ge {S0 S : St} {q : Nat} {cf : Int} {fw fh fu : Option Nat} {m l ed : Nat} {pm : Int → Int} {nd : Int} {el : Int → Nat} {g : Nat → Option PE} (h : TC S0 S q cf fw fh fu m l ed pm nd el g) : g ed = none := h.2.2.2.2.2.2.2.2.2.2.2.2
/-- its meaning against the header of the twin -/
def TH (g : Nat → Option PE) (tx : Int → Int) (base c w : Int) (fw fh fu : Option Nat) (pm : Int → Int) (nd : Int) (el : Int → Nat) (js : Int → Int) : Prop :=
  (tx base = c) ∧ (0 ≤ c ∧ c ≤ 24) ∧ (∀ k, 0 ≤ k → k < c → 0 ≤ tx (base + 1 + 4 * k) ∧ tx (base + 1 + 4 * k) ≤ 8) ∧ (hiT tx base c w) ∧ (sumOf g tx base fw) ∧ (askOf g tx base 1 5 fh) ∧ (askOf g tx base 2 8 fu) ∧ (manyR tx base pm) ∧ (dsT g tx base c nd el js)
theorem TH.hc {g : Nat → Option PE} {tx : Int → Int} {base c w : Int} {fw fh fu : Option Nat} {pm : Int → Int} {nd : Int} {el : Int → Nat} {js : Int → Int} (h : TH g tx base c w fw fh fu pm nd el js) : tx base = c := h.1
theorem TH.c24 {g : Nat → Option PE} {tx : Int → Int} {base c w : Int} {fw fh fu : Option Nat} {pm : Int → Int} {nd : Int} {el : Int → Nat} {js : Int → Int} (h : TH g tx base c w fw fh fu pm nd el js) : 0 ≤ c ∧ c ≤ 24 := h.2.1
theorem TH.so {g : Nat → Option PE} {tx : Int → Int} {base c w : Int} {fw fh fu : Option Nat} {pm : Int → Int} {nd : Int} {el : Int → Nat} {js : Int → Int} (h : TH g tx base c w fw fh fu pm nd el js) : ∀ k, 0 ≤ k → k < c → 0 ≤ tx (base + 1 + 4 * k) ∧ tx (base + 1 + 4 * k) ≤ 8 := h.2.2.1
theorem TH.hi {g : Nat → Option PE} {tx : Int → Int} {base c w : Int} {fw fh fu : Option Nat} {pm : Int → Int} {nd : Int} {el : Int → Nat} {js : Int → Int} (h : TH g tx base c w fw fh fu pm nd el js) : hiT tx base c w := h.2.2.2.1
theorem TH.sw {g : Nat → Option PE} {tx : Int → Int} {base c w : Int} {fw fh fu : Option Nat} {pm : Int → Int} {nd : Int} {el : Int → Nat} {js : Int → Int} (h : TH g tx base c w fw fh fu pm nd el js) : sumOf g tx base fw := h.2.2.2.2.1
theorem TH.sh {g : Nat → Option PE} {tx : Int → Int} {base c w : Int} {fw fh fu : Option Nat} {pm : Int → Int} {nd : Int} {el : Int → Nat} {js : Int → Int} (h : TH g tx base c w fw fh fu pm nd el js) : askOf g tx base 1 5 fh := h.2.2.2.2.2.1
theorem TH.su {g : Nat → Option PE} {tx : Int → Int} {base c w : Int} {fw fh fu : Option Nat} {pm : Int → Int} {nd : Int} {el : Int → Nat} {js : Int → Int} (h : TH g tx base c w fw fh fu pm nd el js) : askOf g tx base 2 8 fu := h.2.2.2.2.2.2.1
theorem TH.mr {g : Nat → Option PE} {tx : Int → Int} {base c w : Int} {fw fh fu : Option Nat} {pm : Int → Int} {nd : Int} {el : Int → Nat} {js : Int → Int} (h : TH g tx base c w fw fh fu pm nd el js) : manyR tx base pm := h.2.2.2.2.2.2.2.1
theorem TH.ds {g : Nat → Option PE} {tx : Int → Int} {base c w : Int} {fw fh fu : Option Nat} {pm : Int → Int} {nd : Int} {el : Int → Nat} {js : Int → Int} (h : TH g tx base c w fw fh fu pm nd el js) : dsT g tx base c nd el js := h.2.2.2.2.2.2.2.2
def TI (S0 S : St) (q : Nat) (tx : Int → Int) (base cf c w : Int) : Prop := ∃ (fw fh fu : Option Nat) (m l ed : Nat) (pm : Int → Int) (nd : Int) (el : Int → Nat) (js : Int → Int) (g : Nat → Option PE), TC S0 S q cf fw fh fu m l ed pm nd el g ∧ TH g tx base c w fw fh fu pm nd el js
section TCS
variable {S0 S S' : St} {q m l ed x0 : Nat} {cf nd : Int} {fw fh fu : Option Nat} {pm : Int → Int} {el : Int → Nat} {g : Nat → Option PE}
theorem TC.fr {fs fs0 : List PV} (h : TC S0 S q cf fw fh fu m l ed pm nd el g) (f : frW S S' (fun a => a = x0)) (h0 : gI S0 x0 = some (.inr (.inl (3, fs0)))) (hx : gI S x0 = some (.inr (.inl (3, fs)))) : TC S0 S' q cf fw fh fu m l ed pm nd el g := by
  have hr : rI S' = rI S := f.2.2.1
  refine ⟨f.2.2.2 _ _ (fun z => ?_) h.hq, f.2.2.2 _ _ (fun z => ?_) h.hm, h.hl.x0 f hx, h.q0, h.m0, h.l0, by rw [hr]; exact h.e0, h.x.fr f (fun a z => by rw [z]; exact g_x0 h.x h.nw h0 hx), h.nw, h.gq, h.gm, h.gl, h.ge⟩
  · have := h.hq; rw [z, hx] at this; cases this
  · have := h.hm; rw [z, hx] at this; cases this
theorem TC.wg (h : TC S0 S q cf fw fh fu m l ed pm nd el g) {g' : Nat → Option PE} (x : extP g' (gI S)) (nw : gNw S0 g') (gq : g' q = none) (gm : g' m = none) (gl : g' l = none) (ge : g' ed = none) : TC S0 S q cf fw fh fu m l ed pm nd el g' := ⟨h.hq, h.hm, h.hl, h.q0, h.m0, h.l0, h.e0, x, nw, gq, gm, gl, ge⟩
theorem TC.ne (h : TC S0 S q cf fw fh fu m l ed pm nd el g) : q ≠ m ∧ q ≠ l ∧ q ≠ ed ∧ m ≠ l ∧ m ≠ ed ∧ l ≠ ed := by
  have h1 := h.hq
  have h2 := h.hm
  obtain ⟨⟨_, h3⟩, ⟨_, h4⟩⟩ := h.hl.c
  refine ⟨fun z => ?_, fun z => ?_, fun z => ?_, fun z => ?_, fun z => ?_, fun z => ?_⟩
  · rw [z, h2] at h1; cases h1
  · rw [z, h3] at h1; cases h1
  · rw [z, h4] at h1; cases h1
  · rw [z, h3] at h2; cases h2
  · rw [z, h4] at h2; cases h2
  · rw [z, h4] at h3; cases h3
theorem eC.ne {a : Nat} {e : PE} (h : eC S) (ha : gI S a = some e) (he : ∀ x, e ≠ .inr (.inr x)) : rI S 500 0 ≠ some a := fun z => by
  obtain ⟨e0, h1, h2⟩ := h
  rw [z] at h1
  cases h1
  rw [h2] at ha
  cases ha
  exact he _ rfl
/-- a field of the Text is set -/
theorem TC.set (h : TC S0 S q cf fw fh fu m l ed pm nd el g) {cf' : Int} {fw' fh' fu' : Option Nat} (e : S' = gset S q (.inr (.inl (4, [.inr (.inr fw'), .inr (.inr fh'), .inr (.inr fu'), .inr (.inr (some m)), .inr (.inr (some l)), .inl cf'])))) : TC S0 S' q cf' fw' fh' fu' m l ed pm nd el g := by
  obtain ⟨n1, n2, n3, n4, n5, n6⟩ := h.ne
  have f : frW S S' (fun a => a = q) := by rw [e]; exact frW.old rfl
  have hr : rI S' = rI S := f.2.2.1
  have hq := h.hq
  exact ⟨by rw [e, gI_gset_s], f.2.2.2 _ _ (fun z => n1 z.symm) h.hm, h.hl.fr f (fun z => n2 z.symm) (fun z => n3 z.symm) (fun y z => ⟨fun w => by
      obtain ⟨ci, gs, e1, c⟩ := w
      rw [z, hq] at e1
      cases e1
      omega, by rw [z]; exact h.hl.1.ne hq (fun x y => by cases y)⟩), h.q0, h.m0, h.l0, by rw [hr]; exact h.e0, h.x.fr f (fun a z => by rw [z]; exact h.gq), h.nw, h.gq, h.gm, h.gl, h.ge⟩
/-- the array of kinds is set -/
theorem TC.many (h : TC S0 S q cf fw fh fu m l ed pm nd el g) {fs fs0 : List PV} {pm' : Int → Int} (f : frW S S' (fun a => a = x0 ∨ a = m)) (h0 : gI S0 x0 = some (.inr (.inl (3, fs0)))) (hx : gI S x0 = some (.inr (.inl (3, fs)))) (hm' : gI S' m = some (.inl (0, 20, pm'))) : TC S0 S' q cf fw fh fu m l ed pm' nd el g := by
  obtain ⟨n1, n2, n3, n4, n5, n6⟩ := h.ne
  have hq := h.hq
  have hm := h.hm
  obtain ⟨⟨_, h3⟩, ⟨_, h4⟩⟩ := h.hl.c
  have hr : rI S' = rI S := f.2.2.1
  refine ⟨f.2.2.2 _ _ (fun z => ?_) hq, hm', h.hl.fr f (fun z => ?_) (fun z => ?_) (fun y z => ⟨fun w => ?_, ?_⟩), h.q0, h.m0, h.l0, by rw [hr]; exact h.e0, h.x.fr f (fun a z => ?_), h.nw, h.gq, h.gm, h.gl, h.ge⟩
  · rcases z with z | z
    · rw [z, hx] at hq; cases hq
    · exact n1 z
  · rcases z with z | z
    · rw [z, hx] at h3; cases h3
    · exact n4 z.symm
  · rcases z with z | z
    · rw [z, hx] at h4; cases h4
    · exact n5 z.symm
  · obtain ⟨ci, gs, e1, c⟩ := w
    rcases z with z | z
    · rw [z, hx] at e1
      cases e1
      omega
    · rw [z, hm] at e1
      cases e1
  · rcases z with z | z
    · rw [z]; exact h.hl.1.ne hx (fun x y => by cases y)
    · rw [z]; exact h.hl.1.ne hm (fun x y => by cases y)
  · rcases z with z | z
    · rw [z]; exact g_x0 h.x h.nw h0 hx
    · rw [z]; exact h.gm
/-- a tree joins the cells -/
theorem TC.join {Si : St} {g2 : Nat → Option PE} (hi : TC S0 Si q cf fw fh fu m l ed pm nd el g) (h : TC S0 S q cf fw fh fu m l ed pm nd el g) (hl : liv S0 Si) (r1 : extP g2 (gI S)) (r2 : gNw Si g2) : ∃ g' : Nat → Option PE, extP g g' ∧ extP g2 g' ∧ TC S0 S q cf fw fh fu m l ed pm nd el g' := by
  obtain ⟨g', u1, u2, u3, u4, u5⟩ := gU_ex h.x h.nw r1 (r2.liv hl)
  obtain ⟨⟨_, h3⟩, ⟨_, h4⟩⟩ := h.hl.c
  obtain ⟨⟨_, i3⟩, ⟨_, i4⟩⟩ := hi.hl.c
  have q2 : g2 q = none := r2.no (ne_some hi.hq) r1 h.hq (fun gs z => by injection z with z; injection z with z; injection z with z _; cases z)
  have m2 : g2 m = none := r2.no (ne_some hi.hm) r1 h.hm (fun gs z => by cases z)
  have l2 : g2 l = none := r2.no (ne_some i3) r1 h3 (fun gs z => by injection z with z; injection z with z; injection z with z _; cases z)
  have e2 : g2 ed = none := r2.no (ne_some i4) r1 h4 (fun gs z => by injection z with z; cases z)
  exact ⟨g', u2, u3, h.wg u1 u4 (u5 _ h.gq q2) (u5 _ h.gm m2) (u5 _ h.gl l2) (u5 _ h.ge e2)⟩
end TCS
theorem TI.txt {S0 S : St} {q : Nat} {tx : Int → Int} {base c w : Int} (h : TI S0 S q tx base c c w) : txt (gI S) q tx base := by
  obtain ⟨fw, fh, fu, m, l, ed, pm, nd, el, js, g, h, t⟩ := h
  refine ⟨fw, fh, fu, m, l, c, pm, h.hq, by rw [t.hc]; exact t.c24, fun k k0 k1 => t.so k k0 (by rw [t.hc] at k1; exact k1), t.sw.g h.x, t.sh.g h.x, t.su.g h.x, h.hm, t.mr, nd, el, js, h.hl.lst rfl rfl, ?_, fun i i0 i1 => ?_, t.ds.2.2.1, fun i k i0 i1 z1 z2 k0 k1 => t.ds.2.2.2 i k i0 i1 z1 z2 k0 (by rw [t.hc] at k1; exact k1)⟩
  · have := t.ds.1
    have := t.c24
    omega
  · have := t.ds.2.1 i i0 i1
    exact ⟨by rw [t.hc]; exact this.1, this.2.ext h.x⟩
