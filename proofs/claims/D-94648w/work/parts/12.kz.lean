/-! THE PARSER: constants, budgets, throws -/
def wLen : List Nat := [4, 4, 6, 4, 4, 4, 5, 4, 4, 4, 2, 3, 4, 2, 3, 3, 4, 6, 4, 6, 4, 5, 7, 5, 11]
def wByt : List (List Int32) := [[119, 111, 114, 110], [104, 111, 108, 121], [117, 110, 108, 105, 107, 101], [107, 105, 110, 100], [108, 101, 110, 100], [115, 119, 97, 112], [115, 116, 101, 97, 108], [98, 117, 114, 110], [112, 97, 115, 115], [109, 97, 110, 121], [116, 111], [102, 111, 114], [119, 105, 116, 104], [111, 114], [97, 110, 100], [110, 111, 116], [115, 111, 114, 116], [119, 101, 105, 103, 104, 116], [116, 111, 119, 110], [112, 114, 111, 111, 102, 115], [121, 101, 97, 114], [111, 115, 111, 114, 116], [111, 119, 101, 105, 103, 104, 116], [111, 116, 111, 119, 110], [60, 62, 61, 35, 43, 45, 42, 47, 40, 41, 59]]
def kDe (y : MethodName) (U : State) : Prop := (Cond.declares y).before #[] U = true
theorem kDe.moved {y : MethodName} {u U : State} (hvm : u.vm.Alike U.vm) (h : kDe y u) : kDe y U := by
  have h1 : (Cond.declares y).before #[] (u.setVm U.vm) = true := by
    rw [Cond.declares_setVm hvm]
    exact h
  have e := Cond.onTables_vm (A := #[]) (A' := #[]) (U := u) (U' := U) U.vm (Cond.declares y) rfl
  have hU : U.setVm U.vm = U := rfl
  rw [hU] at e
  unfold kDe
  rw [← e]
  exact h1
/-- what stands in the tables and rides in no list -/
def kV (ad : Nat → Nat) (U : State) : Prop := vk_R "NineGraves$Tokens" 53 "<>=#+-*/();" (ad 2025) U ∧ va_Mi "[Ljava/lang/Object;" (ad 2050) U ∧ va_Dc U ∧ kDe ⟨"java/lang/Throwable", "<init>", "()V"⟩ U
theorem kV.warm {ad : Nat → Nat} {s U : State} (hW : s.WarmedH U.vm) (h : kV ad s) : kV ad U := ⟨vk_R.warm hW h.1, va_Mi.moved hW.alike h.2.1, va_Dc.moved hW.alike h.2.2.1, kDe.moved hW.alike h.2.2.2⟩
def kZ (ad : Nat → Nat) (A : Nat → Prop) (U : State) (H : Heap) : Prop :=
  vk_S 25 wLen wByt (fun i => ad (2001 + i)) (fun i => ad (2100 + i)) A U H ∧
  va_Z "NineGraves$Tokens" "WORDS" "[Ljava/lang/String;" (.ref (ad 2000)) A U H ∧
  va_T (.object "java/lang/String") (ad 2000) 24 (fun i => .ref (ad (2001 + i))) A U H ∧
  va_Z "java/lang/String" "COMPACT_STRINGS" "Z" (.int 1) A U H ∧
  va_Z "java/lang/Integer$IntegerCache" "high" "I" (.int 127) A U H ∧
  va_Z "java/lang/Integer$IntegerCache" "cache" "[Ljava/lang/Integer;" (.ref (ad 1999)) A U H ∧
  va_T (.object "java/lang/Integer") (ad 1999) 256 (fun i => .ref (ad (1001 + i))) A U H ∧
  va_Z "java/util/ArrayList" "DEFAULTCAPACITY_EMPTY_ELEMENTDATA" "[Ljava/lang/Object;" (.ref (ad 1000)) A U H ∧
  va_Zq "jdk/internal/util/Preconditions" "SIOOBE_FORMATTER" "Ljava/util/function/BiFunction;" A U H ∧
  vz_Zq "java/lang/Throwable" "UNASSIGNED_STACK" "[Ljava/lang/StackTraceElement;" A U H ∧
  vz_Zq "java/lang/Throwable" "SUPPRESSED_SENTINEL" "Ljava/util/List;" A U H ∧
  kV ad U
theorem kZ.warm {ad : Nat → Nat} {A : Nat → Prop} {s U : State} {H : Heap} (hW : s.WarmedH U.vm) (h : kZ ad A s H) : kZ ad A U H := by
  obtain ⟨h0, h1, h2, h3, h4, h5, h6, h7, h8, h9, h10, hv⟩ := h
  exact ⟨vk_S.moved hW.alike h0, va_Z.moved hW.alike h1, va_T.moved hW.alike h2, va_Z.moved hW.alike h3, va_Z.moved hW.alike h4, va_Z.moved hW.alike h5, va_T.moved hW.alike h6, va_Z.moved hW.alike h7, va_Zq.moved hW.alike h8, vz_Zq.moved hW.alike h9, vz_Zq.moved hW.alike h10, hv.warm hW⟩
theorem kZ.kept {ad : Nat → Nat} {A : Nat → Prop} {U : State} {H H1 : Heap} (h : kZ ad A U H) (hq : ∀ a : Nat, a < H.size → ¬ A a → H1[a]? = H[a]?) : kZ ad A U H1 := by
  obtain ⟨h0, h1, h2, h3, h4, h5, h6, h7, h8, h9, h10, hv⟩ := h
  exact ⟨h0.kept hq, h1.kept hq, h2.kept hq, h3.kept hq, h4.kept hq, h5.kept hq, h6.kept hq, h7.kept hq, h8.kept hq, h9.kept hq, h10.kept hq, hv⟩
theorem kZ.narrow {ad : Nat → Nat} {A B : Nat → Prop} {U : State} {H : Heap} (h : kZ ad A U H) (hAB : ∀ q, B q → A q) : kZ ad B U H := by
  obtain ⟨h0, h1, h2, h3, h4, h5, h6, h7, h8, h9, h10, hv⟩ := h
  exact ⟨h0.narrow hAB, h1.narrow hAB, h2.narrow hAB, h3.narrow hAB, h4.narrow hAB, h5.narrow hAB, h6.narrow hAB, h7.narrow hAB, h8.narrow hAB, h9.narrow hAB, h10.narrow hAB, hv⟩
/-- the room that is left, of the state: cells in number 200, slots in 201 -/
def bC (S : St) : Nat := (fI S 200).toNat
def bL (S : St) : Nat := (fI S 201).toNat
def bset (S : St) (a b : Int) : St := fset (fset S 200 a) 201 b
abbrev bOK (R : Room) (S : St) (cells slots : Nat) : Prop := cells + bC S ≤ R.cells ∧ slots + bL S ≤ R.slots
theorem bset_200 (S : St) (a b : Int) : fI (bset S a b) 200 = a := by unfold bset; rw [fI_fset_n (by decide), fI_fset_s]
theorem bset_201 (S : St) (a b : Int) : fI (bset S a b) 201 = b := by unfold bset; rw [fI_fset_s]
theorem bC_bset (S : St) (a b : Int) : bC (bset S a b) = a.toNat := by unfold bC; rw [bset_200]
theorem bL_bset (S : St) (a b : Int) : bL (bset S a b) = b.toNat := by unfold bL; rw [bset_201]
theorem fI_bset {S : St} {a b : Int} {k : Nat} (h1 : k ≠ 200) (h2 : k ≠ 201) : fI (bset S a b) k = fI S k := by unfold bset; rw [fI_fset_n h2, fI_fset_n h1]
theorem aI_bset (S : St) (a b : Int) : aI (bset S a b) = aI S := rfl
theorem rI_bset (S : St) (a b : Int) : rI (bset S a b) = rI S := rfl
theorem gI_bset (S : St) (a b : Int) : gI (bset S a b) = gI S := rfl
theorem cs0 {R : Room} {S : St} {cells slots : Nat} (h : bOK R S cells slots) : cells ≤ R.cells ∧ slots ≤ R.slots := ⟨Nat.le_trans (Nat.le_add_right _ _) h.1, Nat.le_trans (Nat.le_add_right _ _) h.2⟩
theorem sC.fsetg {D : va_G} {dA : Nat → ClassId} {ad : Nat → Nat} {A : Nat → Prop} {S : St} {H : Heap} {x : Nat} {v : Int} (h : sC D dA wX ad A S H) (hx : x = 200 ∨ x = 201) (hv : InR v) : sC D dA wX ad A (fset S x v) H := by
  obtain ⟨h1, h2, h3, h4, h5, h6⟩ := h
  have hk : kdP (wX.2.2 x) v := by rcases hx with rfl | rfl <;> exact hv
  have ho : wX_own x = (142, 0) := by rcases hx with rfl | rfl <;> rfl
  refine ⟨fun k hk => ?_, h2, h3, nrm_fset h4 hk, h5, h6⟩
  rw [cE_fset (fun q hq i hi y hy e => ?_)]
  · exact h1 k hk
  · have h8 := (wX_fld hq hi hy).1
    rw [e, ho] at h8
    have h9 : 142 = k := congrArg Prod.fst h8
    have hk : k < 142 := hk
    omega
theorem sC.bset {D : va_G} {dA : Nat → ClassId} {ad : Nat → Nat} {A : Nat → Prop} {S : St} {H : Heap} {a b : Int} (h : sC D dA wX ad A S H) (ha : InR a) (hb : InR b) : sC D dA wX ad A (bset S a b) H := (h.fsetg (Or.inl rfl) ha).fsetg (Or.inr rfl) hb
theorem sI.bset {D : va_G} {dA : Nat → ClassId} {ad : Nat → Nat} {A : Nat → Prop} {H0 : Heap} {S : St} {H : Heap} {locs : List Loc} {a b : Int} (h : sI D dA wX ad A H0 S H locs) (ha : InR a) (hb : InR b) : sI D dA wX ad A H0 (bset S a b) H locs := ⟨h.1.bset ha hb, h.2⟩
theorem sI.rR {D : va_G} {dA : Nat → ClassId} {ad : Nat → Nat} {A : Nat → Prop} {H0 : Heap} {S : St} {H : Heap} {locs : List Loc} (h : sI D dA wX ad A H0 S H locs) : InR (fI S 200) ∧ InR (fI S 201) := ⟨h.1.2.2.2.1.1 200, h.1.2.2.2.1.1 201⟩
/-- a method's start in the parser's world -/
def tPre (D : va_G) (dA : Nat → ClassId) (ad : Nat → Nat) (S : St) (sz : Nat) : State → Prop := fun U => sPre D dA wX ad S sz U ∧ kZ ad (wA wX ad S sz) U U.heap
/-- thrown: a Wrong, and the world -/
def xB (D : va_G) (dA : Nat → ClassId) (ad : Nat → Nat) (A : Nat → Prop) (E : Nat → St → Prop) : String → Addr → St → State → Prop := fun nm q S' t => nm = RX5 ∧ (∃ fs : List PV, gI S' q = some (.inr (.inl (5, fs)))) ∧ E q S' ∧ sC D dA wX ad A S' t.heap
section KROWS
variable {p : Program} {l : Launch} {e : Env} {R : Room} {s : State} {m : MethodId} {args : Array Value} {below : List Frame} {meth : Method} {c : Code} {H : Heap} {locs : List Loc} {cells slots : Nat} {Q : State → Prop}
variable {cc : ByteArray} {pc : Nat} {ls : Array Slot} {rest : List Value} {D : va_G} {dA : Nat → ClassId} {ad : Nat → Nat} {A : Nat → Prop} {H0 : Heap} {S : St}

theorem W.rcpyM {cc : ByteArray} (hexec : p.tables.exec = Jvm.exec) (hb : c.code = cc) (hml : c.maxLocals = ls.size) {own : String} {index : Nat} (hown : s.vm.findClass own = some m.cls) (hlink : (Cond.methodLink own index arraycopyName).before args s = true) (hnat : (Cond.native arraycopyName).before args s = true) (hstat : (Cond.static arraycopyName).before args s = true) (hini : (Cond.initialized "java/lang/System").before args s = true)
    {a0 a : Nat} {c0 : ClassId} {n0 n1 : Nat} {f g : Nat → Option Nat} {E1 : String} (hc0 : ∃ cs : Cell, H[a0]? = some cs ∧ cs.vm ≠ .unknown ∧ cs.vm.isStatics = false ∧ cs.cls = c0 ∧ cs.slots = (vp_cell c0 (n0, .inr (.inr (.inr (.inr f))))).slots) (hc1 : H[a]? = some (vp_cell c0 (n1, .inr (.inr (.inr (.inr g)))))) (ht : ArrOfT s c0 (.object E1)) (htR : va_RA s c0 (.object E1))
    {sp dp n : Int32} (h1 : ¬ sp < 0) (h2 : ¬ dp < 0) (h3 : ¬ n < 0) (h4 : sp.toNatClampNeg + n.toNatClampNeg ≤ n0) (h5 : dp.toNatClampNeg + n.toNatClampNeg ≤ n1) (hel : ∀ i : Nat, i < n.toNatClampNeg → ∀ y : Nat, f (sp.toNatClampNeg + i) = some y → va_Any E1 s H y)
    (hframes : 1 ≤ R.frames) (hlocals : (rest.map fun v => v.category).sum + (nativeFrameWords "java/lang/System" "arraycopy" 5 + 11) ≤ R.locals) (hdg : decode cc pc = .ok (.invokestatic index, 3))
    (kk : ∀ (H1 : Heap) (L : List Loc), H1[a]? = some (vp_cell c0 (n1, .inr (.inr (.inr (.inr (va_cpy f g sp.toNatClampNeg dp.toNatClampNeg n.toNatClampNeg)))))) → H1.size = H.size → (∀ q : Nat, q ≠ a → H1[q]? = H[q]?) → (∀ x ∈ L, x.base = a) → W p l e R s m args below meth c H1 (locs ++ L) cells slots Q (F0 m (pc + 3) ls rest)) : W p l e R s m args below meth c H locs cells slots Q (F0 m pc ls (.int n :: .int dp :: .ref a :: .int sp :: .ref a0 :: rest)) := by
  have nn : ∀ z : Int32, ¬ z < 0 → z.toInt = (z.toNatClampNeg : Int) := by
    intro z hz
    have hz0 : (0 : Int) ≤ z.toInt := by
      have := Int32.not_lt.mp hz
      simpa using Int32.le_iff_toInt_le.mp this
    show z.toInt = ((z.toInt.toNat : Nat) : Int)
    omega
  obtain ⟨cs, hc0, hun, hst, hcl, hsl⟩ := hc0
  intro T hT X
  obtain ⟨-, k0, hk0, cm0, hkk0⟩ := ht n0 (fun j => va_rf (f j))
  obtain ⟨-, k1, hk1, cm1, hkk1⟩ := ht n1 (fun j => va_rf (g j))
  obtain ⟨vm', X', step⟩ := X.arraycopy hexec hown hlink hnat hstat hini (src := a0) (dst := a) (cs := cs) (cd := vp_cell c0 (n1, .inr (.inr (.inr (.inr g))))) (srcPos := sp) (destPos := dp) (n := n) (by rw [hT]; exact hc0) (by rw [hT]; exact hc1)
    (fun _ h => by rw [h] at hst; cases hst) (fun _ h => by cases h) hun (fun h => by cases h) (by rw [hcl]; exact hk0) hk1 hkk0 hkk1 rfl h1 h2 h3
    (by rw [nn sp h1, nn n h3]; rw [hsl]; show ¬ _ > ((arrV c0 n0 (fun j => va_rf (f j))).slots.size : Int); rw [arrV_size]; omega)
    (by rw [nn dp h2, nn n h3]; show ¬ _ > ((arrV c0 n1 (fun j => va_rf (g j))).slots.size : Int); rw [arrV_size]; omega)
    (fun vm₁ hal i hi => by
      have e : cs.slots.getD (sp.toNatClampNeg + i) .null = va_rf (f (sp.toNatClampNeg + i)) := by
        rw [hsl]
        show (arrV c0 n0 (fun j => va_rf (f j))).slots.getD _ _ = _
        rw [Array.getD_eq_getD_getElem?, arrV_read _ _ (by omega)]
        rfl
      rw [e]
      cases hy : f (sp.toNatClampNeg + i) with
      | none => exact ⟨rfl, trivial⟩
      | some y =>
        obtain ⟨cellV, g1, g2, ⟨kC, hkC⟩, g3⟩ := hel i hi y hy
        obtain ⟨kA, comp, r1, r2, r3, -⟩ := htR
        cases hk1.symm.trans r1
        cases hkk1.symm.trans r2
        obtain ⟨kE, hkE, -⟩ := Vm.findClass_spec r3
        obtain ⟨kC', hkC', -⟩ := hal.2.2 _ _ hkC
        obtain ⟨kE', hkE', -⟩ := hal.2.2 _ _ hkE
        refine ⟨rfl, cellV, (show T.heap[y]? = some cellV by rw [hT]; exact g1), (fun q h => by rw [h] at g2; cases g2), ⟨kC', hkC'⟩, ?_, ?_⟩
        · exact ⟨kE', hkE'⟩
        · show vm₁.assignable _ _ = true
          rw [hal.assignable]
          exact g3 _ r3)
    (g := F0 m pc ls (.int n :: .int dp :: .ref a :: .int sp :: .ref a0 :: rest)) rfl (by rw [hml]) (rest := rest) rfl (by rw [hb]; exact hdg) hframes (by show 2 * 0 + _ + _ ≤ _; omega)
  have e0 : copied cs (vp_cell c0 (n1, .inr (.inr (.inr (.inr g))))) sp dp n = copied (vp_cell c0 (n0, .inr (.inr (.inr (.inr f))))) (vp_cell c0 (n1, .inr (.inr (.inr (.inr g))))) sp dp n := by
    unfold copied Cell.stretch
    rw [hsl]
  have e1 : copied (vp_cell c0 (n0, .inr (.inr (.inr (.inr f))))) (vp_cell c0 (n1, .inr (.inr (.inr (.inr g))))) sp dp n = vp_cell c0 (n1, .inr (.inr (.inr (.inr (va_cpy f g sp.toNatClampNeg dp.toNatClampNeg n.toNatClampNeg))))) := by
    rw [vp_cell_q, vp_cell_q, vp_cell_q]
    exact va_copied (fun z => va_rf z) c0 c0 f g h4
  rw [e0, e1] at X' step
  have hl : a < H.size := (Array.getElem?_eq_some_iff.mp hc1).1
  have hheap : ((T.setVm vm').setCell a (vp_cell c0 (n1, .inr (.inr (.inr (.inr (va_cpy f g sp.toNatClampNeg dp.toNatClampNeg n.toNatClampNeg))))))).heap = H.setIfInBounds a (vp_cell c0 (n1, .inr (.inr (.inr (.inr (va_cpy f g sp.toNatClampNeg dp.toNatClampNeg n.toNatClampNeg)))))) := by rw [← hT]; rfl
  obtain ⟨t, a1, b1⟩ := kk _ _ (by simp [Array.getElem?_setIfInBounds, hl]) (by simp) (fun q hq => by simp [Array.getElem?_setIfInBounds, Ne.symm hq]) (fun x hx => by
      obtain ⟨z, -, hz⟩ := List.mem_map.mp hx
      rw [← hz]) _ hheap X'
  exact ⟨t, step t a1, b1⟩
theorem t_blind {av : List Value} {sz : Nat} : FrameBlind (va_Pc av (tPre D dA ad S sz)) := by
  intro a U g mk q
  obtain ⟨q0, ⟨q1, qK, qC⟩, qZ⟩ := q
  exact ⟨q0, ⟨q1, gK.calling qK, qC⟩, kZ.warm (s := U) (U := U.calling g mk a) (State.WarmedH.refl U) qZ⟩
theorem t_pre {av : List Value} (hK : gK D dA s) (hI : sI D dA wX ad A s.heap S H locs) (hZ : kZ ad A s s.heap) {a b : Int} (ha : InR a) (hb : InR b) : ∀ U : State, U.heap = H → s.WarmedH U.vm → va_Pc av (tPre D dA ad (bset S a b) H.size) av.toArray U := fun U hU hW =>
  ⟨rfl, ⟨by rw [hU], hK.warm hW, by rw [hU]; exact (hI.1.bset ha hb).self⟩, by rw [hU]; exact ((hZ.kept hI.2.1.2.1).warm hW).narrow (hI.bset ha hb).sub⟩
theorem fresh_none (hC : sC D dA wX ad A S H) : gI S H.size = none := by
  cases hg : gI S H.size with
  | none => rfl
  | some e => exact absurd (hC.2.2.2.2.1 _ e hg).1.lt (Nat.lt_irrefl _)
theorem t_new (hexec : p.tables.exec = Jvm.exec) (hb : c.code = cc) {own C : String} {T : u_T} {n ci index : Nat} (ty0 : Nat → FieldType) (hty : ∀ k, k < n → parseFieldDescriptor (T k).2.2.1 = some (ty0 k)) (hts : ∀ w ∈ lw_all, w.before args s = true) (hown : s.vm.findClass own = some m.cls) (hK : gK D dA s) (hI : sI D dA wX ad A H0 S H locs) (hcs : bOK R S cells slots) (hc : vwCl[ci]? = some (C, T, n)) (hin : ∀ x ∈ u_ws C T n, x ∈ lw_all) (hcl : Cond.classLink own index C ∈ lw_all) (hinst : Cond.instantiable C n ∈ lw_all) (hini : Cond.initialized C ∈ lw_all) (fs0 : List PV) (hfs : ∀ j, j < n → defaultValue (ty0 j) = vp_V (fs0.map pV) j) (hp : ∀ v ∈ fs0, pvP v) (hbd : (1 : Int) ≤ fI S 200 ∧ (n : Int) ≤ fI S 201) (hdg : decode cc pc = .ok (.new index, 3))
    (kk : ∀ (q : Nat) (S1 : St) (H1 : Heap) (c1 s1 : Nat), gI S q = none → S1 = bset (gset S q (.inr (.inl (ci, fs0)))) (fI S 200 - 1) (fI S 201 - (n : Int)) → (∃ kC : Class, s.vm.classes[D.1 ci]? = some kC ∧ H1[q]? = some (blank (D.1 ci) kC)) → sI D dA wX ad A H0 S1 H1 locs → bOK R S1 c1 s1 → W p l e R s m args below meth c H1 locs c1 s1 Q (F0 m (pc + 3) ls (.ref q :: rest))) : W p l e R s m args below meth c H locs cells slots Q (F0 m (pc) ls (rest)) := by
  have hKn := hK.1.1 ci _ hc
  obtain ⟨r0, r1⟩ := hI.rR
  obtain ⟨hC, hS, hA⟩ := hI
  have b0 : bC S = (fI S 200).toNat := rfl
  have b1 : bL S = (fI S 201).toNat := rfl
  obtain ⟨hc0, hc1⟩ := hcs
  refine W.newcK hexec hb hown (hts _ hcl) (hts _ hinst) (hts _ hini) rfl hdg (by omega) (by omega) hKn.2.1 rfl fun H1 kC hkC e1 z1 o1 => ?_
  have hq0 := fresh_none hC
  have hIn : sI D dA wX ad A H0 (gset S H.size (.inr (.inl (ci, fs0)))) H1 locs := by
    refine ⟨hC.gset hA.2 H.size _ (hA.1 _ hS.1) (fun k hk z => ?_) ?_ hp (fun q h1 _ => o1 q h1), ⟨Nat.le_trans hS.1 (by omega), fun x h1 h2 => (o1 x (Nat.lt_of_lt_of_le h1 hS.1)).trans (hS.2.1 x h1 h2), hS.2.2⟩, hA⟩
    · have h := (hC.1 k hk).lt
      have z2 : ad k = H.size := z.symm
      omega
    · exact ⟨_, hc, (u_born ty0 hts hin hKn hkC e1 hty).to hfs⟩
  refine kk H.size _ H1 (cells + 1) (slots + n) hq0 rfl ⟨kC, hkC, e1⟩ (hIn.bset (by constructor <;> omega) (by constructor <;> omega)) ⟨?_, ?_⟩
  · rw [bC_bset]; omega
  · rw [bL_bset]; omega
theorem t_newi (hexec : p.tables.exec = Jvm.exec) (hb : c.code = cc) (harr : (Cond.arrayClass .int).before args s = true) (hK : gK D dA s) (hI : sI D dA wX ad A H0 S H locs) (hcs : bOK R S cells slots) {v : Nat} (hv : v ≤ 100000) (hr : InR (v : Int)) (hbd : (1 : Int) ≤ fI S 200 ∧ (v : Int) ≤ fI S 201) (hdg : decode cc pc = .ok (.newarray .int, 2)) (kk : ∀ (q : Nat) (S1 : St) (H1 : Heap) (c1 s1 : Nat), gI S q = none → S1 = bset (gset S q (.inl (0, v, fun _ => 0))) (fI S 200 - 1) (fI S 201 - (v : Int)) → sI D dA wX ad A H0 S1 H1 locs → bOK R S1 c1 s1 → W p l e R s m args below meth c H1 locs c1 s1 Q (F0 m (pc + 2) ls (.ref q :: rest))) : W p l e R s m args below meth c H locs cells slots Q (F0 m (pc) ls (iV (v : Int) :: rest)) := by
  obtain ⟨r0, r1⟩ := hI.rR
  have b0 : bC S = (fI S 200).toNat := rfl
  have b1 : bL S = (fI S 201).toNat := rfl
  obtain ⟨hc0, hc1⟩ := hcs
  refine s_newi hexec hb harr hK hI hv hr (by omega) (by omega) hdg (fun q S1 H1 hq e hI1 => ?_)
  subst e
  refine kk q _ H1 (cells + 1) (slots + v) hq rfl (hI1.bset (by constructor <;> omega) (by constructor <;> omega)) ⟨?_, ?_⟩
  · rw [bC_bset]; omega
  · rw [bL_bset]; omega
theorem t_newq (hexec : p.tables.exec = Jvm.exec) (hb : c.code = cc) {own : String} {index : Nat} (hts : ∀ w ∈ lw_all, w.before args s = true) (hown : s.vm.findClass own = some m.cls) (hclink : Cond.classLink own index "java/lang/Object" ∈ lw_all) (hK : gK D dA s) (hI : sI D dA wX ad A H0 S H locs) (hcs : bOK R S cells slots) {v : Int} (hr : InR v) (hv : 0 ≤ v ∧ v ≤ 1000000) (hbd : (1 : Int) ≤ fI S 200 ∧ v ≤ fI S 201) (hdg : decode cc pc = .ok (.anewarray index, 3)) (kk : ∀ (q : Nat) (S1 : St) (H1 : Heap) (c1 s1 : Nat), gI S q = none → S1 = bset (gset S q (.inr (.inr (8, v.toNat, fun _ => none)))) (fI S 200 - 1) (fI S 201 - v) → sI D dA wX ad A H0 S1 H1 locs → bOK R S1 c1 s1 → W p l e R s m args below meth c H1 locs c1 s1 Q (F0 m (pc + 3) ls (.ref q :: rest))) : W p l e R s m args below meth c H locs cells slots Q (F0 m (pc) ls (iV v :: rest)) := by
  obtain ⟨r0, r1⟩ := hI.rR
  obtain ⟨hC, hS, hA⟩ := hI
  have b0 : bC S = (fI S 200).toNat := rfl
  have b1 : bL S = (fI S 201).toNat := rfl
  obtain ⟨hc0, hc1⟩ := hcs
  have hcl : (Int32.ofInt v).toNatClampNeg = v.toNat := ni_N hr
  have hAO : va_AO "java/lang/Object" s := hK.2.2.2.2.2 "java/lang/Object" (by simp [gAO])
  refine W.anew hexec hb hown (hts _ hclink) (va_AO.use hAO) rfl hdg rfl (by rw [ni_0, ni_lt hr ni_r0]; omega) (by rw [hcl]; omega) (by omega) (by rw [hcl]; omega) fun cA kA comp f1 f2 f3 f4 => ?_
  rw [hcl]
  generalize hH1 : H.push ({ cls := cA, slots := Array.replicate v.toNat .null, vm := .none } : Cell) = H1
  have z1 : H1.size = H.size + 1 := by rw [← hH1, Array.size_push]
  have e1 : H1[H.size]? = some (arrV cA v.toNat (fun _ => .null)) := by rw [← hH1, Array.getElem?_push_size, ← arrV_new]
  have o1 : ∀ q : Nat, q < H.size → H1[q]? = H[q]? := fun q hq => by rw [← hH1, Array.getElem?_push, if_neg (Nat.ne_of_lt hq)]
  have hcA : cA = dA 8 := by
    obtain ⟨-, -, -, -, -, h4⟩ := (hK.1.2 8 _ rfl).2
    exact Option.some.inj (f1.symm.trans h4)
  subst hcA
  have hq0 := fresh_none hC
  have hIn : sI D dA wX ad A H0 (gset S H.size (.inr (.inr (8, v.toNat, fun _ => none)))) H1 locs := by
    refine ⟨hC.gset hA.2 H.size _ (hA.1 _ hS.1) (fun k hk z => ?_) ?_ (by show v.toNat ≤ 1000000; omega) (fun q h1 _ => o1 q h1), ⟨Nat.le_trans hS.1 (by omega), fun x h1 h2 => (o1 x (Nat.lt_of_lt_of_le h1 hS.1)).trans (hS.2.1 x h1 h2), hS.2.2⟩, hA⟩
    · have h := (hC.1 k hk).lt
      have z2 : ad k = H.size := z.symm
      omega
    · show H1[H.size]? = some (vp_cell _ _)
      rw [vp_cell_q]
      exact e1
  refine kk H.size _ H1 (cells + 1) (slots + v.toNat) hq0 rfl (hIn.bset (by constructor <;> omega) (by constructor <;> omega)) ⟨?_, ?_⟩
  · rw [bC_bset]; omega
  · rw [bL_bset]; omega
/-- the empty array of a list -/
theorem t_empty (hexec : p.tables.exec = Jvm.exec) (hb : c.code = cc) {own : String} {index : Nat} (hts : ∀ w ∈ lw_all, w.before args s = true) (hown : s.vm.findClass own = some m.cls) (hlink : Cond.fieldLink own index "java/util/ArrayList" "DEFAULTCAPACITY_EMPTY_ELEMENTDATA" "[Ljava/lang/Object;" ∈ lw_all) (hI : sI D dA wX ad A s.heap S H locs) (hZ : kZ ad A s s.heap) (hdg : decode cc pc = .ok (.getstatic index, 3)) (kk : ∀ q0 : Nat, rI S 500 0 = some q0 → gI S q0 = some (.inr (.inr (8, 0, fun _ => none))) → W p l e R s m args below meth c H locs cells slots Q (F0 m (pc + 3) ls (.ref q0 :: rest))) : W p l e R s m args below meth c H locs cells slots Q (F0 m (pc) ls (rest)) := by
  obtain ⟨h0, h1, h2, h3, h4, h5, h6, h7, -⟩ := hZ
  refine va_gets hexec hb h7 hI.2.1 hown (hts _ hlink) (fun x hx => hx) hdg (kk (ad 1000) (hI.1.2.2.2.2.2.2 (by decide)).1 ?_)
  exact hI.1.2.2.2.2.2.1 0 (by decide)
theorem t_words (hexec : p.tables.exec = Jvm.exec) (hb : c.code = cc) {own : String} {index : Nat} (hts : ∀ w ∈ lw_all, w.before args s = true) (hown : s.vm.findClass own = some m.cls) (hlink : Cond.fieldLink own index "NineGraves$Tokens" "WORDS" "[Ljava/lang/String;" ∈ lw_all) (hI : sI D dA wX ad A s.heap S H locs) (hZ : kZ ad A s s.heap) (hdg : decode cc pc = .ok (.getstatic index, 3)) (kk : W p l e R s m args below meth c H locs cells slots Q (F0 m (pc + 3) ls (.ref (ad 2000) :: rest))) : W p l e R s m args below meth c H locs cells slots Q (F0 m (pc) ls (rest)) := va_gets hexec hb hZ.2.1 hI.2.1 hown (hts _ hlink) (fun x hx => hx) hdg kk
theorem t_wlen (hexec : p.tables.exec = Jvm.exec) (hb : c.code = cc) (hI : sI D dA wX ad A s.heap S H locs) (hZ : kZ ad A s s.heap) (hdg : decode cc pc = .ok (.arraylength, 1)) (kk : W p l e R s m args below meth c H locs cells slots Q (F0 m (pc + 1) ls (iV 24 :: rest))) : W p l e R s m args below meth c H locs cells slots Q (F0 m (pc) ls (.ref (ad 2000) :: rest)) := va_tlen hexec hb hZ.2.2.1 hI.2.1 (v := Int32.ofInt 24) (by decide) hdg kk
theorem t_wald (hexec : p.tables.exec = Jvm.exec) (hb : c.code = cc) (hI : sI D dA wX ad A s.heap S H locs) (hZ : kZ ad A s s.heap) {i : Int} (hr : InR i) (hin : (0 : Int) ≤ i ∧ i < 24) (hdg : decode cc pc = .ok (.aaload, 1)) (kk : W p l e R s m args below meth c H locs cells slots Q (F0 m (pc + 1) ls (.ref (ad (2001 + Int.toNat i)) :: rest))) : W p l e R s m args below meth c H locs cells slots Q (F0 m (pc) ls (iV i :: .ref (ad 2000) :: rest)) := vb_tq hexec hb hZ.2.2.1 hI.2.1 (ni_in hr hin) (by rw [ni_N hr]) hdg kk
theorem t_signs (hexec : p.tables.exec = Jvm.exec) (hb : c.code = cc) {own : String} {index : Nat} (hown : s.vm.findClass own = some m.cls) (ho : own = "NineGraves$Tokens") (hi : index = 53) (hZ : kZ ad A s s.heap) (hdg : decode cc pc = .ok (.ldc index, 2)) (kk : W p l e R s m args below meth c H locs cells slots Q (F0 m (pc + 2) ls (.ref (ad (2001 + Int.toNat 24)) :: rest))) : W p l e R s m args below meth c H locs cells slots Q (F0 m (pc) ls (rest)) := by
  obtain ⟨h0, h1, h2, h3, h4, h5, h6, h7, h8, h9, h10, h11⟩ := hZ
  subst ho hi
  exact va_ldcS hexec hb hown h11.1 hdg kk
theorem t_mir (hexec : p.tables.exec = Jvm.exec) (hb : c.code = cc) {own : String} {index : Nat} (hts : ∀ w ∈ lw_all, w.before args s = true) (hown : s.vm.findClass own = some m.cls) (hlink : Cond.classLink own index "[Ljava/lang/Object;" ∈ lw_all) (hZ : kZ ad A s s.heap) (hdg : decode cc pc = .ok (.ldc index, 2)) (kk : W p l e R s m args below meth c H locs cells slots Q (F0 m (pc + 2) ls (.ref (ad 2050) :: rest))) : W p l e R s m args below meth c H locs cells slots Q (F0 m (pc) ls (rest)) := by
  obtain ⟨h0, h1, h2, h3, h4, h5, h6, h7, h8, h9, h10, h11⟩ := hZ
  exact va_ldcM hexec hb hown (hts _ hlink) h11.2.1 hdg kk
/-- two references compared -/
theorem t_acmpe (hexec : p.tables.exec = Jvm.exec) (hb : c.code = cc) {x y : Nat} {off : Int} {tgt : Nat} (hdg : decode cc pc = .ok (.if_acmp .eq off, 3)) (ht : (pc : Int) + off = (tgt : Int)) (kt : x = y → W p l e R s m args below meth c H locs cells slots Q (F0 m (tgt) ls (rest))) (kf : ¬ x = y → W p l e R s m args below meth c H locs cells slots Q (F0 m (pc + 3) ls (rest))) : W p l e R s m args below meth c H locs cells slots Q (F0 m (pc) ls (.ref y :: .ref x :: rest)) :=
  lv_acmp_eq (rx := some x) (ry := some y) hexec hb hdg ht (fun h => kt (Option.some.inj h)) (fun h => kf (fun z => h (by rw [z])))
theorem t_acmpn (hexec : p.tables.exec = Jvm.exec) (hb : c.code = cc) {x y : Nat} {off : Int} {tgt : Nat} (hdg : decode cc pc = .ok (.if_acmp .ne off, 3)) (ht : (pc : Int) + off = (tgt : Int)) (kt : ¬ x = y → W p l e R s m args below meth c H locs cells slots Q (F0 m (tgt) ls (rest))) (kf : x = y → W p l e R s m args below meth c H locs cells slots Q (F0 m (pc + 3) ls (rest))) : W p l e R s m args below meth c H locs cells slots Q (F0 m (pc) ls (.ref y :: .ref x :: rest)) :=
  lv_acmp_ne (rx := some x) (ry := some y) hexec hb hdg ht (fun h => kt (fun z => h (by rw [z]))) (fun h => kf (Option.some.inj h))
theorem t_rlen (hexec : p.tables.exec = Jvm.exec) (hb : c.code = cc) (hK : gK D dA s) (hI : sI D dA wX ad A H0 S H locs) {q n : Nat} {f : Int → Option Nat} (hg : gI S q = some (.inr (.inr (8, n, f)))) (hdg : decode cc pc = .ok (.arraylength, 1)) (kk : InR (n : Int) → W p l e R s m args below meth c H locs cells slots Q (F0 m (pc + 1) ls (iV (n : Int) :: rest))) : W p l e R s m args below meth c H locs cells slots Q (F0 m (pc) ls (.ref q :: rest)) := by
  obtain ⟨cell, q1, q3, q5, q2, q4⟩ := s_poolK hI hg
  have q2 : cell.cls = dA 8 := q2
  have q4 : cell.slots = (vp_cell (dA 8) (n, .inr (.inr (.inr (.inr (fun i : Nat => f i)))))).slots := q4
  have h2 : n ≤ 1000000 := (hI.1.2.2.2.2.1 q _ hg).2.2.2
  obtain ⟨-, k8, hk8, c8, hkk8⟩ := (hK.1.2 8 _ rfl).1 n (fun j => va_rf (f j))
  refine W.alen (n := Int32.ofInt (n : Int)) hexec hb q1 ⟨(fun z hz => by rw [hz] at q5; cases q5), k8, (by rw [q2]; exact hk8), c8, hkk8⟩ (by rw [q4, vp_cell_q, arrV_size] <;> exact Int32.ofInt_eq_ofNat.symm) rfl rfl hdg (kk (by constructor <;> omega))
/-- a box of the cache -/
theorem t_cache (hexec : p.tables.exec = Jvm.exec) (hb : c.code = cc) (hI : sI D dA wX ad A s.heap S H locs) (hZ : kZ ad A s s.heap) {i : Int} (hr : InR i) (hin : (0 : Int) ≤ i ∧ i < 256) (hdg : decode cc pc = .ok (.aaload, 1)) (kk : ∀ q : Nat, gI S q = some (.inr (.inl (15, [.inl (i - 128)]))) → W p l e R s m args below meth c H locs cells slots Q (F0 m (pc + 1) ls (.ref q :: rest))) : W p l e R s m args below meth c H locs cells slots Q (F0 m (pc) ls (iV i :: .ref (ad 1999) :: rest)) := by
  obtain ⟨h0, h1, h2, h3, h4, h5, h6, -⟩ := hZ
  refine vb_tq hexec hb h6 hI.2.1 (ni_in hr hin) rfl hdg ?_
  rw [ni_N hr]
  refine kk _ ?_
  have h := hI.1.2.2.2.2.2.1 (1 + i.toNat) (by have e : cN wX = 257 := rfl; rw [e]; omega)
  have e2 : 1000 + (1 + i.toNat) = 1001 + i.toNat := by omega
  rw [e2] at h
  rw [h]
  unfold cPE
  rw [if_neg (by omega)]
  have e3 : (((1 + i.toNat : Nat)) : Int) - 129 = i - 128 := by omega
  rw [e3]
theorem t_high (hexec : p.tables.exec = Jvm.exec) (hb : c.code = cc) {own : String} {index : Nat} (hts : ∀ w ∈ lw_all, w.before args s = true) (hown : s.vm.findClass own = some m.cls) (hlink : Cond.fieldLink own index "java/lang/Integer$IntegerCache" "high" "I" ∈ lw_all) (hI : sI D dA wX ad A s.heap S H locs) (hZ : kZ ad A s s.heap) (hdg : decode cc pc = .ok (.getstatic index, 3)) (kk : W p l e R s m args below meth c H locs cells slots Q (F0 m (pc + 3) ls (iV 127 :: rest))) : W p l e R s m args below meth c H locs cells slots Q (F0 m (pc) ls (rest)) := va_gets hexec hb hZ.2.2.2.2.1 hI.2.1 hown (hts _ hlink) (fun x hx => hx) hdg kk
theorem t_cach (hexec : p.tables.exec = Jvm.exec) (hb : c.code = cc) {own : String} {index : Nat} (hts : ∀ w ∈ lw_all, w.before args s = true) (hown : s.vm.findClass own = some m.cls) (hlink : Cond.fieldLink own index "java/lang/Integer$IntegerCache" "cache" "[Ljava/lang/Integer;" ∈ lw_all) (hI : sI D dA wX ad A s.heap S H locs) (hZ : kZ ad A s s.heap) (hdg : decode cc pc = .ok (.getstatic index, 3)) (kk : W p l e R s m args below meth c H locs cells slots Q (F0 m (pc + 3) ls (.ref (ad 1999) :: rest))) : W p l e R s m args below meth c H locs cells slots Q (F0 m (pc) ls (rest)) := va_gets hexec hb hZ.2.2.2.2.2.1 hI.2.1 hown (hts _ hlink) (fun x hx => hx) hdg kk
theorem t_getc (hexec : p.tables.exec = Jvm.exec) (hb : c.code = cc) (hls : ls.size = c.maxLocals) {own : String} {index : Nat} (hts : ∀ w ∈ lw_all, w.before args s = true) (hown : s.vm.findClass own = some m.cls) (hlink : Cond.methodLink own index ⟨"java/lang/Object", "getClass", "()Ljava/lang/Class;"⟩ ∈ lw_all) (hsel : Cond.selects "[Ljava/lang/Object;" ⟨"java/lang/Object", "getClass", "()Ljava/lang/Class;"⟩ ⟨"java/lang/Object", "getClass", "()Ljava/lang/Class;"⟩ ∈ lw_all) (hinst : Cond.instanceMethod ⟨"java/lang/Object", "getClass", "()Ljava/lang/Class;"⟩ ∈ lw_all) (hnat : Cond.native ⟨"java/lang/Object", "getClass", "()Ljava/lang/Class;"⟩ ∈ lw_all) (hK : gK D dA s) (hI : sI D dA wX ad A s.heap S H locs) (hZ : kZ ad A s s.heap) {q n : Nat} {f : Int → Option Nat} (hg : gI S q = some (.inr (.inr (8, n, f)))) (hR : 1 ≤ R.frames ∧ 100 ≤ R.locals) (hW : (rest.map fun v => v.category).sum ≤ 8) (hdg : decode cc pc = .ok (.invokevirtual index, 3)) (kk : W p l e R s m args below meth c H locs cells slots Q (F0 m (pc + 3) ls (.ref (ad 2050) :: rest))) : W p l e R s m args below meth c H locs cells slots Q (F0 m (pc) ls (.ref q :: rest)) := by
  obtain ⟨h0, h1, h2, h3, h4, h5, h6, h7, h8, h9, h10, h11⟩ := hZ
  obtain ⟨cell, q1, -, q5, q2, -⟩ := s_poolK hI hg
  have q2 : cell.cls = dA 8 := q2
  obtain ⟨-, -, -, -, -, r4⟩ := (hK.1.2 8 _ rfl).2
  exact va_getC hexec hb hls.symm hown (hts _ hlink) (va_Dc.use h11.2.2.1) (hts _ hsel) (hts _ hinst) (hts _ hnat) h11.2.1 ⟨cell, q1, q5, by rw [q2]; exact r4⟩ hR.1 (by have h := hR.2; omega) hdg kk
/-- a text put into the state's row -/
theorem t_rast (hexec : p.tables.exec = Jvm.exec) (hb : c.code = cc) (hK : gK D dA s) (hI : sI D dA wX ad A H0 S H locs) (k : Nat) (hk : k < wX.1) (hk5 : k ≠ 500) {len y : Nat} (hd : wX.2.1 k = .inr (.inr (.inr (7, len)))) {fs : List PV} (hy : gI S y = some (.inr (.inl (4, fs)))) {i : Int} (hr : InR i) (hin : (0 : Int) ≤ i ∧ i < (len : Int)) (hdg : decode cc pc = .ok (.aastore, 1)) (kk : ∀ (S1 : St) (H1 : Heap) (locs1 : List Loc), S1 = rset S k i (some y) → sI D dA wX ad A H0 S1 H1 locs1 → W p l e R s m args below meth c H1 locs1 cells slots Q (F0 m (pc + 1) ls (rest))) : W p l e R s m args below meth c H locs cells slots Q (F0 m (pc) ls (.ref y :: iV i :: .ref (ad k) :: rest)) := by
  have h := s_refs hI k hk hd
  have hT := hK.1.1 4 _ rfl
  have hany : va_Any "NineGraves$Text" s H y := va_rAny hK.1 (va_P1 (s_pobj hI hy (by decide))) (q0 := 0) rfl (r := (RX4, TX4, 6)) rfl (fun comp c0 h1 h2 => vb_asgS (C := "NineGraves$Text") comp c0 h1 h2)
  obtain ⟨hC, hS, hA⟩ := hI
  obtain ⟨cellV, g1, g3, ⟨kC, hkC⟩, hasg⟩ := hany
  obtain ⟨kA, comp, k1, k2, k3, -⟩ := (hK.1.2 7 _ rfl).2
  obtain ⟨kE, hkE, -⟩ := Vm.findClass_spec k3
  have h0 : ¬ Int32.ofInt i < 0 := by rw [ni_0, ni_lt hr ni_r0]; omega
  have hlt : (Int32.ofInt i).toNatClampNeg < len := by rw [ni_N hr]; omega
  refine W.aast hexec hb h (fun q h => by cases h) (fun h => by cases h) k1 k2 rfl hkE ⟨h0, by show _ < (arrV _ _ _).slots.size; rw [arrV_size]; exact hlt⟩ g1 (fun q h => by rw [h] at g3; cases g3) hkC (hasg _ k3) rfl rfl hdg fun H1 e z oq => ?_
  refine kk _ H1 _ rfl ⟨?_, hS.put z oq (hC.2.2.1 k hk), hA⟩
  refine hC.set k hk (fun j _ hj => ?_) rfl (by funext z; rw [rI_rset, if_neg (fun h => hk5 h.1.symm)]) hC.2.2.2.1 ?_ oq
  · obtain q | q | q | q := wX.2.1 j
    · rfl
    · rfl
    · rfl
    · show Sum.inl _ = Sum.inl _
      have e2 : (fun n : Nat => rI (rset S k i (some y)) j n) = fun n : Nat => rI S j n := by funext z; rw [rI_rset, if_neg (fun h => hj h.1)]
      rw [e2]
  · rw [hd]
    show H1[ad k]? = some (vp_cell (dA 7) (len, .inr (.inr (.inr (.inr (fun n : Nat => rI (rset S k i (some y)) k n))))))
    rw [e]
    rw [vp_cell_q, vp_cell_q, arrV_store]
    congr 2
    funext j
    rw [ni_N hr, rI_rset]
    by_cases hj : j = i.toNat
    · subst hj
      have e4 : ((i.toNat : Nat) : Int) = i := by omega
      simp [updV, va_rf, e4]
    · have e4 : ¬ (j : Int) = i := by omega
      simp [updV, hj, e4]
/-- an object that may lie in a list -/
def isEl (S : St) (y : Nat) : Prop := ∃ (ci : Nat) (fs : List PV), gI S y = some (.inr (.inl (ci, fs))) ∧ (6 ≤ ci ∧ ci ≤ 13 ∨ ci = 15)
theorem t_any {y : Nat} (hK : gK D dA s) (hI : sI D dA wX ad A H0 S H locs) (h : isEl S y) : va_Any "java/lang/Object" s H y := by
  obtain ⟨ci, fs, hg, hci⟩ := h
  have go : ∀ (r : vw_C), vwCl[ci]? = some r → va_Nw (.castable r.1 "java/lang/Object") s → va_Any "java/lang/Object" s H y := fun r hr hn => by
    obtain ⟨cell, h1, h2, h3⟩ := s_recvP hK hI hg (C := r.1) (T := r.2.1) (n := r.2.2) hr
    obtain ⟨kC, hkC, -⟩ := Vm.findClass_spec h3
    exact ⟨cell, h1, h2, ⟨kC, hkC⟩, fun comp h => vb_asgC hn comp _ h h3⟩
  have hcs : ci = 6 ∨ ci = 7 ∨ ci = 8 ∨ ci = 9 ∨ ci = 10 ∨ ci = 11 ∨ ci = 12 ∨ ci = 13 ∨ ci = 15 := by omega
  rcases hcs with rfl | rfl | rfl | rfl | rfl | rfl | rfl | rfl | rfl
  · exact go _ rfl (nCs_19 hK.2)
  · exact go _ rfl (nCs_21 hK.2)
  · exact go _ rfl (nCs_23 hK.2)
  · exact go _ rfl (nCs_25 hK.2)
  · exact go _ rfl (nCs_7 hK.2)
  · exact go _ rfl (nCs_9 hK.2)
  · exact go _ rfl (nCs_11 hK.2)
  · exact go _ rfl (nCs_12 hK.2)
  · exact go _ rfl (nCs_0 hK.2)
/-- a reference put into an array of the pool -/
theorem t_past (hexec : p.tables.exec = Jvm.exec) (hb : c.code = cc) (hK : gK D dA s) (hI : sI D dA wX ad A H0 S H locs) {q n y : Nat} {f : Int → Option Nat} (hg : gI S q = some (.inr (.inr (8, n, f)))) (hy : isEl S y) {i : Int} (hr : InR i) (hin : (0 : Int) ≤ i ∧ i < (n : Int)) (hdg : decode cc pc = .ok (.aastore, 1)) (kk : ∀ (S1 : St) (H1 : Heap) (locs1 : List Loc), S1 = gset S q (.inr (.inr (8, n, fun z => if z = i then some y else f z))) → sI D dA wX ad A H0 S1 H1 locs1 → W p l e R s m args below meth c H1 locs1 cells slots Q (F0 m (pc + 1) ls (rest))) : W p l e R s m args below meth c H locs cells slots Q (F0 m (pc) ls (.ref y :: iV i :: .ref q :: rest)) := by
  have hq1 := hI.ownA hg (by omega)
  have hany := t_any hK hI hy
  have h : va_at D vwCl (q, .inl (dA 8, n, .inr (.inr (.inr (.inr (fun i : Nat => f i)))))) H := s_poolA hI hg (by omega)
  obtain ⟨hC, hS, hA⟩ := hI
  obtain ⟨-, -, hq2, hq3⟩ := hC.2.2.2.2.1 q _ hg
  obtain ⟨cellV, g1, g3, ⟨kC, hkC⟩, hasg⟩ := hany
  obtain ⟨kA, comp, k1, k2, k3, -⟩ := (hK.1.2 8 _ rfl).2
  obtain ⟨kE, hkE, -⟩ := Vm.findClass_spec k3
  have h0 : ¬ Int32.ofInt i < 0 := by rw [ni_0, ni_lt hr ni_r0]; omega
  have hlt : (Int32.ofInt i).toNatClampNeg < n := by rw [ni_N hr]; omega
  refine W.aast hexec hb h (fun q h => by cases h) (fun h => by cases h) k1 k2 rfl hkE ⟨h0, by show _ < (arrV _ _ _).slots.size; rw [arrV_size]; exact hlt⟩ g1 (fun q h => by rw [h] at g3; cases g3) hkC (hasg _ k3) rfl rfl hdg fun H1 e z oq => ?_
  refine kk _ H1 _ rfl ⟨?_, hS.put z oq hq1, hA⟩
  refine hC.gset hA.2 q _ hq1 hq2 ?_ hq3 (fun a _ ha => oq a ha)
  show H1[q]? = some (vp_cell (dA 8) (n, .inr (.inr (.inr (.inr (fun j : Nat => if (j : Int) = i then some y else f j))))))
  rw [e]
  rw [vp_cell_q, vp_cell_q, arrV_store]
  congr 2
  funext j
  rw [ni_N hr]
  by_cases hj : j = i.toNat
  · subst hj
    have e4 : ((i.toNat : Nat) : Int) = i := by omega
    simp [updV, va_rf, e4]
  · have e4 : ¬ (j : Int) = i := by omega
    simp [updV, hj, e4]
/-- references copied from one array of the pool to another's start -/
theorem t_copyq (hexec : p.tables.exec = Jvm.exec) (hb : c.code = cc) (hls : ls.size = c.maxLocals) {own : String} {index : Nat} (hown : s.vm.findClass own = some m.cls) (hts : ∀ w ∈ lw_all, w.before args s = true) (hlink : Cond.methodLink own index arraycopyName ∈ lw_all) (hK : gK D dA s) (hI : sI D dA wX ad A H0 S H locs) {q0 q1 n0 n1 : Nat} {f g : Int → Option Nat} (hg0 : gI S q0 = some (.inr (.inr (8, n0, f)))) (hg1 : gI S q1 = some (.inr (.inr (8, n1, g)))) {z : Int} (r3 : InR z) (hbd : 0 ≤ z ∧ z ≤ (n0 : Int) ∧ z ≤ (n1 : Int) ∧ 0 < n1) (hel : ∀ i : Int, 0 ≤ i → i < z → ∀ y, f i = some y → isEl S y) (hR : 1 ≤ R.frames ∧ 100 ≤ R.locals) (hW : (rest.map fun v => v.category).sum ≤ 8) (hdg : decode cc pc = .ok (.invokestatic index, 3)) (kk : ∀ (S1 : St) (H1 : Heap) (locs1 : List Loc), S1 = gset S q1 (.inr (.inr (8, n1, fun x => if 0 ≤ x ∧ x < z then f x else g x))) → sI D dA wX ad A H0 S1 H1 locs1 → W p l e R s m args below meth c H1 locs1 cells slots Q (F0 m (pc + 3) ls (rest))) : W p l e R s m args below meth c H locs cells slots Q (F0 m (pc) ls (iV z :: iV 0 :: .ref q1 :: iV 0 :: .ref q0 :: rest)) := by
  obtain ⟨b1, b2, b3, b4⟩ := hbd
  have hq1 := hI.ownA hg1 (by omega)
  have hany := fun y h => t_any (y := y) hK hI h
  have hb0 : ∃ cs : Cell, H[q0]? = some cs ∧ cs.vm ≠ .unknown ∧ cs.vm.isStatics = false ∧ cs.cls = dA 8 ∧ cs.slots = (vp_cell (dA 8) (n0, .inr (.inr (.inr (.inr (fun i : Nat => f i)))))).slots := s_poolK hI hg0
  have hb1 : H[q1]? = some (vp_cell (dA 8) (n1, .inr (.inr (.inr (.inr (fun i : Nat => g i)))))) := s_poolA hI hg1 (by omega)
  have n3 := ni_N r3
  have n1' := ni_N ni_r0
  have nl : ∀ {x : Int}, InR x → 0 ≤ x → ¬ Int32.ofInt x < 0 := fun hx h0 h => by rw [ni_0, ni_lt hx ni_r0] at h; omega
  have hI2 := hI
  obtain ⟨hC, hS, hA⟩ := hI
  obtain ⟨-, -, hq2, hq3⟩ := hC.2.2.2.2.1 q1 _ hg1
  refine W.rcpyM (E1 := "java/lang/Object") hexec hb hls.symm hown (hts _ hlink) (hts _ q200) (hts _ q199) (hts _ q108) hb0 hb1 (hK.1.2 8 _ rfl).1 (hK.1.2 8 _ rfl).2 (nl ni_r0 (by decide)) (nl ni_r0 (by decide)) (nl r3 (by omega)) (by rw [n1', n3]; show 0 + _ ≤ _; omega) (by rw [n1', n3]; show 0 + _ ≤ _; omega) (fun i hi y hy => ?_) hR.1 (by have h := acpy_loc; have h2 := hR.2; omega) hdg fun H1 L e z1 oq hL => ?_
  · rw [n3] at hi
    rw [n1'] at hy
    have e4 : ((((0 : Int).toNat + i : Nat)) : Int) = (i : Int) := by simp
    rw [e4] at hy
    exact hany y (hel (i : Int) (by omega) (by omega) y hy)
  refine kk _ H1 _ rfl ⟨?_, ⟨by rw [z1]; exact hS.1, fun x h1 h2 => by
      rw [oq x (fun z => h2 (by rw [z]; exact hq1))]
      exact hS.2.1 x h1 h2, fun x hx => by
      rcases List.mem_append.mp hx with h | h
      · exact hS.2.2 x h
      · rw [hL x h]; exact hq1⟩, hA⟩
  refine hC.gset hA.2 q1 _ hq1 hq2 ?_ hq3 (fun a _ ha => oq a ha)
  show H1[q1]? = some (vp_cell (dA 8) (n1, .inr (.inr (.inr (.inr (fun j : Nat => if 0 ≤ (j : Int) ∧ (j : Int) < z then f j else g j))))))
  rw [e, n1', n3]
  have e2 : va_cpy (fun i : Nat => f i) (fun i : Nat => g i) (0 : Int).toNat (0 : Int).toNat z.toNat = fun j : Nat => if 0 ≤ (j : Int) ∧ (j : Int) < z then f j else g j := by
    funext y
    unfold va_cpy
    by_cases hy : (0 : Int).toNat ≤ y ∧ y < (0 : Int).toNat + z.toNat
    · rw [if_pos hy, if_pos (by constructor <;> omega)]
      congr 1
      have e4 : (0 : Int).toNat = 0 := rfl
      rw [e4]
      omega
    · rw [if_neg hy, if_neg (by have e4 : (0 : Int).toNat = 0 := rfl; rw [e4] at hy; omega)]
  rw [e2]
end KROWS
section KCALLS
variable {p : Program} {l : Launch} {e : Env} {R : Room} {s : State} {m : MethodId} {args : Array Value} {below : List Frame} {meth : Method} {c : Code} {H : Heap} {locs : List Loc} {cells slots : Nat} {Q : State → Prop}
variable {cc : ByteArray} {pc : Nat} {ls : Array Slot} {rest : List Value} {D : va_G} {dA : Nat → ClassId} {ad : Nat → Nat} {A : Nat → Prop} {H0 : Heap} {S : St}

theorem p_callVv {y : MethodName} {ycc : ByteArray} {yL nL n index : Nat} {ws : List Cond} {rm : Room} {own : String} {As : List Value} {st0 : List Value} {ba bb : Int} {C : String} {b : Addr} {K : St → Prop} (hF : CallFix p m c cc nL s args lw_all own) (hM : Met l y ws rm (va_Pc (.ref b :: As) (tPre D dA ad (bset S ba bb) H.size)) (va_Qv (fun S' => K S') (sPost D dA wX ad (wA wX ad (bset S ba bb) H.size)) (wA wX ad (bset S ba bb) H.size)) ba.toNat bb.toNat (wA wX ad (bset S ba bb) H.size)) (hC : ∃ cell : Cell, H[b]? = some cell ∧ cell.vm.isStatics = false ∧ s.vm.findClass C = some cell.cls) (cw : CallW R s args own C index y ycc yL none ws rm ba.toNat bb.toNat n) (hK : gK D dA s) (hI : sI D dA wX ad A s.heap S H locs) (hZ : kZ ad A s s.heap) (hcs : bOK R S cells slots) (hbd : (0 ≤ ba ∧ ba ≤ fI S 200) ∧ 0 ≤ bb ∧ bb ≤ fI S 201) (hn : As.length = n) (hls : ls.size = nL) (hst : st0 = As.reverse ++ .ref b :: rest) (hW : (rest.map fun v => v.category).sum ≤ 8) (hdg : decode cc pc = .ok (.invokevirtual index, 3)) (kk : ∀ (S1 S2 : St) (H1 : Heap) (locs1 : List Loc) (c1 s1 : Nat), K S1 → S2 = bset S1 (fI S 200 - ba) (fI S 201 - bb) → sI D dA wX ad A s.heap S2 H1 locs1 → bOK R S2 c1 s1 → W p l e R s m args below meth c H1 locs1 c1 s1 Q (F0 m (pc + 3) ls (rest))) : W p l e R s m args below meth c H locs cells slots Q (F0 m (pc) ls (st0)) := by
  obtain ⟨r0, r1⟩ := hI.rR
  obtain ⟨⟨d0, d1⟩, d2, d3⟩ := hbd
  have ra : InR ba := by constructor <;> omega
  have rb : InR bb := by constructor <;> omega
  have ra2 : InR (fI S 200 - ba) := by constructor <;> omega
  have rb2 : InR (fI S 201 - bb) := by constructor <;> omega
  have hI' := hI.bset (a := ba) (b := bb) ra rb
  have b0 : bC S = (fI S 200).toNat := rfl
  have b1 : bL S = (fI S 201).toNat := rfl
  obtain ⟨hc0, hc1⟩ := hcs
  have okk : ∀ S1 : St, bOK R (bset S1 (fI S 200 - ba) (fI S 201 - bb)) (cells + ba.toNat) (slots + bb.toNat) := fun S1 => ⟨by rw [bC_bset]; omega, by rw [bL_bset]; omega⟩
  refine va_callv (va_runV (As := As) (rest := rest) hF hM cw ⟨t_blind, hC, t_pre hK hI hZ ra rb⟩ rfl hn hls hst (lv_room hW) hdg ⟨by omega, by omega⟩) hI.2.1 (fun q _ h => hI'.sub q h) (fun q h => hI'.sub q h) (fun S1 t H1 locs1 ht hvm hp hB hz hk1 hS1 => by
    have hB' : sC D dA wX ad (wA wX ad (bset S ba bb) H.size) S1 t.heap := hB
    rw [ht] at hB'
    exact kk S1 _ H1 locs1 _ _ hp rfl ((hI'.after hS1 hB').bset ra2 rb2) (okk S1))
theorem p_callVz {y : MethodName} {ycc : ByteArray} {yL nL n index : Nat} {ws : List Cond} {rm : Room} {own : String} {As : List Value} {st0 : List Value} {ba bb : Int} {C : String} {b : Addr} {K : Int → St → Prop} (hF : CallFix p m c cc nL s args lw_all own) (hM : Met l y ws rm (va_Pc (.ref b :: As) (tPre D dA ad (bset S ba bb) H.size)) (va_Qi (fun r S' => (r.toInt = 0 ∨ r.toInt = 1) ∧ K r.toInt S') (sPost D dA wX ad (wA wX ad (bset S ba bb) H.size)) (wA wX ad (bset S ba bb) H.size)) ba.toNat bb.toNat (wA wX ad (bset S ba bb) H.size)) (hC : ∃ cell : Cell, H[b]? = some cell ∧ cell.vm.isStatics = false ∧ s.vm.findClass C = some cell.cls) (cw : CallW R s args own C index y ycc yL (some .boolean) ws rm ba.toNat bb.toNat n) (hK : gK D dA s) (hI : sI D dA wX ad A s.heap S H locs) (hZ : kZ ad A s s.heap) (hcs : bOK R S cells slots) (hbd : (0 ≤ ba ∧ ba ≤ fI S 200) ∧ 0 ≤ bb ∧ bb ≤ fI S 201) (hn : As.length = n) (hls : ls.size = nL) (hst : st0 = As.reverse ++ .ref b :: rest) (hW : (rest.map fun v => v.category).sum ≤ 8) (hdg : decode cc pc = .ok (.invokevirtual index, 3)) (kk : ∀ (r : Int) (S1 S2 : St) (H1 : Heap) (locs1 : List Loc) (c1 s1 : Nat), (r = 0 ∨ r = 1) → K r S1 → S2 = bset S1 (fI S 200 - ba) (fI S 201 - bb) → sI D dA wX ad A s.heap S2 H1 locs1 → bOK R S2 c1 s1 → W p l e R s m args below meth c H1 locs1 c1 s1 Q (F0 m (pc + 3) ls (iV r :: rest))) : W p l e R s m args below meth c H locs cells slots Q (F0 m (pc) ls (st0)) := by
  obtain ⟨r0, r1⟩ := hI.rR
  obtain ⟨⟨d0, d1⟩, d2, d3⟩ := hbd
  have ra : InR ba := by constructor <;> omega
  have rb : InR bb := by constructor <;> omega
  have ra2 : InR (fI S 200 - ba) := by constructor <;> omega
  have rb2 : InR (fI S 201 - bb) := by constructor <;> omega
  have hI' := hI.bset (a := ba) (b := bb) ra rb
  have b0 : bC S = (fI S 200).toNat := rfl
  have b1 : bL S = (fI S 201).toNat := rfl
  obtain ⟨hc0, hc1⟩ := hcs
  have okk : ∀ S1 : St, bOK R (bset S1 (fI S 200 - ba) (fI S 201 - bb)) (cells + ba.toNat) (slots + bb.toNat) := fun S1 => ⟨by rw [bC_bset]; omega, by rw [bL_bset]; omega⟩
  refine va_calli (va_runV (As := As) (rest := rest) hF hM cw ⟨t_blind, hC, t_pre hK hI hZ ra rb⟩ rfl hn hls hst (lv_room hW) hdg ⟨by omega, by omega⟩) hI.2.1 (fun q _ h => hI'.sub q h) (fun q h => hI'.sub q h) (fun r S1 t H1 locs1 ht hvm hp hB hz hk1 hS1 => by
    have hB' : sC D dA wX ad (wA wX ad (bset S ba bb) H.size) S1 t.heap := hB
    rw [ht] at hB'
    rw [ni_V]
    exact kk r.toInt S1 _ H1 locs1 _ _ hp.1 hp.2 rfl ((hI'.after hS1 hB').bset ra2 rb2) (okk S1))
theorem p_callVq {y : MethodName} {ycc : ByteArray} {yL nL n index : Nat} {ws : List Cond} {rm : Room} {own : String} {As : List Value} {st0 : List Value} {ba bb : Int} {rt : FieldType} {C : String} {b : Addr} {K : Option Nat → St → Prop} (hF : CallFix p m c cc nL s args lw_all own) (hM : Met l y ws rm (va_Pc (.ref b :: As) (tPre D dA ad (bset S ba bb) H.size)) (va_Qq (fun r S' => K r S') (sPost D dA wX ad (wA wX ad (bset S ba bb) H.size)) (wA wX ad (bset S ba bb) H.size)) ba.toNat bb.toNat (wA wX ad (bset S ba bb) H.size)) (hC : ∃ cell : Cell, H[b]? = some cell ∧ cell.vm.isStatics = false ∧ s.vm.findClass C = some cell.cls) (cw : CallW R s args own C index y ycc yL (some rt) ws rm ba.toNat bb.toNat n) (hK : gK D dA s) (hI : sI D dA wX ad A s.heap S H locs) (hZ : kZ ad A s s.heap) (hcs : bOK R S cells slots) (hbd : (0 ≤ ba ∧ ba ≤ fI S 200) ∧ 0 ≤ bb ∧ bb ≤ fI S 201) (hn : As.length = n) (hls : ls.size = nL) (hst : st0 = As.reverse ++ .ref b :: rest) (hW : (rest.map fun v => v.category).sum ≤ 8) (hdg : decode cc pc = .ok (.invokevirtual index, 3)) (kk : ∀ (r : Option Nat) (S1 S2 : St) (H1 : Heap) (locs1 : List Loc) (c1 s1 : Nat), K r S1 → S2 = bset S1 (fI S 200 - ba) (fI S 201 - bb) → sI D dA wX ad A s.heap S2 H1 locs1 → bOK R S2 c1 s1 → W p l e R s m args below meth c H1 locs1 c1 s1 Q (F0 m (pc + 3) ls (va_rf r :: rest))) : W p l e R s m args below meth c H locs cells slots Q (F0 m (pc) ls (st0)) := by
  obtain ⟨r0, r1⟩ := hI.rR
  obtain ⟨⟨d0, d1⟩, d2, d3⟩ := hbd
  have ra : InR ba := by constructor <;> omega
  have rb : InR bb := by constructor <;> omega
  have ra2 : InR (fI S 200 - ba) := by constructor <;> omega
  have rb2 : InR (fI S 201 - bb) := by constructor <;> omega
  have hI' := hI.bset (a := ba) (b := bb) ra rb
  have b0 : bC S = (fI S 200).toNat := rfl
  have b1 : bL S = (fI S 201).toNat := rfl
  obtain ⟨hc0, hc1⟩ := hcs
  have okk : ∀ S1 : St, bOK R (bset S1 (fI S 200 - ba) (fI S 201 - bb)) (cells + ba.toNat) (slots + bb.toNat) := fun S1 => ⟨by rw [bC_bset]; omega, by rw [bL_bset]; omega⟩
  refine va_callq (va_runV (As := As) (rest := rest) hF hM cw ⟨t_blind, hC, t_pre hK hI hZ ra rb⟩ rfl hn hls hst (lv_room hW) hdg ⟨by omega, by omega⟩) hI.2.1 (fun q _ h => hI'.sub q h) (fun q h => hI'.sub q h) (fun r S1 t H1 locs1 ht hvm hp hB hz hk1 hS1 => by
    have hB' : sC D dA wX ad (wA wX ad (bset S ba bb) H.size) S1 t.heap := hB
    rw [ht] at hB'
    exact kk r S1 _ H1 locs1 _ _ hp rfl ((hI'.after hS1 hB').bset ra2 rb2) (okk S1))
theorem p_callIv {y : MethodName} {ycc : ByteArray} {yL nL n index : Nat} {ws : List Cond} {rm : Room} {own : String} {As : List Value} {st0 : List Value} {ba bb : Int} {b : Addr} {K : St → Prop} (hF : CallFix p m c cc nL s args lw_all own) (hM : Met l y ws rm (va_Pc (.ref b :: As) (tPre D dA ad (bset S ba bb) H.size)) (va_Qv (fun S' => K S') (sPost D dA wX ad (wA wX ad (bset S ba bb) H.size)) (wA wX ad (bset S ba bb) H.size)) ba.toNat bb.toNat (wA wX ad (bset S ba bb) H.size)) (cw : CallB R s args own index y ycc yL none ws rm ba.toNat bb.toNat n ∧ y.name = "<init>" ∧ (Cond.instanceMethod y).before args s = true) (hK : gK D dA s) (hI : sI D dA wX ad A s.heap S H locs) (hZ : kZ ad A s s.heap) (hcs : bOK R S cells slots) (hbd : (0 ≤ ba ∧ ba ≤ fI S 200) ∧ 0 ≤ bb ∧ bb ≤ fI S 201) (hn : As.length = n) (hls : ls.size = nL) (hst : st0 = As.reverse ++ .ref b :: rest) (hW : (rest.map fun v => v.category).sum ≤ 8) (hdg : decode cc pc = .ok (.invokespecial index, 3)) (kk : ∀ (S1 S2 : St) (H1 : Heap) (locs1 : List Loc) (c1 s1 : Nat), K S1 → S2 = bset S1 (fI S 200 - ba) (fI S 201 - bb) → sI D dA wX ad A s.heap S2 H1 locs1 → bOK R S2 c1 s1 → W p l e R s m args below meth c H1 locs1 c1 s1 Q (F0 m (pc + 3) ls (rest))) : W p l e R s m args below meth c H locs cells slots Q (F0 m (pc) ls (st0)) := by
  obtain ⟨r0, r1⟩ := hI.rR
  obtain ⟨⟨d0, d1⟩, d2, d3⟩ := hbd
  have ra : InR ba := by constructor <;> omega
  have rb : InR bb := by constructor <;> omega
  have ra2 : InR (fI S 200 - ba) := by constructor <;> omega
  have rb2 : InR (fI S 201 - bb) := by constructor <;> omega
  have hI' := hI.bset (a := ba) (b := bb) ra rb
  have b0 : bC S = (fI S 200).toNat := rfl
  have b1 : bL S = (fI S 201).toNat := rfl
  obtain ⟨hc0, hc1⟩ := hcs
  have okk : ∀ S1 : St, bOK R (bset S1 (fI S 200 - ba) (fI S 201 - bb)) (cells + ba.toNat) (slots + bb.toNat) := fun S1 => ⟨by rw [bC_bset]; omega, by rw [bL_bset]; omega⟩
  refine va_callv (va_runI (As := As) (rest := rest) hF hM cw ⟨t_blind, t_pre hK hI hZ ra rb⟩ rfl hn hls hst (lv_room hW) hdg ⟨by omega, by omega⟩) hI.2.1 (fun q _ h => hI'.sub q h) (fun q h => hI'.sub q h) (fun S1 t H1 locs1 ht hvm hp hB hz hk1 hS1 => by
    have hB' : sC D dA wX ad (wA wX ad (bset S ba bb) H.size) S1 t.heap := hB
    rw [ht] at hB'
    exact kk S1 _ H1 locs1 _ _ hp rfl ((hI'.after hS1 hB').bset ra2 rb2) (okk S1))
theorem p_callINv {y : MethodName} {ycc : ByteArray} {yL nL n index : Nat} {ws : List Cond} {rm : Room} {own : String} {As : List Value} {st0 : List Value} {ba bb : Int} {b : Addr} {host : String} {K : St → Prop} (hF : CallFix p m c cc nL s args lw_all own) (hM : Met l y ws rm (va_Pc (.ref b :: As) (tPre D dA ad (bset S ba bb) H.size)) (va_Qv (fun S' => K S') (sPost D dA wX ad (wA wX ad (bset S ba bb) H.size)) (wA wX ad (bset S ba bb) H.size)) ba.toNat bb.toNat (wA wX ad (bset S ba bb) H.size)) (cw : va_CN R s args own index y host ycc yL none ws rm ba.toNat bb.toNat n ∧ y.name = "<init>" ∧ (Cond.instanceMethod y).before args s = true) (hK : gK D dA s) (hI : sI D dA wX ad A s.heap S H locs) (hZ : kZ ad A s s.heap) (hcs : bOK R S cells slots) (hbd : (0 ≤ ba ∧ ba ≤ fI S 200) ∧ 0 ≤ bb ∧ bb ≤ fI S 201) (hn : As.length = n) (hls : ls.size = nL) (hst : st0 = As.reverse ++ .ref b :: rest) (hW : (rest.map fun v => v.category).sum ≤ 8) (hdg : decode cc pc = .ok (.invokespecial index, 3)) (kk : ∀ (S1 S2 : St) (H1 : Heap) (locs1 : List Loc) (c1 s1 : Nat), K S1 → S2 = bset S1 (fI S 200 - ba) (fI S 201 - bb) → sI D dA wX ad A s.heap S2 H1 locs1 → bOK R S2 c1 s1 → W p l e R s m args below meth c H1 locs1 c1 s1 Q (F0 m (pc + 3) ls (rest))) : W p l e R s m args below meth c H locs cells slots Q (F0 m (pc) ls (st0)) := by
  obtain ⟨r0, r1⟩ := hI.rR
  obtain ⟨⟨d0, d1⟩, d2, d3⟩ := hbd
  have ra : InR ba := by constructor <;> omega
  have rb : InR bb := by constructor <;> omega
  have ra2 : InR (fI S 200 - ba) := by constructor <;> omega
  have rb2 : InR (fI S 201 - bb) := by constructor <;> omega
  have hI' := hI.bset (a := ba) (b := bb) ra rb
  have b0 : bC S = (fI S 200).toNat := rfl
  have b1 : bL S = (fI S 201).toNat := rfl
  obtain ⟨hc0, hc1⟩ := hcs
  have okk : ∀ S1 : St, bOK R (bset S1 (fI S 200 - ba) (fI S 201 - bb)) (cells + ba.toNat) (slots + bb.toNat) := fun S1 => ⟨by rw [bC_bset]; omega, by rw [bL_bset]; omega⟩
  refine va_callv (va_runIN (As := As) (rest := rest) hF hM cw ⟨t_blind, t_pre hK hI hZ ra rb⟩ rfl hn hls hst (lv_room hW) hdg ⟨by omega, by omega⟩) hI.2.1 (fun q _ h => hI'.sub q h) (fun q h => hI'.sub q h) (fun S1 t H1 locs1 ht hvm hp hB hz hk1 hS1 => by
    have hB' : sC D dA wX ad (wA wX ad (bset S ba bb) H.size) S1 t.heap := hB
    rw [ht] at hB'
    exact kk S1 _ H1 locs1 _ _ hp rfl ((hI'.after hS1 hB').bset ra2 rb2) (okk S1))
theorem p_callSq {y : MethodName} {ycc : ByteArray} {yL nL n index : Nat} {ws : List Cond} {rm : Room} {own : String} {As : List Value} {st0 : List Value} {ba bb : Int} {rt : FieldType} {K : Option Nat → St → Prop} (hF : CallFix p m c cc nL s args lw_all own) (hM : Met l y ws rm (va_Pc As (tPre D dA ad (bset S ba bb) H.size)) (va_Qq (fun r S' => K r S') (sPost D dA wX ad (wA wX ad (bset S ba bb) H.size)) (wA wX ad (bset S ba bb) H.size)) ba.toNat bb.toNat (wA wX ad (bset S ba bb) H.size)) (cw : CallB R s args own index y ycc yL (some rt) ws rm ba.toNat bb.toNat n ∧ (Cond.static y).before args s = true) (hK : gK D dA s) (hI : sI D dA wX ad A s.heap S H locs) (hZ : kZ ad A s s.heap) (hcs : bOK R S cells slots) (hbd : (0 ≤ ba ∧ ba ≤ fI S 200) ∧ 0 ≤ bb ∧ bb ≤ fI S 201) (hn : As.length = n) (hls : ls.size = nL) (hst : st0 = As.reverse ++ rest) (hW : (rest.map fun v => v.category).sum ≤ 8) (hdg : decode cc pc = .ok (.invokestatic index, 3)) (kk : ∀ (r : Option Nat) (S1 S2 : St) (H1 : Heap) (locs1 : List Loc) (c1 s1 : Nat), K r S1 → S2 = bset S1 (fI S 200 - ba) (fI S 201 - bb) → sI D dA wX ad A s.heap S2 H1 locs1 → bOK R S2 c1 s1 → W p l e R s m args below meth c H1 locs1 c1 s1 Q (F0 m (pc + 3) ls (va_rf r :: rest))) : W p l e R s m args below meth c H locs cells slots Q (F0 m (pc) ls (st0)) := by
  obtain ⟨r0, r1⟩ := hI.rR
  obtain ⟨⟨d0, d1⟩, d2, d3⟩ := hbd
  have ra : InR ba := by constructor <;> omega
  have rb : InR bb := by constructor <;> omega
  have ra2 : InR (fI S 200 - ba) := by constructor <;> omega
  have rb2 : InR (fI S 201 - bb) := by constructor <;> omega
  have hI' := hI.bset (a := ba) (b := bb) ra rb
  have b0 : bC S = (fI S 200).toNat := rfl
  have b1 : bL S = (fI S 201).toNat := rfl
  obtain ⟨hc0, hc1⟩ := hcs
  have okk : ∀ S1 : St, bOK R (bset S1 (fI S 200 - ba) (fI S 201 - bb)) (cells + ba.toNat) (slots + bb.toNat) := fun S1 => ⟨by rw [bC_bset]; omega, by rw [bL_bset]; omega⟩
  refine va_callq (va_runS (As := As) (rest := rest) hF hM cw ⟨t_blind, t_pre hK hI hZ ra rb⟩ rfl hn hls hst (lv_room hW) hdg ⟨by omega, by omega⟩) hI.2.1 (fun q _ h => hI'.sub q h) (fun q h => hI'.sub q h) (fun r S1 t H1 locs1 ht hvm hp hB hz hk1 hS1 => by
    have hB' : sC D dA wX ad (wA wX ad (bset S ba bb) H.size) S1 t.heap := hB
    rw [ht] at hB'
    exact kk r S1 _ H1 locs1 _ _ hp rfl ((hI'.after hS1 hB').bset ra2 rb2) (okk S1))
theorem x_callVv {y : MethodName} {ycc : ByteArray} {yL nL n index : Nat} {ws : List Cond} {rm : Room} {own : String} {As : List Value} {st0 : List Value} {ba bb : Int} {C : String} {b : Addr} {K : Option Nat → St → Prop} (hF : CallFix p m c cc nL s args lw_all own) (hM : vz_Met l y ws rm (va_Pc (.ref b :: As) (tPre D dA ad (bset S ba bb) H.size)) (va_Qv (fun S' => K none S') (sPost D dA wX ad (wA wX ad (bset S ba bb) H.size)) (wA wX ad (bset S ba bb) H.size)) (vz_X (fun _ : St => True) (xB D dA ad (wA wX ad (bset S ba bb) H.size) (fun q S' => K (some q) S')) (wA wX ad (bset S ba bb) H.size)) ba.toNat bb.toNat (wA wX ad (bset S ba bb) H.size)) (hC : ∃ cell : Cell, H[b]? = some cell ∧ cell.vm.isStatics = false ∧ s.vm.findClass C = some cell.cls) (cw : CallW R s args own C index y ycc yL none ws rm ba.toNat bb.toNat n) (hK : gK D dA s) (hI : sI D dA wX ad A s.heap S H locs) (hZ : kZ ad A s s.heap) (hcs : bOK R S cells slots) (hbd : (0 ≤ ba ∧ ba ≤ fI S 200) ∧ 0 ≤ bb ∧ bb ≤ fI S 201) (hn : As.length = n) (hls : ls.size = nL) (hst : st0 = As.reverse ++ .ref b :: rest) (hW : (rest.map fun v => v.category).sum ≤ 8) (hdg : decode cc pc = .ok (.invokevirtual index, 3)) (kx : ∀ (q : Nat) (S1 S2 : St) (H1 : Heap) (locs1 : List Loc) (c1 s1 : Nat), K (some q) S1 → S2 = bset S1 (fI S 200 - ba) (fI S 201 - bb) → (∃ fs : List PV, gI S2 q = some (.inr (.inl (5, fs)))) → sI D dA wX ad A s.heap S2 H1 locs1 → bOK R S2 c1 s1 → vz_W p l e R s m args below meth c H1 locs1 c1 s1 Q (F0 m pc ls rest) q) (kk : ∀ (S1 S2 : St) (H1 : Heap) (locs1 : List Loc) (c1 s1 : Nat), K none S1 → S2 = bset S1 (fI S 200 - ba) (fI S 201 - bb) → sI D dA wX ad A s.heap S2 H1 locs1 → bOK R S2 c1 s1 → W p l e R s m args below meth c H1 locs1 c1 s1 Q (F0 m (pc + 3) ls (rest))) : W p l e R s m args below meth c H locs cells slots Q (F0 m (pc) ls (st0)) := by
  obtain ⟨r0, r1⟩ := hI.rR
  obtain ⟨⟨d0, d1⟩, d2, d3⟩ := hbd
  have ra : InR ba := by constructor <;> omega
  have rb : InR bb := by constructor <;> omega
  have ra2 : InR (fI S 200 - ba) := by constructor <;> omega
  have rb2 : InR (fI S 201 - bb) := by constructor <;> omega
  have hI' := hI.bset (a := ba) (b := bb) ra rb
  have b0 : bC S = (fI S 200).toNat := rfl
  have b1 : bL S = (fI S 201).toNat := rfl
  obtain ⟨hc0, hc1⟩ := hcs
  have okk : ∀ S1 : St, bOK R (bset S1 (fI S 200 - ba) (fI S 201 - bb)) (cells + ba.toNat) (slots + bb.toNat) := fun S1 => ⟨by rw [bC_bset]; omega, by rw [bL_bset]; omega⟩
  refine vz_callv (vz_runV (As := As) (rest := rest) hF hM cw ⟨t_blind, hC, t_pre hK hI hZ ra rb⟩ rfl hn hls hst (lv_room hW) hdg ⟨by omega, by omega⟩) hI.2.1 (fun q _ h => hI'.sub q h) (fun q h => hI'.sub q h) (fun q _ h => hI'.sub q h) (fun E ce q9 S1 t H1 locs1 ht hvm _ hB hz hk1 hS1 hce hcv hcl => by
    obtain ⟨-, hgq, hE, hB⟩ := hB
    rw [ht] at hB
    exact kx q9 S1 _ H1 locs1 _ _ hE rfl hgq ((hI'.after hS1 hB).bset ra2 rb2) (okk S1)) (fun S1 t H1 locs1 ht hvm hp hB hz hk1 hS1 => by
    have hB' : sC D dA wX ad (wA wX ad (bset S ba bb) H.size) S1 t.heap := hB
    rw [ht] at hB'
    exact kk S1 _ H1 locs1 _ _ hp rfl ((hI'.after hS1 hB').bset ra2 rb2) (okk S1))
theorem x_callVi {y : MethodName} {ycc : ByteArray} {yL nL n index : Nat} {ws : List Cond} {rm : Room} {own : String} {As : List Value} {st0 : List Value} {ba bb : Int} {C : String} {b : Addr} {K : Option Nat → Int → St → Prop} (hF : CallFix p m c cc nL s args lw_all own) (hM : vz_Met l y ws rm (va_Pc (.ref b :: As) (tPre D dA ad (bset S ba bb) H.size)) (va_Qi (fun r S' => K none r.toInt S') (sPost D dA wX ad (wA wX ad (bset S ba bb) H.size)) (wA wX ad (bset S ba bb) H.size)) (vz_X (fun _ : St => True) (xB D dA ad (wA wX ad (bset S ba bb) H.size) (fun q S' => K (some q) 0 S')) (wA wX ad (bset S ba bb) H.size)) ba.toNat bb.toNat (wA wX ad (bset S ba bb) H.size)) (hC : ∃ cell : Cell, H[b]? = some cell ∧ cell.vm.isStatics = false ∧ s.vm.findClass C = some cell.cls) (cw : CallW R s args own C index y ycc yL (some .int) ws rm ba.toNat bb.toNat n) (hK : gK D dA s) (hI : sI D dA wX ad A s.heap S H locs) (hZ : kZ ad A s s.heap) (hcs : bOK R S cells slots) (hbd : (0 ≤ ba ∧ ba ≤ fI S 200) ∧ 0 ≤ bb ∧ bb ≤ fI S 201) (hn : As.length = n) (hls : ls.size = nL) (hst : st0 = As.reverse ++ .ref b :: rest) (hW : (rest.map fun v => v.category).sum ≤ 8) (hdg : decode cc pc = .ok (.invokevirtual index, 3)) (kx : ∀ (q : Nat) (S1 S2 : St) (H1 : Heap) (locs1 : List Loc) (c1 s1 : Nat), K (some q) 0 S1 → S2 = bset S1 (fI S 200 - ba) (fI S 201 - bb) → (∃ fs : List PV, gI S2 q = some (.inr (.inl (5, fs)))) → sI D dA wX ad A s.heap S2 H1 locs1 → bOK R S2 c1 s1 → vz_W p l e R s m args below meth c H1 locs1 c1 s1 Q (F0 m pc ls rest) q) (kk : ∀ (r : Int) (S1 S2 : St) (H1 : Heap) (locs1 : List Loc) (c1 s1 : Nat), InR r → K none r S1 → S2 = bset S1 (fI S 200 - ba) (fI S 201 - bb) → sI D dA wX ad A s.heap S2 H1 locs1 → bOK R S2 c1 s1 → W p l e R s m args below meth c H1 locs1 c1 s1 Q (F0 m (pc + 3) ls (iV r :: rest))) : W p l e R s m args below meth c H locs cells slots Q (F0 m (pc) ls (st0)) := by
  obtain ⟨r0, r1⟩ := hI.rR
  obtain ⟨⟨d0, d1⟩, d2, d3⟩ := hbd
  have ra : InR ba := by constructor <;> omega
  have rb : InR bb := by constructor <;> omega
  have ra2 : InR (fI S 200 - ba) := by constructor <;> omega
  have rb2 : InR (fI S 201 - bb) := by constructor <;> omega
  have hI' := hI.bset (a := ba) (b := bb) ra rb
  have b0 : bC S = (fI S 200).toNat := rfl
  have b1 : bL S = (fI S 201).toNat := rfl
  obtain ⟨hc0, hc1⟩ := hcs
  have okk : ∀ S1 : St, bOK R (bset S1 (fI S 200 - ba) (fI S 201 - bb)) (cells + ba.toNat) (slots + bb.toNat) := fun S1 => ⟨by rw [bC_bset]; omega, by rw [bL_bset]; omega⟩
  refine vz_calli (vz_runV (As := As) (rest := rest) hF hM cw ⟨t_blind, hC, t_pre hK hI hZ ra rb⟩ rfl hn hls hst (lv_room hW) hdg ⟨by omega, by omega⟩) hI.2.1 (fun q _ h => hI'.sub q h) (fun q h => hI'.sub q h) (fun q _ h => hI'.sub q h) (fun E ce q9 S1 t H1 locs1 ht hvm _ hB hz hk1 hS1 hce hcv hcl => by
    obtain ⟨-, hgq, hE, hB⟩ := hB
    rw [ht] at hB
    exact kx q9 S1 _ H1 locs1 _ _ hE rfl hgq ((hI'.after hS1 hB).bset ra2 rb2) (okk S1)) (fun r S1 t H1 locs1 ht hvm hp hB hz hk1 hS1 => by
    have hB' : sC D dA wX ad (wA wX ad (bset S ba bb) H.size) S1 t.heap := hB
    rw [ht] at hB'
    rw [ni_V]
    exact kk r.toInt S1 _ H1 locs1 _ _ (ni_R r) hp rfl ((hI'.after hS1 hB').bset ra2 rb2) (okk S1))
theorem x_callVq {y : MethodName} {ycc : ByteArray} {yL nL n index : Nat} {ws : List Cond} {rm : Room} {own : String} {As : List Value} {st0 : List Value} {ba bb : Int} {rt : FieldType} {C : String} {b : Addr} {K : Option Nat → Option Nat → St → Prop} (hF : CallFix p m c cc nL s args lw_all own) (hM : vz_Met l y ws rm (va_Pc (.ref b :: As) (tPre D dA ad (bset S ba bb) H.size)) (va_Qq (fun r S' => K none r S') (sPost D dA wX ad (wA wX ad (bset S ba bb) H.size)) (wA wX ad (bset S ba bb) H.size)) (vz_X (fun _ : St => True) (xB D dA ad (wA wX ad (bset S ba bb) H.size) (fun q S' => K (some q) none S')) (wA wX ad (bset S ba bb) H.size)) ba.toNat bb.toNat (wA wX ad (bset S ba bb) H.size)) (hC : ∃ cell : Cell, H[b]? = some cell ∧ cell.vm.isStatics = false ∧ s.vm.findClass C = some cell.cls) (cw : CallW R s args own C index y ycc yL (some rt) ws rm ba.toNat bb.toNat n) (hK : gK D dA s) (hI : sI D dA wX ad A s.heap S H locs) (hZ : kZ ad A s s.heap) (hcs : bOK R S cells slots) (hbd : (0 ≤ ba ∧ ba ≤ fI S 200) ∧ 0 ≤ bb ∧ bb ≤ fI S 201) (hn : As.length = n) (hls : ls.size = nL) (hst : st0 = As.reverse ++ .ref b :: rest) (hW : (rest.map fun v => v.category).sum ≤ 8) (hdg : decode cc pc = .ok (.invokevirtual index, 3)) (kx : ∀ (q : Nat) (S1 S2 : St) (H1 : Heap) (locs1 : List Loc) (c1 s1 : Nat), K (some q) none S1 → S2 = bset S1 (fI S 200 - ba) (fI S 201 - bb) → (∃ fs : List PV, gI S2 q = some (.inr (.inl (5, fs)))) → sI D dA wX ad A s.heap S2 H1 locs1 → bOK R S2 c1 s1 → vz_W p l e R s m args below meth c H1 locs1 c1 s1 Q (F0 m pc ls rest) q) (kk : ∀ (r : Option Nat) (S1 S2 : St) (H1 : Heap) (locs1 : List Loc) (c1 s1 : Nat), K none r S1 → S2 = bset S1 (fI S 200 - ba) (fI S 201 - bb) → sI D dA wX ad A s.heap S2 H1 locs1 → bOK R S2 c1 s1 → W p l e R s m args below meth c H1 locs1 c1 s1 Q (F0 m (pc + 3) ls (va_rf r :: rest))) : W p l e R s m args below meth c H locs cells slots Q (F0 m (pc) ls (st0)) := by
  obtain ⟨r0, r1⟩ := hI.rR
  obtain ⟨⟨d0, d1⟩, d2, d3⟩ := hbd
  have ra : InR ba := by constructor <;> omega
  have rb : InR bb := by constructor <;> omega
  have ra2 : InR (fI S 200 - ba) := by constructor <;> omega
  have rb2 : InR (fI S 201 - bb) := by constructor <;> omega
  have hI' := hI.bset (a := ba) (b := bb) ra rb
  have b0 : bC S = (fI S 200).toNat := rfl
  have b1 : bL S = (fI S 201).toNat := rfl
  obtain ⟨hc0, hc1⟩ := hcs
  have okk : ∀ S1 : St, bOK R (bset S1 (fI S 200 - ba) (fI S 201 - bb)) (cells + ba.toNat) (slots + bb.toNat) := fun S1 => ⟨by rw [bC_bset]; omega, by rw [bL_bset]; omega⟩
  refine vz_callq (vz_runV (As := As) (rest := rest) hF hM cw ⟨t_blind, hC, t_pre hK hI hZ ra rb⟩ rfl hn hls hst (lv_room hW) hdg ⟨by omega, by omega⟩) hI.2.1 (fun q _ h => hI'.sub q h) (fun q h => hI'.sub q h) (fun q _ h => hI'.sub q h) (fun E ce q9 S1 t H1 locs1 ht hvm _ hB hz hk1 hS1 hce hcv hcl => by
    obtain ⟨-, hgq, hE, hB⟩ := hB
    rw [ht] at hB
    exact kx q9 S1 _ H1 locs1 _ _ hE rfl hgq ((hI'.after hS1 hB).bset ra2 rb2) (okk S1)) (fun r S1 t H1 locs1 ht hvm hp hB hz hk1 hS1 => by
    have hB' : sC D dA wX ad (wA wX ad (bset S ba bb) H.size) S1 t.heap := hB
    rw [ht] at hB'
    exact kk r S1 _ H1 locs1 _ _ hp rfl ((hI'.after hS1 hB').bset ra2 rb2) (okk S1))
/-- thrown on to the caller -/
theorem x_out {E : Nat → St → Prop} {Qc : Array Value → State → Outcome → State → Prop} {mc ms q : Nat} (hout : ∀ x ∈ c.exceptionTable.toList, False) (hlocks : meth.locks = false) (hK : gK D dA s) (hI : sI D dA wX ad A s.heap S H locs) (hcm : cells ≤ mc ∧ slots ≤ ms) (hg : ∃ fs : List PV, gI S q = some (.inr (.inl (5, fs)))) (hE : E q S) : vz_W p l e R s m args below meth c H locs cells slots (vz_MQ below Qc (vz_X (fun _ : St => True) (xB D dA ad A E) A) args s mc ms A) (F0 m pc ls rest) q := by
  obtain ⟨fs, hg⟩ := hg
  obtain ⟨r, h1, cell, q1, q2, q3, q4⟩ := s_pobj hI hg (by decide)
  exact vz_out (E := RX5) (ce := cell) (fun x hx => (hout x hx).elim) hlocks q1 q3 (by rw [q2]; exact (hK.1.1 5 _ rfl).2.1) (fun t ht hal => ⟨S, trivial, ⟨rfl, ⟨fs, hg⟩, hE, by rw [ht]; exact hI.1⟩, hI.2.1.F ht⟩) hI.2.1.2.2 hcm.1 hcm.2
end KCALLS
