/-! CONSTRUCTORS: a block of new cells, one behind the other from h0 on -/
theorem outer_eta (c : ClassId) (N h0 : Nat) : ∀ i, ∃ sl : Array Value, Jvm.Free.Multi.outerC c N h0 i = { cls := c, slots := sl, vm := .none }
  | 0 => ⟨_, rfl⟩
  | i + 1 => by
    obtain ⟨sl, h⟩ := outer_eta c N h0 i
    refine ⟨sl.setIfInBounds i (.ref (h0 + 1 + i)), ?_⟩
    show (Jvm.Free.Multi.outerC c N h0 i).setSlot i (.ref (h0 + 1 + i)) = _
    rw [h]
    rfl
theorem outer_arrV (c : ClassId) (N h0 : Nat) : Jvm.Free.Multi.outerC c N h0 N = arrV c N (fun j => .ref (h0 + 1 + j)) := by
  obtain ⟨-, -, d⟩ := Jvm.Free.Multi.outerC_facts c N h0 N
  obtain ⟨sl, h⟩ := outer_eta c N h0 N
  have e : sl = (arrV c N (fun j => .ref (h0 + 1 + j))).slots := by
    apply Array.ext_getElem?
    intro j
    by_cases hj : j < N
    · rw [arrV_read c _ hj, ← show (Jvm.Free.Multi.outerC c N h0 N).slots = sl by rw [h], Jvm.Free.Multi.outerC_slot c N h0 N j hj, if_pos hj]
    · rw [Array.getElem?_eq_none (by rw [h] at d; have d : sl.size = N := d; omega), Array.getElem?_eq_none (by rw [arrV_size]; omega)]
  rw [h, e]
  rfl
def cB (D : va_G) (h0 : Nat) (L : List va_E) (H : Heap) : Prop := H.size = h0 + L.length ∧ ∀ (k : Nat) (e : va_E), L[k]? = some e → va_at D vwCl (h0 + k, e) H
theorem cB.apps {D : va_G} {h0 : Nat} {L M : List va_E} {H H1 : Heap} (h : cB D h0 L H) (z : H1.size = H.size + M.length) (o : ∀ q : Nat, q < H.size → H1[q]? = H[q]?) (he : ∀ (k : Nat) (e : va_E), M[k]? = some e → va_at D vwCl (H.size + k, e) H1) : cB D h0 (L ++ M) H1 := by
  obtain ⟨h1, h2⟩ := h
  refine ⟨by rw [z, h1, List.length_append]; omega, fun k x hx => ?_⟩
  by_cases hl : k < L.length
  · rw [List.getElem?_append_left hl] at hx
    exact (h2 k x hx).kept (o _ (by show h0 + k < H.size; omega))
  · rw [List.getElem?_append_right (by omega)] at hx
    have h3 := he _ x hx
    rw [show H.size + (k - L.length) = h0 + k by omega] at h3
    exact h3
theorem cB.app {D : va_G} {h0 : Nat} {L : List va_E} {H H1 : Heap} {x : va_E} (h : cB D h0 L H) (z : H1.size = H.size + 1) (o : ∀ q : Nat, q < H.size → H1[q]? = H[q]?) (he : va_at D vwCl (H.size, x) H1) : cB D h0 (L ++ [x]) H1 := by
  refine h.apps z o (fun k e hk => ?_)
  have hz : k < 1 := (List.getElem?_eq_some_iff.mp hk).1
  obtain rfl : k = 0 := by omega
  cases hk
  exact he
theorem cB.set {D : va_G} {h0 : Nat} {L : List va_E} {H H1 : Heap} {k : Nat} {e e' : va_E} (h : cB D h0 L H) (hk : L[k]? = some e) (z : H1.size = H.size) (o : ∀ q : Nat, q ≠ h0 + k → H1[q]? = H[q]?) (he : va_at D vwCl (h0 + k, e') H1) : cB D h0 (L.set k e') H1 := by
  refine ⟨by rw [z, h.1, List.length_set], fun j x hx => ?_⟩
  rw [List.getElem?_set] at hx
  by_cases hj : k = j
  · subst hj
    rw [if_pos rfl, if_pos (List.getElem?_eq_some_iff.mp hk).1] at hx
    cases hx
    exact he
  · rw [if_neg hj] at hx
    exact (h.2 j x hx).kept (o _ (by show h0 + j ≠ h0 + k; omega))
/-- a row of zeros -/
abbrev zE (dA : Nat → ClassId) (kd n : Nat) : va_E := arrE dA kd n (fun _ => 0)
theorem zE_i {D : va_G} {dA : Nat → ClassId} {kd n q : Nat} {H : Heap} (hk : kd ≠ 1) (h : H[q]? = some (arrV (dA kd) n (fun _ => .int 0))) : va_at D vwCl (q, zE dA kd n) H := by
  have e2 : (fun _ : Nat => Value.int 0) = fun _ : Nat => Value.int (Int32.ofInt 0) := by funext _; rw [ni_0]
  rw [e2] at h
  unfold zE
  rw [arrE_i hk]
  exact h
theorem zE_j {D : va_G} {dA : Nat → ClassId} {n q : Nat} {H : Heap} (h : H[q]? = some (arrV (dA 1) n (fun _ => .long 0))) : va_at D vwCl (q, zE dA 1 n) H := by
  have e2 : (fun _ : Nat => Value.long 0) = fun _ : Nat => Value.long (Int64.ofInt 0) := rfl
  rw [e2] at h
  exact h
/-- an array class over arrays -/
def vb_AO (t : FieldType) (U : State) : Prop := (Cond.arrayOver (.array t)).before #[] U = true
theorem vb_AO.of {t : FieldType} {A : Array Value} {U : State} (h : (Cond.arrayOver (.array t)).before A U = true) : vb_AO t U := h
theorem vb_AO.use {t : FieldType} {A : Array Value} {U : State} (h : vb_AO t U) : (Cond.arrayOver (.array t)).before A U = true := h
theorem vb_AO_spec {t : FieldType} {s : State} (h : vb_AO t s) : ∃ comp c k, s.vm.findClass (FieldType.array t).toString = some comp ∧ (s.vm.classes.findIdx? fun (x : Class) => match x.kind with | .array component _ => component == comp | _ => false) = some c ∧ s.vm.classes[c]? = some k ∧ k.kind = .array comp (.array t) ∧ s.vm.findClass ("[" ++ (FieldType.array t).toString) = some c := by
  unfold vb_AO Cond.before at h
  simp only [Cond.holds, Cond.value, beq_iff_eq] at h
  cases hc : s.vm.findClass (FieldType.array t).toString with
  | none => simp [hc] at h
  | some comp =>
    simp only [hc, Option.bind_some, Option.bind_eq_some_iff, Option.map_eq_some_iff] at h
    obtain ⟨c, hi, k, hk, hb⟩ := h
    obtain ⟨hlt, hp, -⟩ := Array.findIdx?_eq_some_iff_getElem.mp hi
    have hkk : s.vm.classes[c] = k := (Array.getElem?_eq_some_iff.mp hk).2
    rw [hkk] at hp
    cases hkind : k.kind with
    | array component ty =>
      rw [hkind] at hb hp
      simp at hb hp
      exact ⟨comp, c, k, rfl, hi, hk, by rw [hkind, hp, hb.1], hb.2⟩
    | _ => rw [hkind] at hb; simp at hb
theorem vb_AO.moved {t : FieldType} {u U : State} (hvm : u.vm.Alike U.vm) (h : vb_AO t u) : vb_AO t U := by
  obtain ⟨comp, c, k, h1, h2, h3, h4, h5⟩ := vb_AO_spec h
  obtain ⟨k', hk', he⟩ := hvm.2.2 _ _ h3
  have hi : (U.vm.classes.findIdx? fun (x : Class) => match x.kind with | .array component _ => component == comp | _ => false) = some c := by
    rw [← va_idx_bare]
    first | rw [hvm.bare_eq] | rw [← hvm.bare_eq]
    rw [va_idx_bare]
    exact h2
  have hkind : k'.kind = .array comp (.array t) := by rw [he]; exact h4
  have f1 : U.vm.findClass (FieldType.array t).toString = some comp := by rw [hvm.findClass]; exact h1
  have f2 : U.vm.findClass ("[" ++ (FieldType.array t).toString) = some c := by rw [hvm.findClass]; exact h5
  unfold vb_AO Cond.before Cond.holds
  simp only [Cond.value]
  rw [f1, Option.bind_some]
  refine (congrArg (fun o : Option Nat => (o.bind (fun c => (U.vm.classes[c]?).map fun (k : Class) => match k.kind with | .array _ ty => decide (ty = FieldType.array t) && decide (U.vm.findClass ("[" ++ (FieldType.array t).toString) = some c) | _ => false) == some true)) hi).trans ?_
  simp [hk', hkind, f2]
def bPre (D : va_G) (dA : Nat → ClassId) (a : Nat) (x : va_E) : State → Prop := fun U => cB D a [x] U.heap ∧ gK D dA U ∧ vb_AO .int U ∧ vb_AO .boolean U ∧ vb_AO .long U
section CBROWS
variable {p : Program} {l : Launch} {e : Env} {R : Room} {s : State} {m : MethodId} {args : Array Value} {below : List Frame} {meth : Method} {c : Code} {H : Heap} {locs : List Loc} {cells slots : Nat} {Q : State → Prop}
variable {cc : ByteArray} {pc : Nat} {ls : Array Slot} {rest : List Value} {D : va_G} {dA : Nat → ClassId} {A : Nat → Prop} {H0 : Heap} {h0 : Nat} {L : List va_E}
theorem va_S.grown {A : Nat → Prop} {H0 H H1 : Heap} {locs : List Loc} (hS : va_S A H0 H locs) (z : H.size ≤ H1.size) (o : ∀ q : Nat, q < H.size → H1[q]? = H[q]?) : va_S A H0 H1 locs := ⟨Nat.le_trans hS.1 z, fun x h1 h2 => (o x (Nat.lt_of_lt_of_le h1 hS.1)).trans (hS.2.1 x h1 h2), hS.2.2⟩
theorem b_newa (hexec : p.tables.exec = Jvm.exec) (hb : c.code = cc) {atype : ArrayType} {kd : Nat} (harr : (Cond.arrayClass (newarray.typeOf atype)).before args s = true) (hnm : s.vm.findClass ("[" ++ (newarray.typeOf atype).toString) = some (dA kd)) (hB : cB D h0 L H) (hS : va_S A H0 H locs) {v : Nat} (hv : v ≤ 100000) (hvb : v * componentBytes (newarray.typeOf atype) ≤ 536870912) (hz : ∀ H1 : Heap, H1[H.size]? = some (arrV (dA kd) v (fun _ => defaultValue (newarray.typeOf atype))) → va_at D vwCl (H.size, zE dA kd v) H1) (hcells : cells + 1 ≤ R.cells) (hslots : slots + v ≤ R.slots) (hdg : decode cc pc = .ok (.newarray atype, 2)) {M : Nat} (hM : h0 + L.length = M)
    (kk : ∀ H1 : Heap, cB D h0 (L ++ [zE dA kd v]) H1 → va_S A H0 H1 locs → W p l e R s m args below meth c H1 locs (cells + 1) (slots + v) Q (F0 m (pc + 2) ls (.ref M :: rest))) : W p l e R s m args below meth c H locs cells slots Q (F0 m pc ls (iV (v : Int) :: rest)) := by
  have hr : InR (v : Int) := by constructor <;> omega
  have hcl : (Int32.ofInt (v : Int)).toNatClampNeg = v := by rw [ni_N hr]; rfl
  refine va_newaK (atype := atype) (n := Int32.ofInt (v : Int)) (N := v) (h := H.size) hexec hb harr rfl hdg rfl (by rw [ni_0, ni_lt hr ni_r0]; omega) hcl hvb hcells hslots rfl fun H1 cA e1 z1 o1 hAr hNm => ?_
  have hcA : cA = dA kd := Option.some.inj (hNm.symm.trans hnm)
  subst hcA
  have hMs : H.size = M := by rw [hB.1, hM]
  have h9 := kk H1 (hB.app z1 o1 (hz H1 e1)) (hS.grown (by omega) o1)
  rw [← hMs] at h9
  exact h9
theorem b_newi (hexec : p.tables.exec = Jvm.exec) (hb : c.code = cc) (harr : (Cond.arrayClass .int).before args s = true) (hK : gK D dA s) (hB : cB D h0 L H) (hS : va_S A H0 H locs) {v : Nat} (hv : v ≤ 100000) (hcells : cells + 1 ≤ R.cells) (hslots : slots + v ≤ R.slots) (hdg : decode cc pc = .ok (.newarray .int, 2)) {M : Nat} (hM : h0 + L.length = M)
    (kk : ∀ H1 : Heap, cB D h0 (L ++ [zE dA 0 v]) H1 → va_S A H0 H1 locs → W p l e R s m args below meth c H1 locs (cells + 1) (slots + v) Q (F0 m (pc + 2) ls (.ref M :: rest))) : W p l e R s m args below meth c H locs cells slots Q (F0 m pc ls (iV (v : Int) :: rest)) :=
  b_newa (atype := .int) (kd := 0) hexec hb harr (hK.1.2 0 _ rfl).2 hB hS hv (by show v * 4 ≤ _; omega) (fun _ h => zE_i (by decide) h) hcells hslots hdg hM kk
theorem b_newz (hexec : p.tables.exec = Jvm.exec) (hb : c.code = cc) (harr : (Cond.arrayClass .boolean).before args s = true) (hK : gK D dA s) (hB : cB D h0 L H) (hS : va_S A H0 H locs) {v : Nat} (hv : v ≤ 100000) (hcells : cells + 1 ≤ R.cells) (hslots : slots + v ≤ R.slots) (hdg : decode cc pc = .ok (.newarray .boolean, 2)) {M : Nat} (hM : h0 + L.length = M)
    (kk : ∀ H1 : Heap, cB D h0 (L ++ [zE dA 2 v]) H1 → va_S A H0 H1 locs → W p l e R s m args below meth c H1 locs (cells + 1) (slots + v) Q (F0 m (pc + 2) ls (.ref M :: rest))) : W p l e R s m args below meth c H locs cells slots Q (F0 m pc ls (iV (v : Int) :: rest)) :=
  b_newa (atype := .boolean) (kd := 2) hexec hb harr (hK.1.2 2 _ rfl).2 hB hS hv (by show v * 1 ≤ _; omega) (fun _ h => zE_i (by decide) h) hcells hslots hdg hM kk
theorem b_newb (hexec : p.tables.exec = Jvm.exec) (hb : c.code = cc) (harr : (Cond.arrayClass .byte).before args s = true) (hK : gK D dA s) (hB : cB D h0 L H) (hS : va_S A H0 H locs) {v : Nat} (hv : v ≤ 100000) (hcells : cells + 1 ≤ R.cells) (hslots : slots + v ≤ R.slots) (hdg : decode cc pc = .ok (.newarray .byte, 2)) {M : Nat} (hM : h0 + L.length = M)
    (kk : ∀ H1 : Heap, cB D h0 (L ++ [zE dA 3 v]) H1 → va_S A H0 H1 locs → W p l e R s m args below meth c H1 locs (cells + 1) (slots + v) Q (F0 m (pc + 2) ls (.ref M :: rest))) : W p l e R s m args below meth c H locs cells slots Q (F0 m pc ls (iV (v : Int) :: rest)) :=
  b_newa (atype := .byte) (kd := 3) hexec hb harr (hK.1.2 3 _ rfl).2 hB hS hv (by show v * 1 ≤ _; omega) (fun _ h => zE_i (by decide) h) hcells hslots hdg hM kk
theorem b_newj (hexec : p.tables.exec = Jvm.exec) (hb : c.code = cc) (harr : (Cond.arrayClass .long).before args s = true) (hK : gK D dA s) (hB : cB D h0 L H) (hS : va_S A H0 H locs) {v : Nat} (hv : v ≤ 100000) (hcells : cells + 1 ≤ R.cells) (hslots : slots + v ≤ R.slots) (hdg : decode cc pc = .ok (.newarray .long, 2)) {M : Nat} (hM : h0 + L.length = M)
    (kk : ∀ H1 : Heap, cB D h0 (L ++ [zE dA 1 v]) H1 → va_S A H0 H1 locs → W p l e R s m args below meth c H1 locs (cells + 1) (slots + v) Q (F0 m (pc + 2) ls (.ref M :: rest))) : W p l e R s m args below meth c H locs cells slots Q (F0 m pc ls (iV (v : Int) :: rest)) :=
  b_newa (atype := .long) (kd := 1) hexec hb harr (hK.1.2 1 _ rfl).2 hB hS hv (by show v * 8 ≤ _; omega) (fun _ h => zE_j h) hcells hslots hdg hM kk
/-- an array of texts -/
theorem b_newt (hexec : p.tables.exec = Jvm.exec) (hb : c.code = cc) {own : String} {index : Nat} (hown : s.vm.findClass own = some m.cls) (hclink : (Cond.classLink own index "NineGraves$Text").before args s = true) (hK : gK D dA s) (hB : cB D h0 L H) (hS : va_S A H0 H locs) {v : Nat} (hv : v ≤ 100000) (hcells : cells + 1 ≤ R.cells) (hslots : slots + v ≤ R.slots) (hdg : decode cc pc = .ok (.anewarray index, 3)) {M : Nat} (hM : h0 + L.length = M)
    (kk : ∀ H1 : Heap, cB D h0 (L ++ [.inl (dA 7, v, .inr (.inr (.inr (.inr (fun _ => none)))))]) H1 → va_S A H0 H1 locs → W p l e R s m args below meth c H1 locs (cells + 1) (slots + v) Q (F0 m (pc + 3) ls (.ref M :: rest))) : W p l e R s m args below meth c H locs cells slots Q (F0 m pc ls (iV (v : Int) :: rest)) := by
  have hr : InR (v : Int) := by constructor <;> omega
  have hcl : (Int32.ofInt (v : Int)).toNatClampNeg = v := by rw [ni_N hr]; rfl
  have hAO : va_AO "NineGraves$Text" s := hK.2.2.2.2.2 "NineGraves$Text" (by simp [gAO])
  refine W.anew hexec hb hown hclink (va_AO.use hAO) rfl hdg rfl (by rw [ni_0, ni_lt hr ni_r0]; omega) (by rw [hcl]; omega) hcells (by rw [hcl]; omega) fun cA kA comp f1 f2 f3 f4 => ?_
  rw [hcl]
  generalize hH1 : H.push ({ cls := cA, slots := Array.replicate v .null, vm := .none } : Cell) = H1
  have z1 : H1.size = H.size + 1 := by rw [← hH1, Array.size_push]
  have e1 : H1[H.size]? = some (arrV cA v (fun _ => .null)) := by rw [← hH1, Array.getElem?_push_size, ← arrV_new]
  have o1 : ∀ q : Nat, q < H.size → H1[q]? = H[q]? := fun q hq => by rw [← hH1, Array.getElem?_push, if_neg (Nat.ne_of_lt hq)]
  have hcA : cA = dA 7 := by
    obtain ⟨-, -, -, -, -, h4⟩ := (hK.1.2 7 _ rfl).2
    exact Option.some.inj (f1.symm.trans h4)
  subst hcA
  have hMs : H.size = M := by rw [hB.1, hM]
  have h9 := kk H1 (hB.app z1 o1 (by show H1[H.size]? = some (vp_cell _ _); rw [vp_cell_q]; exact e1)) (hS.grown (by omega) o1)
  rw [← hMs] at h9
  exact h9
/-- an array of n rows of k -/
theorem b_mnew (hexec : p.tables.exec = Jvm.exec) (hb : c.code = cc) {own : String} {index : Nat} {ty : FieldType} (hown : s.vm.findClass own = some m.cls) (hclink : (Cond.classLink own index ("[" ++ (FieldType.array ty).toString)).before args s = true) (hover : (Cond.arrayOver (.array ty)).before args s = true) (harr : (Cond.arrayClass ty).before args s = true) {cp kd n k : Nat}
    (hO : s.vm.findClass ("[" ++ (FieldType.array ty).toString) = some (dA cp)) (hI : s.vm.findClass (FieldType.array ty).toString = some (dA kd)) (hz : ∀ (q : Nat) (H1 : Heap), H1[q]? = some (arrV (dA kd) k (fun _ => defaultValue ty)) → va_at D vwCl (q, zE dA kd k) H1) (hdf : fits ty (defaultValue ty) = true) (hdd : (defaultValue ty).isDefault = true) (hn : n ≤ 1000) (hk : k ≤ 100000) (hkb : k * componentBytes ty ≤ 536870912)
    (hB : cB D h0 L H) (hS : va_S A H0 H locs) (hcells : cells + (1 + n) ≤ R.cells) (hslots : slots + (n + n * k) ≤ R.slots) (hdg : decode cc pc = .ok (.multianewarray index 2, 4)) {M : Nat} (hM : h0 + L.length = M)
    (kk : ∀ H1 : Heap, cB D h0 (L ++ .inl (dA cp, n, .inr (.inr (.inr (.inr (fun i => some (M + 1 + i)))))) :: List.replicate n (zE dA kd k)) H1 → va_S A H0 H1 locs → W p l e R s m args below meth c H1 locs (cells + 1 + n) (slots + n + n * k) Q (F0 m (pc + 4) ls (.ref M :: rest))) : W p l e R s m args below meth c H locs cells slots Q (F0 m pc ls (iV (k : Int) :: iV (n : Int) :: rest)) := by
  intro T hT X
  have hrn : InR (n : Int) := by constructor <;> omega
  have hrk : InR (k : Int) := by constructor <;> omega
  have hcn : (Int32.ofInt (n : Int)).toNatClampNeg = n := by rw [ni_N hrn]; rfl
  have hck : (Int32.ofInt (k : Int)).toNatClampNeg = k := by rw [ni_N hrk]; rfl
  obtain ⟨vm1, cA, comp, hW1, hfA, hfC, -, -, X1, step⟩ := X.multianewarray2F hexec hown hclink hover harr (g := F0 m pc ls (iV (k : Int) :: iV (n : Int) :: rest)) rfl (by rw [hb]; exact hdg) (n := Int32.ofInt (n : Int)) (k := Int32.ofInt (k : Int)) (rest := rest) rfl (by rw [ni_0, ni_lt hrn ni_r0]; omega) (by rw [ni_0, ni_lt hrk ni_r0]; omega) (by rw [hcn]; omega) (by rw [hck]; exact hkb) (by rw [hck]; omega) hdf hdd (by rw [hcn]; exact hcells) (by rw [hcn, hck]; exact hslots)
  rw [hcn, hck] at X1
  rw [hcn, hck] at step
  have hcA : cA = dA cp := Option.some.inj (hfA.symm.trans hO)
  have hcC : comp = dA kd := Option.some.inj (hfC.symm.trans hI)
  subst hcA hcC
  have hTs : (T.setVm vm1).heap = H := hT
  obtain ⟨f1, f2, -, -⟩ := Jvm.Free.Multi.fill_facts (T.setVm vm1) (dA cp) (dA kd) n k (defaultValue ty) n
  have f3 := fun (a : Addr) (ha : a < (T.setVm vm1).heap.size) => Jvm.Free.Multi.fill_old (T.setVm vm1) (dA cp) (dA kd) n k (defaultValue ty) ha n
  have f4 := Jvm.Free.Multi.fill_inner (T.setVm vm1) (dA cp) (dA kd) n k (defaultValue ty) n
  rw [hTs] at f1 f2 f3 f4
  have hMs : H.size = M := by rw [hB.1, hM]
  rw [outer_arrV] at f2
  have hT1 : T.heap.size = M := by rw [hT, hMs]
  rw [hT1] at step
  obtain ⟨H1, eH⟩ : ∃ H1, H1 = (Jvm.Free.Multi.fill (T.setVm vm1) (dA cp) (dA kd) n k (defaultValue ty) n).heap := ⟨_, rfl⟩
  rw [← eH] at f1 f2 f3 f4
  have hB1 : cB D h0 (L ++ .inl (dA cp, n, .inr (.inr (.inr (.inr (fun i => some (M + 1 + i)))))) :: List.replicate n (zE dA kd k)) H1 := by
    refine hB.apps (by rw [f1, List.length_cons, List.length_replicate]; omega) (fun q hq => f3 q hq) (fun j x hx => ?_)
    cases j with
    | zero =>
      cases hx
      show H1[H.size + 0]? = some (vp_cell _ _)
      rw [vp_cell_q, Nat.add_zero, f2, ← hMs]
      rfl
    | succ j =>
      rw [List.getElem?_cons_succ, List.getElem?_replicate] at hx
      by_cases hj : j < n
      · rw [if_pos hj] at hx
        cases hx
        rw [show H.size + (j + 1) = H.size + 1 + j by omega]
        refine hz _ _ ?_
        rw [f4 j hj]
        congr 1
        exact arrV_new (dA kd) k (defaultValue ty)
      · rw [if_neg hj] at hx
        cases hx
  obtain ⟨t, t1, t2⟩ := kk H1 hB1 (hS.grown (by rw [f1]; omega) (fun q hq => f3 q hq)) _ eH.symm X1
  exact ⟨t, step t t1, t2⟩
/-- an object of the block -/
theorem b_new (hexec : p.tables.exec = Jvm.exec) (hb : c.code = cc) {own C : String} {T : u_T} {n ci index : Nat} (ty0 : Nat → FieldType) (hty : ∀ k, k < n → parseFieldDescriptor (T k).2.2.1 = some (ty0 k)) (hts : ∀ w ∈ lw_all, w.before args s = true) (hown : s.vm.findClass own = some m.cls) (hK : gK D dA s) (hB : cB D h0 L H) (hS : va_S A H0 H locs) (hc : vwCl[ci]? = some (C, T, n)) (hin : ∀ x ∈ u_ws C T n, x ∈ lw_all) (hcl : (Cond.classLink own index C).before args s = true) (hinst : (Cond.instantiable C n).before args s = true) (hini : (Cond.initialized C).before args s = true) (fs : List Value) (hfs : ∀ j, j < n → defaultValue (ty0 j) = vp_V fs j) (hcells : cells + 1 ≤ R.cells) (hslots : slots + n ≤ R.slots) (hdg : decode cc pc = .ok (.new index, 3)) {M : Nat} (hM : h0 + L.length = M)
    (kk : ∀ H1 : Heap, cB D h0 (L ++ [.inr (ci, fs)]) H1 → va_S A H0 H1 locs → W p l e R s m args below meth c H1 locs (cells + 1) (slots + n) Q (F0 m (pc + 3) ls (.ref M :: rest))) : W p l e R s m args below meth c H locs cells slots Q (F0 m pc ls rest) := by
  have hKn := hK.1.1 ci _ hc
  refine W.newcK hexec hb hown hcl hinst hini rfl hdg hcells hslots hKn.2.1 rfl fun H1 kC hkC e1 z1 o1 => ?_
  have hMs : H.size = M := by rw [hB.1, hM]
  have h9 := kk H1 (hB.app z1 o1 ⟨_, hc, (u_born ty0 hts hin hKn hkC e1 hty).to hfs⟩) (hS.grown (by omega) o1)
  rw [← hMs] at h9
  exact h9
theorem b_get (hexec : p.tables.exec = Jvm.exec) (hb : c.code = cc) {own ref C : String} {T : u_T} {n ci index a : Nat} (hts : ∀ w ∈ lw_all, w.before args s = true) (hown : s.vm.findClass own = some m.cls) (hK : gK D dA s) (hB : cB D h0 L H) (k : Nat) (ha : h0 + k = a) {fs : List Value} (hk : L[k]? = some (.inr (ci, fs))) (hc : vwCl[ci]? = some (C, T, n)) (hin : ∀ x ∈ u_ws C T n, x ∈ lw_all) (i : Nat) (hi : i < n) (hlink : Cond.fieldLink own index ref (T i).2.1 (T i).2.2.1 ∈ lw_all) (href : ref = (T i).1) {v : Value} (hv : fs[i]? = some v) (hdg : decode cc pc = .ok (.getfield index, 3))
    (kk : W p l e R s m args below meth c H locs cells slots Q (F0 m (pc + 3) ls (v :: rest))) : W p l e R s m args below meth c H locs cells slots Q (F0 m pc ls (.ref a :: rest)) := by
  subst href ha
  exact va_get hexec hb hts hin hown hK.1 (va_P1 (hB.2 k _ hk)) 0 rfl hc i hi (hts _ hlink) (fun x hx => hx) hv hdg kk
theorem b_put (hexec : p.tables.exec = Jvm.exec) (hb : c.code = cc) {own ref C : String} {T : u_T} {n ci index a : Nat} (ty0 : Nat → FieldType) (hty : ∀ k, k < n → parseFieldDescriptor (T k).2.2.1 = some (ty0 k)) (hnm : ∀ a, a < n → ∀ b, b < n → a ≠ b → (T a).2.1 ≠ (T b).2.1) (hts : ∀ w ∈ lw_all, w.before args s = true) (hown : s.vm.findClass own = some m.cls) (hK : gK D dA s) (hB : cB D h0 L H) (hS : va_S A H0 H locs) (hA : ∀ q, h0 ≤ q → A q) (k : Nat) (ha : h0 + k = a) {fs : List Value} (hk : L[k]? = some (.inr (ci, fs))) (hc : vwCl[ci]? = some (C, T, n)) (hin : ∀ x ∈ u_ws C T n, x ∈ lw_all) (i : Nat) (hi : i < n) (hlen : i < fs.length) (hlink : Cond.fieldLink own index ref (T i).2.1 (T i).2.2.1 ∈ lw_all) (href : ref = (T i).1) {v : Value} (hfin : (T i).2.2.2 = false) (hn : narrow (ty0 i) v = v) (hfit : fits (ty0 i) v = true) (hdg : decode cc pc = .ok (.putfield index, 3))
    (kk : ∀ (H1 : Heap) (locs1 : List Loc), cB D h0 (L.set k (.inr (ci, fs.set i v))) H1 → va_S A H0 H1 locs1 → W p l e R s m args below meth c H1 locs1 cells slots Q (F0 m (pc + 3) ls rest)) : W p l e R s m args below meth c H locs cells slots Q (F0 m pc ls (v :: .ref a :: rest)) := by
  subst href ha
  obtain ⟨r, h1, cell, q1, q2, q3, q4⟩ := hB.2 k _ hk
  have hr : r = (C, T, n) := Option.some.inj (h1.symm.trans hc)
  subst hr
  have hap := va_apart (own := own) hts hin ty0 hty hnm hK.1 hc
  obtain ⟨hS1, hfc, kC, hkC, hkind⟩ := hK.1.1 ci _ hc
  obtain ⟨cf, kf, fi, f, hi2, hsl⟩ := hS1 i hi
  have hlay := hts _ (hin _ (u_in_lay hi))
  unfold u_lay at hlay
  rw [if_neg (by rw [hfin]; decide)] at hlay
  have hst := (u_facts hfc hkC (u_lays hts hin hi) hi2).1
  have h6 := u_store hfc hkC hkind hlay hi2 (hty i hi) hn hfit
  refine W.putK hexec hb (f := f) ⟨hown, hts _ hlink, ⟨_, _, _, hi2⟩, hst⟩ (by rw [q2]; exact h6) q1 q3 (by rw [hsl]; exact k2_hasslot (q4 i hi)) rfl rfl hdg fun H' e1 e2 e3 => ?_
  rw [hsl] at e1 ⊢
  exact kk H' _ (hB.set hk e2 e3 ⟨_, hc, t_OB.to (V := updV (vp_V fs) i v) ⟨_, e1, q2, q3, t_set q4 hap hi v⟩ (fun j _ => vp_updV_set hlen v j)⟩) (hS.put e2 e3 (hA _ (Nat.le_add_right _ _)))
theorem b_putF (hexec : p.tables.exec = Jvm.exec) (hb : c.code = cc) {own ref C : String} {T : u_T} {n ci index a : Nat} (ty0 : Nat → FieldType) (hty : ∀ k, k < n → parseFieldDescriptor (T k).2.2.1 = some (ty0 k)) (hnm : ∀ a, a < n → ∀ b, b < n → a ≠ b → (T a).2.1 ≠ (T b).2.1) (hts : ∀ w ∈ lw_all, w.before args s = true) (hown : s.vm.findClass own = some m.cls) (hK : gK D dA s) (hB : cB D h0 L H) (hS : va_S A H0 H locs) (hA : ∀ q, h0 ≤ q → A q) (k : Nat) (ha : h0 + k = a) {fs : List Value} (hk : L[k]? = some (.inr (ci, fs))) (hc : vwCl[ci]? = some (C, T, n)) (hin : ∀ x ∈ u_ws C T n, x ∈ lw_all) (i : Nat) (hi : i < n) (hlen : i < fs.length) (hlink : Cond.fieldLink own index ref (T i).2.1 (T i).2.2.1 ∈ lw_all) (href : ref = (T i).1) {v : Value} (hfin : (T i).2.2.2 = true) (hin2 : meth.name = "<init>") (hdecl : (T i).1 = own) (hn : narrow (ty0 i) v = v) (hfit : fits (ty0 i) v = true) (hdg : decode cc pc = .ok (.putfield index, 3))
    (kk : ∀ (H1 : Heap) (locs1 : List Loc), cB D h0 (L.set k (.inr (ci, fs.set i v))) H1 → va_S A H0 H1 locs1 → W p l e R s m args below meth c H1 locs1 cells slots Q (F0 m (pc + 3) ls rest)) : W p l e R s m args below meth c H locs cells slots Q (F0 m pc ls (v :: .ref a :: rest)) := by
  subst href ha
  obtain ⟨r, h1, cell, q1, q2, q3, q4⟩ := hB.2 k _ hk
  have hr : r = (C, T, n) := Option.some.inj (h1.symm.trans hc)
  subst hr
  have hap := va_apart (own := own) hts hin ty0 hty hnm hK.1 hc
  obtain ⟨hS1, hfc, kC, hkC, hkind⟩ := hK.1.1 ci _ hc
  obtain ⟨cf, kf, fi, f, hi2, hsl⟩ := hS1 i hi
  have hlay := hts _ (hin _ (u_in_lay hi))
  unfold u_lay at hlay
  rw [if_pos hfin] at hlay
  have hst := (u_facts hfc hkC (u_lays hts hin hi) hi2).1
  have hcf : m.cls = cf := by
    obtain ⟨_, _, c', _, _, _, -, -, hf', -, -, -, hown2, -⟩ := Cond.laysFinal_spec hlay
    have e1 : c' = cf := by have := hi2.symm.trans hf'; simp at this; exact this.1.symm
    rw [hdecl] at hown2
    rw [← e1]; exact Option.some.inj (hown.symm.trans hown2)
  have h6 := u_fits hfc hkC hkind (Or.inr hlay) hi2 (hty i hi) hn hfit
  refine W.putFinK hexec hb hown (hts _ hlink) hi2 hst hcf hin2 (by rw [q2]; exact h6) q1 q3 (by rw [hsl]; exact k2_hasslot (q4 i hi)) rfl rfl hdg fun H' e1 e2 e3 => ?_
  rw [hsl] at e1 ⊢
  exact kk H' _ (hB.set hk e2 e3 ⟨_, hc, t_OB.to (V := updV (vp_V fs) i v) ⟨_, e1, q2, q3, t_set q4 hap hi v⟩ (fun j _ => vp_updV_set hlen v j)⟩) (hS.put e2 e3 (hA _ (Nat.le_add_right _ _)))
theorem b_iast (hexec : p.tables.exec = Jvm.exec) (hb : c.code = cc) (hK : gK D dA s) (hB : cB D h0 L H) (hS : va_S A H0 H locs) (hA : ∀ q, h0 ≤ q → A q) (k : Nat) {a n : Nat} (ha : h0 + k = a) {f : Int → Int} (hk : L[k]? = some (arrE dA 0 n f)) {i v : Int} (hr : InR i) (hin : 0 ≤ i ∧ i < (n : Int)) (hdg : decode cc pc = .ok (.iastore, 1))
    (kk : ∀ (H1 : Heap) (locs1 : List Loc), cB D h0 (L.set k (arrE dA 0 n (fun y => if y = i then v else f y))) H1 → va_S A H0 H1 locs1 → W p l e R s m args below meth c H1 locs1 cells slots Q (F0 m (pc + 1) ls rest)) : W p l e R s m args below meth c H locs cells slots Q (F0 m pc ls (iV v :: iV i :: .ref a :: rest)) := by
  subst ha
  have h := hB.2 k _ hk
  rw [arrE_i (by decide)] at h
  refine W.iast hexec hb h ((hK.1.2 0 _ rfl).1 n (fun j : Nat => .int (Int32.ofInt (f j)))) (fun q => by cases q) (by show ¬ (Int32.ofInt i < 0 ∨ (arrV _ _ _).slots.size ≤ _); rw [arrV_size]; exact ni_in hr hin) rfl rfl hdg fun H1 e z oq => ?_
  refine kk H1 _ (hB.set hk z oq ?_) (hS.put z oq (hA _ (Nat.le_add_right _ _)))
  rw [arrE_i (by decide)]
  show H1[h0 + k]? = some (vp_cell _ _)
  rw [e, vp_cell_i, vp_cell_i, arrV_store, ni_N hr, arr_set_i hin.1 (g := fun y => if y = i then v else f y) (fun y => rfl)]
end CBROWS
