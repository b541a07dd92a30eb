set_option maxRecDepth 100000
set_option maxHeartbeats 4000000 in
theorem t_J2_isEmpty (l : Launch) (D : va_G) (dA : Nat → ClassId) (ad : Nat → Nat) (S : St) (sz : Nat) (x0 : Nat) (K : Int → Prop) (h : w_J2_isEmpty x0 S K) : Met l yJ2_isEmpty (ws_ yJ2_isEmpty cJ2_isEmpty 1 (Option.some Jvm.ClassFile.FieldType.boolean)) (rmD 0 0 0) (va_Pc [.ref x0] (sPre D dA wX ad S sz)) (va_Qi (fun r S' => (r.toInt = 0 ∨ r.toInt = 1) ∧ (S' = S ∧ K r.toInt)) (sPost D dA wX ad (wA wX ad S sz)) (wA wX ad S sz)) 0 0 (wA wX ad S sz) := by
  refine Met.ofW (cc := cJ2_isEmpty) (maxL := 1) (ret := (Option.some Jvm.ClassFile.FieldType.boolean)) (by decide) rfl ?_
  intro p e s m args below meth c s₁ B hml hv
  obtain ⟨rfl, hsz, hK, hC⟩ := hv
  have hx := B.exec
  have hb := B.bytes
  have hr := B.returns
  have hlocks := B.notSynchronized
  have hts := atoms_spec (ws := (ws_ yJ2_isEmpty cJ2_isEmpty 1 (Option.some Jvm.ClassFile.FieldType.boolean))) B.pre
  have hts : ∀ w ∈ lw_all, w.before _ s = true := fun w h => hts w (List.mem_cons_of_mem _ h)
  have hown : s.vm.findClass RJ2 = some m.cls := findClass_of_methodNamed B.named
  clear B
  subst hsz
  have hI : sI D dA wX ad (wA wX ad S s.heap.size) s.heap S s.heap [] := hC.start
  clear hC
  generalize wA wX ad S s.heap.size = A at hI ⊢
  have hl := lv_entry ([.ref x0] : List Value) (n := 1) (Nat.le_of_ble_eq_true rfl)
  rw [lg_entry_eq]
  generalize (lg_sl ([.ref x0] : List Value) ++ List.replicate (1 - (lg_sl ([.ref x0] : List Value)).length) Slot.unset).toArray = ls at hl ⊢
  have hl : lv_has ls 1 [(0, .ref x0)] := hl
  have hF : CallFix p m c cJ2_isEmpty 1 s _ lw_all RJ2 := ⟨hx, hb, hml, hown, hts⟩
  have hR : (headSpec (ws_ yJ2_isEmpty cJ2_isEmpty 1 (Option.some Jvm.ClassFile.FieldType.boolean)) (rmD 0 0 0)).room.frames = 0 + 1 ∧ (headSpec (ws_ yJ2_isEmpty cJ2_isEmpty 1 (Option.some Jvm.ClassFile.FieldType.boolean)) (rmD 0 0 0)).room.locals = 64 * 0 + 64 := ⟨rfl, rfl⟩
  generalize (headSpec (ws_ yJ2_isEmpty cJ2_isEmpty 1 (Option.some Jvm.ClassFile.FieldType.boolean)) (rmD 0 0 0)).room = R at hR ⊢
  generalize ([.ref x0] : List Value).toArray = args at hts hF ⊢
  generalize hQ : MQ below _ _ _ _ _ _ = Q
  unfold w_J2_isEmpty at h
  refine lv_aload_n hx hb dJ2_isEmpty_0 rfl (lv_at hl 0 rfl) ?_
  obtain ⟨fs1, v4, hg2, hv3, h⟩ := h
  refine gPJ2_48 hF hK hI hg2 hv3 dJ2_isEmpty_1 (fun f5 => ?_)
  replace h := h f5
  refine nr_if_ne hx hb f5 dJ2_isEmpty_4 (tgt := 11) (by decide) (fun c6 => ?_) (fun c6 => ?_)
  · replace h := h.1 c6
    refine nr_iconst hx hb dJ2_isEmpty_11 ?_
    rw [← hQ]; exact s_zret (K := fun r S' => S' = S ∧ K r) hx hb hr hlocks hI (by decide) ⟨rfl, h⟩ dJ2_isEmpty_12
  · replace h := h.2 c6
    refine nr_iconst hx hb dJ2_isEmpty_7 ?_
    refine lv_goto (tgt := 12) hx hb dJ2_isEmpty_8 (by decide) ?_
    rw [← hQ]; exact s_zret (K := fun r S' => S' = S ∧ K r) hx hb hr hlocks hI (by decide) ⟨rfl, h⟩ dJ2_isEmpty_12
set_option maxHeartbeats 4000000 in
theorem t_J13_newLength (l : Launch) (x0 : Int) (x1 : Int) (x2 : Int) (K : Int → Prop) (rx0 : InR x0) (rx1 : InR x1) (rx2 : InR x2) (h : w_J13_newLength x0 x1 x2 K) : Met l yJ13_newLength (ws_ yJ13_newLength cJ13_newLength 4 (Option.some Jvm.ClassFile.FieldType.int)) (rmD 1 0 0) (va_Pc [iV x0, iV x1, iV x2] (fun _ => True)) (va_Qi (fun r (_ : Unit) => K r.toInt) (fun _ _ => True) (fun _ => False)) 0 0 (fun _ => False) := by
  refine Met.ofW (cc := cJ13_newLength) (maxL := 4) (ret := (Option.some Jvm.ClassFile.FieldType.int)) (by decide) rfl ?_
  intro p e s m args below meth c s₁ B hml hv
  obtain ⟨rfl, -⟩ := hv
  have hx := B.exec
  have hb := B.bytes
  have hr := B.returns
  have hlocks := B.notSynchronized
  have hts := atoms_spec (ws := (ws_ yJ13_newLength cJ13_newLength 4 (Option.some Jvm.ClassFile.FieldType.int))) B.pre
  have hts : ∀ w ∈ lw_all, w.before _ s = true := fun w h => hts w (List.mem_cons_of_mem _ h)
  have hown : s.vm.findClass RJ13 = some m.cls := findClass_of_methodNamed B.named
  clear B
  have hI : va_S (fun _ => False) s.heap s.heap [] := va_S.rf
  have hl := lv_entry ([iV x0, iV x1, iV x2] : List Value) (n := 4) (Nat.le_of_ble_eq_true rfl)
  rw [lg_entry_eq]
  generalize (lg_sl ([iV x0, iV x1, iV x2] : List Value) ++ List.replicate (4 - (lg_sl ([iV x0, iV x1, iV x2] : List Value)).length) Slot.unset).toArray = ls at hl ⊢
  have hl : lv_has ls 4 [(0, iV x0), (1, iV x1), (2, iV x2)] := hl
  have hF : CallFix p m c cJ13_newLength 4 s _ lw_all RJ13 := ⟨hx, hb, hml, hown, hts⟩
  have hR : (headSpec (ws_ yJ13_newLength cJ13_newLength 4 (Option.some Jvm.ClassFile.FieldType.int)) (rmD 1 0 0)).room.frames = 1 + 1 ∧ (headSpec (ws_ yJ13_newLength cJ13_newLength 4 (Option.some Jvm.ClassFile.FieldType.int)) (rmD 1 0 0)).room.locals = 64 * 1 + 64 := ⟨rfl, rfl⟩
  generalize (headSpec (ws_ yJ13_newLength cJ13_newLength 4 (Option.some Jvm.ClassFile.FieldType.int)) (rmD 1 0 0)).room = R at hR ⊢
  generalize ([iV x0, iV x1, iV x2] : List Value).toArray = args at hts hF ⊢
  generalize hQ : MQ below _ _ _ _ _ _ = Q
  unfold w_J13_newLength at h
  refine lv_iload_n hx hb dJ13_newLength_0 rfl (lv_at hl 0 rfl) ?_
  refine lv_iload_n hx hb dJ13_newLength_1 rfl (lv_at hl 1 rfl) ?_
  refine lv_iload_n hx hb dJ13_newLength_2 rfl (lv_at hl 2 rfl) ?_
  refine s_max hx hb (hl.1.trans hml.symm) hown hts q676 q677 q119 q678 (by have h1 := hR.1; have h2 := hR.2; omega) ⟨Nat.zero_le _, Nat.zero_le _⟩ (Nat.le_of_ble_eq_true rfl) rx1 rx2 dJ13_newLength_3 ?_
  have f1 : InR (max x1 x2) := nr_mxR rx1 rx2
  have f2 := h.1; replace h := h.2
  refine nr_iadd hx hb dJ13_newLength_6 ?_
  refine nr_topi (fun v3 ev3 => ?_)
  have rv3 : InR v3 := by rw [ev3]; exact f2
  replace h := h v3 ev3 rv3
  refine lv_istore_n (lv' := [(3, iV v3), (0, iV x0), (1, iV x1), (2, iV x2)]) hx hb dJ13_newLength_7 rfl hl (by decide) rfl (fun ls hl => ?_)
  refine nr_iconst hx hb dJ13_newLength_8 ?_
  refine lv_iload_n hx hb dJ13_newLength_9 rfl (lv_at hl 0 rfl) ?_
  refine nr_icmp_ge hx hb (by decide) rv3 dJ13_newLength_10 (tgt := 21) (by decide) (fun c4 => ?_) (fun c4 => ?_)
  · replace h := h.1 c4
    exact h.elim
  · replace h := h.2 c4
    refine lv_iload_n hx hb dJ13_newLength_13 rfl (lv_at hl 0 rfl) ?_
    refine nr_ldc (v := 2147483639) hx hb hown (by decide) (hts _ q679) dJ13_newLength_14 ?_
    refine nr_icmp_gt hx hb rv3 (by decide) dJ13_newLength_16 (tgt := 21) (by decide) (fun c5 => ?_) (fun c5 => ?_)
    · replace h := h.1 c5
      exact h.elim
    · replace h := h.2 c5
      refine lv_iload_n hx hb dJ13_newLength_19 rfl (lv_at hl 0 rfl) ?_
      rw [← hQ]; exact p_iret (K := K) hx hb hr hlocks hI rv3 h dJ13_newLength_20
set_option maxHeartbeats 4000000 in
theorem t_X3_isLetter (l : Launch) (x0 : Int) (K : Int → Prop) (rx0 : InR x0) (h : w_X3_isLetter x0 K) : Met l yX3_isLetter (ws_ yX3_isLetter cX3_isLetter 1 (Option.some Jvm.ClassFile.FieldType.boolean)) (rmD 0 0 0) (va_Pc [iV x0] (fun _ => True)) (va_Qi (fun r (_ : Unit) => (r.toInt = 0 ∨ r.toInt = 1) ∧ K r.toInt) (fun _ _ => True) (fun _ => False)) 0 0 (fun _ => False) := by
  refine Met.ofW (cc := cX3_isLetter) (maxL := 1) (ret := (Option.some Jvm.ClassFile.FieldType.boolean)) (by decide) rfl ?_
  intro p e s m args below meth c s₁ B hml hv
  obtain ⟨rfl, -⟩ := hv
  have hx := B.exec
  have hb := B.bytes
  have hr := B.returns
  have hlocks := B.notSynchronized
  have hts := atoms_spec (ws := (ws_ yX3_isLetter cX3_isLetter 1 (Option.some Jvm.ClassFile.FieldType.boolean))) B.pre
  have hts : ∀ w ∈ lw_all, w.before _ s = true := fun w h => hts w (List.mem_cons_of_mem _ h)
  have hown : s.vm.findClass RX3 = some m.cls := findClass_of_methodNamed B.named
  clear B
  have hI : va_S (fun _ => False) s.heap s.heap [] := va_S.rf
  have hl := lv_entry ([iV x0] : List Value) (n := 1) (Nat.le_of_ble_eq_true rfl)
  rw [lg_entry_eq]
  generalize (lg_sl ([iV x0] : List Value) ++ List.replicate (1 - (lg_sl ([iV x0] : List Value)).length) Slot.unset).toArray = ls at hl ⊢
  have hl : lv_has ls 1 [(0, iV x0)] := hl
  have hF : CallFix p m c cX3_isLetter 1 s _ lw_all RX3 := ⟨hx, hb, hml, hown, hts⟩
  have hR : (headSpec (ws_ yX3_isLetter cX3_isLetter 1 (Option.some Jvm.ClassFile.FieldType.boolean)) (rmD 0 0 0)).room.frames = 0 + 1 ∧ (headSpec (ws_ yX3_isLetter cX3_isLetter 1 (Option.some Jvm.ClassFile.FieldType.boolean)) (rmD 0 0 0)).room.locals = 64 * 0 + 64 := ⟨rfl, rfl⟩
  generalize (headSpec (ws_ yX3_isLetter cX3_isLetter 1 (Option.some Jvm.ClassFile.FieldType.boolean)) (rmD 0 0 0)).room = R at hR ⊢
  generalize ([iV x0] : List Value).toArray = args at hts hF ⊢
  generalize hQ : MQ below _ _ _ _ _ _ = Q
  have J12 : ∀ (x0 : Int) (H : Heap) (locs : List Loc) (ls : Array Slot), InR x0 → va_S (fun _ => False) s.heap H locs → lv_has ls 1 [(0, iV x0)] → j_X3_isLetter_12 x0 K → W p l e R s m args below meth c H locs 0 0 Q (F0 m 12 ls []) := by
    intro x0 H locs ls rx0 hI hl h
    unfold j_X3_isLetter_12 at h
    refine lv_iload_n hx hb dX3_isLetter_12 rfl (lv_at hl 0 rfl) ?_
    refine nr_bipush hx hb dX3_isLetter_13 (by decide) ?_
    refine nr_icmp_lt hx hb rx0 (by decide) dX3_isLetter_15 (tgt := 28) (by decide) (fun c1 => ?_) (fun c1 => ?_)
    · replace h := h.1 c1
      refine nr_iconst hx hb dX3_isLetter_28 ?_
      rw [← hQ]; exact p_zret (K := K) hx hb hr hlocks hI (by decide) h dX3_isLetter_29
    · replace h := h.2 c1
      refine lv_iload_n hx hb dX3_isLetter_18 rfl (lv_at hl 0 rfl) ?_
      refine nr_bipush hx hb dX3_isLetter_19 (by decide) ?_
      refine nr_icmp_gt hx hb rx0 (by decide) dX3_isLetter_21 (tgt := 28) (by decide) (fun c2 => ?_) (fun c2 => ?_)
      · replace h := h.1 c2
        refine nr_iconst hx hb dX3_isLetter_28 ?_
        rw [← hQ]; exact p_zret (K := K) hx hb hr hlocks hI (by decide) h dX3_isLetter_29
      · replace h := h.2 c2
        refine nr_iconst hx hb dX3_isLetter_24 ?_
        refine lv_goto (tgt := 29) hx hb dX3_isLetter_25 (by decide) ?_
        rw [← hQ]; exact p_zret (K := K) hx hb hr hlocks hI (by decide) h dX3_isLetter_29
  unfold w_X3_isLetter at h
  refine lv_iload_n hx hb dX3_isLetter_0 rfl (lv_at hl 0 rfl) ?_
  refine nr_bipush hx hb dX3_isLetter_1 (by decide) ?_
  refine nr_icmp_lt hx hb rx0 (by decide) dX3_isLetter_3 (tgt := 12) (by decide) (fun c3 => ?_) (fun c3 => ?_)
  · replace h := h.1 c3
    exact J12 x0 _ _ _ rx0 hI (lv_sub hl [0] rfl) h
  · replace h := h.2 c3
    refine lv_iload_n hx hb dX3_isLetter_6 rfl (lv_at hl 0 rfl) ?_
    refine nr_bipush hx hb dX3_isLetter_7 (by decide) ?_
    refine nr_icmp_le hx hb rx0 (by decide) dX3_isLetter_9 (tgt := 24) (by decide) (fun c4 => ?_) (fun c4 => ?_)
    · replace h := h.1 c4
      refine nr_iconst hx hb dX3_isLetter_24 ?_
      refine lv_goto (tgt := 29) hx hb dX3_isLetter_25 (by decide) ?_
      rw [← hQ]; exact p_zret (K := K) hx hb hr hlocks hI (by decide) h dX3_isLetter_29
    · replace h := h.2 c4
      exact J12 x0 _ _ _ rx0 hI (lv_sub hl [0] rfl) h
set_option maxHeartbeats 4000000 in
theorem t_X3_isDigit (l : Launch) (x0 : Int) (K : Int → Prop) (rx0 : InR x0) (h : w_X3_isDigit x0 K) : Met l yX3_isDigit (ws_ yX3_isDigit cX3_isDigit 1 (Option.some Jvm.ClassFile.FieldType.boolean)) (rmD 0 0 0) (va_Pc [iV x0] (fun _ => True)) (va_Qi (fun r (_ : Unit) => (r.toInt = 0 ∨ r.toInt = 1) ∧ K r.toInt) (fun _ _ => True) (fun _ => False)) 0 0 (fun _ => False) := by
  refine Met.ofW (cc := cX3_isDigit) (maxL := 1) (ret := (Option.some Jvm.ClassFile.FieldType.boolean)) (by decide) rfl ?_
  intro p e s m args below meth c s₁ B hml hv
  obtain ⟨rfl, -⟩ := hv
  have hx := B.exec
  have hb := B.bytes
  have hr := B.returns
  have hlocks := B.notSynchronized
  have hts := atoms_spec (ws := (ws_ yX3_isDigit cX3_isDigit 1 (Option.some Jvm.ClassFile.FieldType.boolean))) B.pre
  have hts : ∀ w ∈ lw_all, w.before _ s = true := fun w h => hts w (List.mem_cons_of_mem _ h)
  have hown : s.vm.findClass RX3 = some m.cls := findClass_of_methodNamed B.named
  clear B
  have hI : va_S (fun _ => False) s.heap s.heap [] := va_S.rf
  have hl := lv_entry ([iV x0] : List Value) (n := 1) (Nat.le_of_ble_eq_true rfl)
  rw [lg_entry_eq]
  generalize (lg_sl ([iV x0] : List Value) ++ List.replicate (1 - (lg_sl ([iV x0] : List Value)).length) Slot.unset).toArray = ls at hl ⊢
  have hl : lv_has ls 1 [(0, iV x0)] := hl
  have hF : CallFix p m c cX3_isDigit 1 s _ lw_all RX3 := ⟨hx, hb, hml, hown, hts⟩
  have hR : (headSpec (ws_ yX3_isDigit cX3_isDigit 1 (Option.some Jvm.ClassFile.FieldType.boolean)) (rmD 0 0 0)).room.frames = 0 + 1 ∧ (headSpec (ws_ yX3_isDigit cX3_isDigit 1 (Option.some Jvm.ClassFile.FieldType.boolean)) (rmD 0 0 0)).room.locals = 64 * 0 + 64 := ⟨rfl, rfl⟩
  generalize (headSpec (ws_ yX3_isDigit cX3_isDigit 1 (Option.some Jvm.ClassFile.FieldType.boolean)) (rmD 0 0 0)).room = R at hR ⊢
  generalize ([iV x0] : List Value).toArray = args at hts hF ⊢
  generalize hQ : MQ below _ _ _ _ _ _ = Q
  unfold w_X3_isDigit at h
  refine lv_iload_n hx hb dX3_isDigit_0 rfl (lv_at hl 0 rfl) ?_
  refine nr_bipush hx hb dX3_isDigit_1 (by decide) ?_
  refine nr_icmp_lt hx hb rx0 (by decide) dX3_isDigit_3 (tgt := 16) (by decide) (fun c1 => ?_) (fun c1 => ?_)
  · replace h := h.1 c1
    refine nr_iconst hx hb dX3_isDigit_16 ?_
    rw [← hQ]; exact p_zret (K := K) hx hb hr hlocks hI (by decide) h dX3_isDigit_17
  · replace h := h.2 c1
    refine lv_iload_n hx hb dX3_isDigit_6 rfl (lv_at hl 0 rfl) ?_
    refine nr_bipush hx hb dX3_isDigit_7 (by decide) ?_
    refine nr_icmp_gt hx hb rx0 (by decide) dX3_isDigit_9 (tgt := 16) (by decide) (fun c2 => ?_) (fun c2 => ?_)
    · replace h := h.1 c2
      refine nr_iconst hx hb dX3_isDigit_16 ?_
      rw [← hQ]; exact p_zret (K := K) hx hb hr hlocks hI (by decide) h dX3_isDigit_17
    · replace h := h.2 c2
      refine nr_iconst hx hb dX3_isDigit_12 ?_
      refine lv_goto (tgt := 17) hx hb dX3_isDigit_13 (by decide) ?_
      rw [← hQ]; exact p_zret (K := K) hx hb hr hlocks hI (by decide) h dX3_isDigit_17
set_option maxHeartbeats 4000000 in
theorem t_J0_init (l : Launch) (hlt : l.stackTraces = false) (D : va_G) (dA : Nat → ClassId) (ad : Nat → Nat) (S : St) (sz : Nat) (x0 : Nat) (K : St → Prop) (mc ms : Nat) (hmc : mc = bC S) (hms : ms = bL S) (h : w_J0_init x0 S K) : Met l yJ0_init (ws_ yJ0_init cJ0_init 1 (Option.none : Option Jvm.ClassFile.FieldType)) (rmD 1 mc ms) (va_Pc [.ref x0] (tPre D dA ad S sz)) (va_Qv (fun S' => K S') (sPost D dA wX ad (wA wX ad S sz)) (wA wX ad S sz)) mc ms (wA wX ad S sz) := by
  refine Met.ofW (cc := cJ0_init) (maxL := 1) (ret := (Option.none : Option Jvm.ClassFile.FieldType)) (by decide) rfl ?_
  intro p e s m args below meth c s₁ B hml hv
  obtain ⟨rfl, ⟨hsz, hK, hC⟩, hZ⟩ := hv
  have hx := B.exec
  have hb := B.bytes
  have hr := B.returns
  have hlocks := B.notSynchronized
  have hinit : meth.name = "<init>" := (name_of_methodNamed B.named B.method).1
  have hts := atoms_spec (ws := (ws_ yJ0_init cJ0_init 1 (Option.none : Option Jvm.ClassFile.FieldType))) B.pre
  have hts : ∀ w ∈ lw_all, w.before _ s = true := fun w h => hts w (List.mem_cons_of_mem _ h)
  have hown : s.vm.findClass RJ0 = some m.cls := findClass_of_methodNamed B.named
  clear B
  subst hsz
  have hI : sI D dA wX ad (wA wX ad S s.heap.size) s.heap S s.heap [] := hC.start
  clear hC
  generalize wA wX ad S s.heap.size = A at hI hZ ⊢
  have hl := lv_entry ([.ref x0] : List Value) (n := 1) (Nat.le_of_ble_eq_true rfl)
  rw [lg_entry_eq]
  generalize (lg_sl ([.ref x0] : List Value) ++ List.replicate (1 - (lg_sl ([.ref x0] : List Value)).length) Slot.unset).toArray = ls at hl ⊢
  have hl : lv_has ls 1 [(0, .ref x0)] := hl
  have hF : CallFix p m c cJ0_init 1 s _ lw_all RJ0 := ⟨hx, hb, hml, hown, hts⟩
  have hR : (headSpec (ws_ yJ0_init cJ0_init 1 (Option.none : Option Jvm.ClassFile.FieldType)) (rmD 1 mc ms)).room.frames = 1 + 1 ∧ (headSpec (ws_ yJ0_init cJ0_init 1 (Option.none : Option Jvm.ClassFile.FieldType)) (rmD 1 mc ms)).room.locals = 64 * 1 + 64 := ⟨rfl, rfl⟩
  have hRc : (headSpec (ws_ yJ0_init cJ0_init 1 (Option.none : Option Jvm.ClassFile.FieldType)) (rmD 1 mc ms)).room.cells = mc ∧ (headSpec (ws_ yJ0_init cJ0_init 1 (Option.none : Option Jvm.ClassFile.FieldType)) (rmD 1 mc ms)).room.slots = ms := ⟨rfl, rfl⟩
  generalize (headSpec (ws_ yJ0_init cJ0_init 1 (Option.none : Option Jvm.ClassFile.FieldType)) (rmD 1 mc ms)).room = R at hR hRc ⊢
  obtain ⟨hRc, hRs⟩ := hRc
  have hcs : bOK R S 0 0 := ⟨by omega, by omega⟩
  clear hmc hms
  have hcs0 := hcs
  generalize ([.ref x0] : List Value).toArray = args at hts hF ⊢
  generalize hQ : MQ below _ _ _ _ _ _ = Q
  unfold w_J0_init at h
  refine lv_aload_n hx hb dJ0_init_0 rfl (lv_at hl 0 rfl) ?_
  refine W.objInit hx hb hown (hts _ q376) (hts _ q144) (hts _ q145) rfl (hl.1.trans hml.symm) rfl dJ0_init_1 (by have h1 := hR.1; omega) (Nat.le_trans (m := 64) (Nat.le_of_ble_eq_true rfl) (by have h2 := hR.2; omega)) ?_
  show W p l e R s m args below meth c _ _ _ _ Q (F0 m _ ls [])
  rw [← hQ]; refine W.widen (k := mc) (n := ms) (by have h1 := hcs.1; omega) (by have h1 := hcs.2; omega) ?_; exact s_vret (K := K) hx hb hr hlocks hI h dJ0_init_4
theorem uPJ1_7 {p : Program} {l : Launch} {e : Env} {R : Room} {s : State} {m : MethodId} {args : Array Value} {below : List Frame} {meth : Method} {c : Code} {H : Heap} {locs : List Loc} {Q : State → Prop} {cc : ByteArray} {nL pc : Nat} {ls : Array Slot} {rest : List Value} {cells slots : Nat} {D : va_G} {dA : Nat → ClassId} {ad : Nat → Nat} {A : Nat → Prop} {H0 : Heap} {S : St} {q : Nat} {fs : List PV} {v : Int} (hF : CallFix p m c cc nL s args lw_all RJ1) (hK : gK D dA s) (hI : sI D dA wX ad A H0 S H locs) (hg : gI S q = some (.inr (.inl (14, fs)))) (hlen : fs.length = 3) (hv : InR v) (hdg : decode cc pc = .ok (.putfield 7, 3)) (kk : ∀ (S1 : St) (H1 : Heap) (locs1 : List Loc), S1 = gset S q (.inr (.inl (14, fs.set 0 (.inl v)))) → sI D dA wX ad A H0 S1 H1 locs1 → W p l e R s m args below meth c H1 locs1 cells slots Q (F0 m (pc + 3) ls (rest))) : W p l e R s m args below meth c H locs cells slots Q (F0 m (pc) ls (iV v :: .ref q :: rest)) := s_pput (v := .inl v) hF.1 hF.2.1 tyJ2 tyJ2_ok nmJ2 hF.2.2.2.2 hF.2.2.2.1 hK hI (by decide) hg hlen rfl in_J2 0 (by decide) q381 rfl hv rfl rfl rfl hdg kk
set_option maxHeartbeats 4000000 in
theorem t_J1_init (l : Launch) (hlt : l.stackTraces = false) (D : va_G) (dA : Nat → ClassId) (ad : Nat → Nat) (S : St) (sz : Nat) (x0 : Nat) (K : St → Prop) (mc ms : Nat) (hmc : mc = bC S) (hms : ms = bL S) (h : w_J1_init x0 S K) : Met l yJ1_init (ws_ yJ1_init cJ1_init 1 (Option.none : Option Jvm.ClassFile.FieldType)) (rmD 2 mc ms) (va_Pc [.ref x0] (tPre D dA ad S sz)) (va_Qv (fun S' => K S') (sPost D dA wX ad (wA wX ad S sz)) (wA wX ad S sz)) mc ms (wA wX ad S sz) := by
  refine Met.ofW (cc := cJ1_init) (maxL := 1) (ret := (Option.none : Option Jvm.ClassFile.FieldType)) (by decide) rfl ?_
  intro p e s m args below meth c s₁ B hml hv
  obtain ⟨rfl, ⟨hsz, hK, hC⟩, hZ⟩ := hv
  have hx := B.exec
  have hb := B.bytes
  have hr := B.returns
  have hlocks := B.notSynchronized
  have hinit : meth.name = "<init>" := (name_of_methodNamed B.named B.method).1
  have hts := atoms_spec (ws := (ws_ yJ1_init cJ1_init 1 (Option.none : Option Jvm.ClassFile.FieldType))) B.pre
  have hts : ∀ w ∈ lw_all, w.before _ s = true := fun w h => hts w (List.mem_cons_of_mem _ h)
  have hown : s.vm.findClass RJ1 = some m.cls := findClass_of_methodNamed B.named
  clear B
  subst hsz
  have hI : sI D dA wX ad (wA wX ad S s.heap.size) s.heap S s.heap [] := hC.start
  clear hC
  generalize wA wX ad S s.heap.size = A at hI hZ ⊢
  have hl := lv_entry ([.ref x0] : List Value) (n := 1) (Nat.le_of_ble_eq_true rfl)
  rw [lg_entry_eq]
  generalize (lg_sl ([.ref x0] : List Value) ++ List.replicate (1 - (lg_sl ([.ref x0] : List Value)).length) Slot.unset).toArray = ls at hl ⊢
  have hl : lv_has ls 1 [(0, .ref x0)] := hl
  have hF : CallFix p m c cJ1_init 1 s _ lw_all RJ1 := ⟨hx, hb, hml, hown, hts⟩
  have hR : (headSpec (ws_ yJ1_init cJ1_init 1 (Option.none : Option Jvm.ClassFile.FieldType)) (rmD 2 mc ms)).room.frames = 2 + 1 ∧ (headSpec (ws_ yJ1_init cJ1_init 1 (Option.none : Option Jvm.ClassFile.FieldType)) (rmD 2 mc ms)).room.locals = 64 * 2 + 64 := ⟨rfl, rfl⟩
  have hRc : (headSpec (ws_ yJ1_init cJ1_init 1 (Option.none : Option Jvm.ClassFile.FieldType)) (rmD 2 mc ms)).room.cells = mc ∧ (headSpec (ws_ yJ1_init cJ1_init 1 (Option.none : Option Jvm.ClassFile.FieldType)) (rmD 2 mc ms)).room.slots = ms := ⟨rfl, rfl⟩
  generalize (headSpec (ws_ yJ1_init cJ1_init 1 (Option.none : Option Jvm.ClassFile.FieldType)) (rmD 2 mc ms)).room = R at hR hRc ⊢
  obtain ⟨hRc, hRs⟩ := hRc
  have hcs : bOK R S 0 0 := ⟨by omega, by omega⟩
  clear hmc hms
  have hcs0 := hcs
  generalize ([.ref x0] : List Value).toArray = args at hts hF ⊢
  generalize hQ : MQ below _ _ _ _ _ _ = Q
  unfold w_J1_init at h
  refine lv_aload_n hx hb dJ1_init_0 rfl (lv_at hl 0 rfl) ?_
  obtain ⟨a1, b2, f3, h⟩ := h
  refine p_callIv (As := []) (rest := []) hF (t_J0_init l hlt D dA ad (bset S a1 b2) _ x0 _ a1.toNat b2.toNat (bC_bset _ _ _).symm (bL_bset _ _ _).symm h) (cwI 0 hts (lw_meth q375) rfl rfl rfl (hts _ q112) (hts _ q373) (hts _ q374) rfl (by decide +kernel) ⟨by have h1 := hR.1; have h2 : (rmD 1 a1.toNat b2.toNat).frames = 1 + 1 := rfl; omega, by have h1 := hR.2; have h2 : (rmD 1 a1.toNat b2.toNat).locals = 64 * 1 + 64 := rfl; omega⟩) hK hI hZ hcs f3 rfl hl.1 rfl (Nat.le_of_ble_eq_true rfl) dJ1_init_1 (fun S5 S6 H locs cells slots h eS6 hI hcs => ?_)
  replace h := h S6 eS6
  refine lv_aload_n hx hb dJ1_init_4 rfl (lv_at hl 0 rfl) ?_
  refine nr_iconst hx hb dJ1_init_5 ?_
  obtain ⟨fs8, hg9, hn10, h⟩ := h
  refine uPJ1_7 hF hK hI hg9 hn10 (by decide) dJ1_init_6 (fun S11 H locs eS11 hI => ?_)
  replace h := h S11 eS11
  have hcs := bOK.to (S' := S11) hcs (by rw [eS11]; exact ⟨rfl, rfl⟩)
  rw [← hQ]; refine W.widen (k := mc) (n := ms) (by have h1 := hcs.1; omega) (by have h1 := hcs.2; omega) ?_; exact s_vret (K := K) hx hb hr hlocks hI h dJ1_init_9
theorem uPJ2_9 {p : Program} {l : Launch} {e : Env} {R : Room} {s : State} {m : MethodId} {args : Array Value} {below : List Frame} {meth : Method} {c : Code} {H : Heap} {locs : List Loc} {Q : State → Prop} {cc : ByteArray} {nL pc : Nat} {ls : Array Slot} {rest : List Value} {cells slots : Nat} {D : va_G} {dA : Nat → ClassId} {ad : Nat → Nat} {A : Nat → Prop} {H0 : Heap} {S : St} {q : Nat} {fs : List PV} {r : Nat} (hF : CallFix p m c cc nL s args lw_all RJ2) (hK : gK D dA s) (hI : sI D dA wX ad A H0 S H locs) (hg : gI S q = some (.inr (.inl (14, fs)))) (hlen : fs.length = 3) (hdg : decode cc pc = .ok (.putfield 9, 3)) (kk : ∀ (S1 : St) (H1 : Heap) (locs1 : List Loc), S1 = gset S q (.inr (.inl (14, fs.set 1 (.inr (.inr (some r)))))) → sI D dA wX ad A H0 S1 H1 locs1 → W p l e R s m args below meth c H1 locs1 cells slots Q (F0 m (pc + 3) ls (rest))) : W p l e R s m args below meth c H locs cells slots Q (F0 m (pc) ls (.ref r :: .ref q :: rest)) := s_pput (v := .inr (.inr (some r))) hF.1 hF.2.1 tyJ2 tyJ2_ok nmJ2 hF.2.2.2.2 hF.2.2.2.1 hK hI (by decide) hg hlen rfl in_J2 1 (by decide) q379 rfl trivial rfl rfl rfl hdg kk
set_option maxHeartbeats 4000000 in
theorem t_J2_init (l : Launch) (hlt : l.stackTraces = false) (D : va_G) (dA : Nat → ClassId) (ad : Nat → Nat) (S : St) (sz : Nat) (x0 : Nat) (K : St → Prop) (mc ms : Nat) (hmc : mc = bC S) (hms : ms = bL S) (h : w_J2_init x0 S K) : Met l yJ2_init (ws_ yJ2_init cJ2_init 1 (Option.none : Option Jvm.ClassFile.FieldType)) (rmD 3 mc ms) (va_Pc [.ref x0] (tPre D dA ad S sz)) (va_Qv (fun S' => K S') (sPost D dA wX ad (wA wX ad S sz)) (wA wX ad S sz)) mc ms (wA wX ad S sz) := by
  refine Met.ofW (cc := cJ2_init) (maxL := 1) (ret := (Option.none : Option Jvm.ClassFile.FieldType)) (by decide) rfl ?_
  intro p e s m args below meth c s₁ B hml hv
  obtain ⟨rfl, ⟨hsz, hK, hC⟩, hZ⟩ := hv
  have hx := B.exec
  have hb := B.bytes
  have hr := B.returns
  have hlocks := B.notSynchronized
  have hinit : meth.name = "<init>" := (name_of_methodNamed B.named B.method).1
  have hts := atoms_spec (ws := (ws_ yJ2_init cJ2_init 1 (Option.none : Option Jvm.ClassFile.FieldType))) B.pre
  have hts : ∀ w ∈ lw_all, w.before _ s = true := fun w h => hts w (List.mem_cons_of_mem _ h)
  have hown : s.vm.findClass RJ2 = some m.cls := findClass_of_methodNamed B.named
  clear B
  subst hsz
  have hI : sI D dA wX ad (wA wX ad S s.heap.size) s.heap S s.heap [] := hC.start
  clear hC
  generalize wA wX ad S s.heap.size = A at hI hZ ⊢
  have hl := lv_entry ([.ref x0] : List Value) (n := 1) (Nat.le_of_ble_eq_true rfl)
  rw [lg_entry_eq]
  generalize (lg_sl ([.ref x0] : List Value) ++ List.replicate (1 - (lg_sl ([.ref x0] : List Value)).length) Slot.unset).toArray = ls at hl ⊢
  have hl : lv_has ls 1 [(0, .ref x0)] := hl
  have hF : CallFix p m c cJ2_init 1 s _ lw_all RJ2 := ⟨hx, hb, hml, hown, hts⟩
  have hR : (headSpec (ws_ yJ2_init cJ2_init 1 (Option.none : Option Jvm.ClassFile.FieldType)) (rmD 3 mc ms)).room.frames = 3 + 1 ∧ (headSpec (ws_ yJ2_init cJ2_init 1 (Option.none : Option Jvm.ClassFile.FieldType)) (rmD 3 mc ms)).room.locals = 64 * 3 + 64 := ⟨rfl, rfl⟩
  have hRc : (headSpec (ws_ yJ2_init cJ2_init 1 (Option.none : Option Jvm.ClassFile.FieldType)) (rmD 3 mc ms)).room.cells = mc ∧ (headSpec (ws_ yJ2_init cJ2_init 1 (Option.none : Option Jvm.ClassFile.FieldType)) (rmD 3 mc ms)).room.slots = ms := ⟨rfl, rfl⟩
  generalize (headSpec (ws_ yJ2_init cJ2_init 1 (Option.none : Option Jvm.ClassFile.FieldType)) (rmD 3 mc ms)).room = R at hR hRc ⊢
  obtain ⟨hRc, hRs⟩ := hRc
  have hcs : bOK R S 0 0 := ⟨by omega, by omega⟩
  clear hmc hms
  have hcs0 := hcs
  generalize ([.ref x0] : List Value).toArray = args at hts hF ⊢
  generalize hQ : MQ below _ _ _ _ _ _ = Q
  unfold w_J2_init at h
  refine lv_aload_n hx hb dJ2_init_0 rfl (lv_at hl 0 rfl) ?_
  obtain ⟨a1, b2, f3, h⟩ := h
  refine p_callIv (As := []) (rest := []) hF (t_J1_init l hlt D dA ad (bset S a1 b2) _ x0 _ a1.toNat b2.toNat (bC_bset _ _ _).symm (bL_bset _ _ _).symm h) (cwI 0 hts (lw_meth q372) rfl rfl rfl (hts _ q113) (hts _ q370) (hts _ q371) rfl (by decide +kernel) ⟨by have h1 := hR.1; have h2 : (rmD 2 a1.toNat b2.toNat).frames = 2 + 1 := rfl; omega, by have h1 := hR.2; have h2 : (rmD 2 a1.toNat b2.toNat).locals = 64 * 2 + 64 := rfl; omega⟩) hK hI hZ hcs f3 rfl hl.1 rfl (Nat.le_of_ble_eq_true rfl) dJ2_init_1 (fun S5 S6 H locs cells slots h eS6 hI hcs => ?_)
  replace h := h S6 eS6
  refine lv_aload_n hx hb dJ2_init_4 rfl (lv_at hl 0 rfl) ?_
  refine t_empty hx hb hts hown q377 hI hZ dJ2_init_5 (fun q8 hr9 hg10 => ?_)
  replace h := h q8 hr9 hg10
  obtain ⟨fs11, hg12, hn13, h⟩ := h
  refine uPJ2_9 hF hK hI hg12 hn13 dJ2_init_8 (fun S14 H locs eS14 hI => ?_)
  replace h := h S14 eS14
  have hcs := bOK.to (S' := S14) hcs (by rw [eS14]; exact ⟨rfl, rfl⟩)
  rw [← hQ]; refine W.widen (k := mc) (n := ms) (by have h1 := hcs.1; omega) (by have h1 := hcs.2; omega) ?_; exact s_vret (K := K) hx hb hr hlocks hI h dJ2_init_11
