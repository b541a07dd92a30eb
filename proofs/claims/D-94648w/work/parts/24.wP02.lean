set_option maxRecDepth 100000
set_option maxHeartbeats 4000000 in
theorem t_J10_init (l : Launch) (hlt : l.stackTraces = false) (D : va_G) (dA : Nat → ClassId) (ad : Nat → Nat) (S : St) (sz : Nat) (x0 : Nat) (K : St → Prop) (mc ms : Nat) (hmc : mc = bC S) (hms : ms = bL S) (h : w_J10_init x0 S K) : Met l yJ10_init (ws_ yJ10_init cJ10_init 1 (Option.none : Option Jvm.ClassFile.FieldType)) (rmD 1 mc ms) (va_Pc [.ref x0] (tPre D dA ad S sz)) (va_Qv (fun S' => K S') (sPost D dA wX ad (wA wX ad S sz)) (wA wX ad S sz)) mc ms (wA wX ad S sz) := by
  refine Met.ofW (cc := cJ10_init) (maxL := 1) (ret := (Option.none : Option Jvm.ClassFile.FieldType)) (by decide) rfl ?_
  intro p e s m args below meth c s₁ B hml hv
  obtain ⟨rfl, ⟨hsz, hK, hC⟩, hZ⟩ := hv
  have hx := B.exec
  have hb := B.bytes
  have hr := B.returns
  have hlocks := B.notSynchronized
  have hinit : meth.name = "<init>" := (name_of_methodNamed B.named B.method).1
  have hts := atoms_spec (ws := (ws_ yJ10_init cJ10_init 1 (Option.none : Option Jvm.ClassFile.FieldType))) B.pre
  have hts : ∀ w ∈ lw_all, w.before _ s = true := fun w h => hts w (List.mem_cons_of_mem _ h)
  have hown : s.vm.findClass RJ10 = some m.cls := findClass_of_methodNamed B.named
  clear B
  subst hsz
  have hI : sI D dA wX ad (wA wX ad S s.heap.size) s.heap S s.heap [] := hC.start
  clear hC
  generalize wA wX ad S s.heap.size = A at hI hZ ⊢
  have hl := lv_entry ([.ref x0] : List Value) (n := 1) (Nat.le_of_ble_eq_true rfl)
  rw [lg_entry_eq]
  generalize (lg_sl ([.ref x0] : List Value) ++ List.replicate (1 - (lg_sl ([.ref x0] : List Value)).length) Slot.unset).toArray = ls at hl ⊢
  have hl : lv_has ls 1 [(0, .ref x0)] := hl
  have hF : CallFix p m c cJ10_init 1 s _ lw_all RJ10 := ⟨hx, hb, hml, hown, hts⟩
  have hR : (headSpec (ws_ yJ10_init cJ10_init 1 (Option.none : Option Jvm.ClassFile.FieldType)) (rmD 1 mc ms)).room.frames = 1 + 1 ∧ (headSpec (ws_ yJ10_init cJ10_init 1 (Option.none : Option Jvm.ClassFile.FieldType)) (rmD 1 mc ms)).room.locals = 64 * 1 + 64 := ⟨rfl, rfl⟩
  have hRc : (headSpec (ws_ yJ10_init cJ10_init 1 (Option.none : Option Jvm.ClassFile.FieldType)) (rmD 1 mc ms)).room.cells = mc ∧ (headSpec (ws_ yJ10_init cJ10_init 1 (Option.none : Option Jvm.ClassFile.FieldType)) (rmD 1 mc ms)).room.slots = ms := ⟨rfl, rfl⟩
  generalize (headSpec (ws_ yJ10_init cJ10_init 1 (Option.none : Option Jvm.ClassFile.FieldType)) (rmD 1 mc ms)).room = R at hR hRc ⊢
  obtain ⟨hRc, hRs⟩ := hRc
  have hcs : bOK R S 0 0 := ⟨by omega, by omega⟩
  clear hmc hms
  have hcs0 := hcs
  generalize ([.ref x0] : List Value).toArray = args at hts hF ⊢
  generalize hQ : MQ below _ _ _ _ _ _ = Q
  unfold w_J10_init at h
  refine lv_aload_n hx hb dJ10_init_0 rfl (lv_at hl 0 rfl) ?_
  refine W.objInit hx hb hown (hts _ q584) (hts _ q144) (hts _ q145) rfl (hl.1.trans hml.symm) rfl dJ10_init_1 (by have h1 := hR.1; omega) (Nat.le_trans (m := 64) (Nat.le_of_ble_eq_true rfl) (by have h2 := hR.2; omega)) ?_
  show W p l e R s m args below meth c _ _ _ _ Q (F0 m _ ls [])
  rw [← hQ]; refine W.widen (k := mc) (n := ms) (by have h1 := hcs.1; omega) (by have h1 := hcs.2; omega) ?_; exact s_vret (K := K) hx hb hr hlocks hI h dJ10_init_4
set_option maxHeartbeats 4000000 in
theorem t_J12_valueOf (l : Launch) (hlt : l.stackTraces = false) (D : va_G) (dA : Nat → ClassId) (ad : Nat → Nat) (S : St) (sz : Nat) (x0 : Int) (K : Option Nat → St → Prop) (rx0 : InR x0) (mc ms : Nat) (hmc : mc = bC S) (hms : ms = bL S) (h : w_J12_valueOf x0 S K) : Met l yJ12_valueOf (ws_ yJ12_valueOf cJ12_valueOf 1 (Option.some (Jvm.ClassFile.FieldType.object "java/lang/Integer"))) (rmD 0 mc ms) (va_Pc [iV x0] (tPre D dA ad S sz)) (va_Qq (fun r S' => K r S') (sPost D dA wX ad (wA wX ad S sz)) (wA wX ad S sz)) mc ms (wA wX ad S sz) := by
  refine Met.ofW (cc := cJ12_valueOf) (maxL := 1) (ret := (Option.some (Jvm.ClassFile.FieldType.object "java/lang/Integer"))) (by decide) rfl ?_
  intro p e s m args below meth c s₁ B hml hv
  obtain ⟨rfl, ⟨hsz, hK, hC⟩, hZ⟩ := hv
  have hx := B.exec
  have hb := B.bytes
  have hr := B.returns
  have hlocks := B.notSynchronized
  have hts := atoms_spec (ws := (ws_ yJ12_valueOf cJ12_valueOf 1 (Option.some (Jvm.ClassFile.FieldType.object "java/lang/Integer")))) B.pre
  have hts : ∀ w ∈ lw_all, w.before _ s = true := fun w h => hts w (List.mem_cons_of_mem _ h)
  have hown : s.vm.findClass RJ12 = some m.cls := findClass_of_methodNamed B.named
  clear B
  subst hsz
  have hI : sI D dA wX ad (wA wX ad S s.heap.size) s.heap S s.heap [] := hC.start
  clear hC
  generalize wA wX ad S s.heap.size = A at hI hZ ⊢
  have hl := lv_entry ([iV x0] : List Value) (n := 1) (Nat.le_of_ble_eq_true rfl)
  rw [lg_entry_eq]
  generalize (lg_sl ([iV x0] : List Value) ++ List.replicate (1 - (lg_sl ([iV x0] : List Value)).length) Slot.unset).toArray = ls at hl ⊢
  have hl : lv_has ls 1 [(0, iV x0)] := hl
  have hF : CallFix p m c cJ12_valueOf 1 s _ lw_all RJ12 := ⟨hx, hb, hml, hown, hts⟩
  have hR : (headSpec (ws_ yJ12_valueOf cJ12_valueOf 1 (Option.some (Jvm.ClassFile.FieldType.object "java/lang/Integer"))) (rmD 0 mc ms)).room.frames = 0 + 1 ∧ (headSpec (ws_ yJ12_valueOf cJ12_valueOf 1 (Option.some (Jvm.ClassFile.FieldType.object "java/lang/Integer"))) (rmD 0 mc ms)).room.locals = 64 * 0 + 64 := ⟨rfl, rfl⟩
  have hRc : (headSpec (ws_ yJ12_valueOf cJ12_valueOf 1 (Option.some (Jvm.ClassFile.FieldType.object "java/lang/Integer"))) (rmD 0 mc ms)).room.cells = mc ∧ (headSpec (ws_ yJ12_valueOf cJ12_valueOf 1 (Option.some (Jvm.ClassFile.FieldType.object "java/lang/Integer"))) (rmD 0 mc ms)).room.slots = ms := ⟨rfl, rfl⟩
  generalize (headSpec (ws_ yJ12_valueOf cJ12_valueOf 1 (Option.some (Jvm.ClassFile.FieldType.object "java/lang/Integer"))) (rmD 0 mc ms)).room = R at hR hRc ⊢
  obtain ⟨hRc, hRs⟩ := hRc
  have hcs : bOK R S 0 0 := ⟨by omega, by omega⟩
  clear hmc hms
  have hcs0 := hcs
  generalize ([iV x0] : List Value).toArray = args at hts hF ⊢
  generalize hQ : MQ below _ _ _ _ _ _ = Q
  unfold w_J12_valueOf at h
  refine lv_iload_n hx hb dJ12_valueOf_0 rfl (lv_at hl 0 rfl) ?_
  refine nr_bipush hx hb dJ12_valueOf_1 (by decide) ?_
  refine nr_icmp_lt hx hb rx0 (by decide) dJ12_valueOf_3 (tgt := 23) (by decide) (fun c1 => ?_) (fun c1 => ?_)
  · replace h := h.1 c1
    exact h.elim
  · replace h := h.2 c1
    refine lv_iload_n hx hb dJ12_valueOf_6 rfl (lv_at hl 0 rfl) ?_
    refine t_high hx hb hts hown q640 hI hZ dJ12_valueOf_7 ?_
    refine nr_icmp_gt hx hb rx0 (by decide) dJ12_valueOf_10 (tgt := 23) (by decide) (fun c2 => ?_) (fun c2 => ?_)
    · replace h := h.1 c2
      exact h.elim
    · replace h := h.2 c2
      refine t_cach hx hb hts hown q642 hI hZ dJ12_valueOf_13 ?_
      refine lv_iload_n hx hb dJ12_valueOf_16 rfl (lv_at hl 0 rfl) ?_
      refine nr_sipush hx hb dJ12_valueOf_17 (by decide) ?_
      have f3 := h.1; replace h := h.2
      refine nr_iadd hx hb dJ12_valueOf_20 ?_
      have f4 := h.1; replace h := h.2
      refine t_cache hx hb hI hZ f3 f4 dJ12_valueOf_21 (fun q5 hg6 => ?_)
      replace h := h q5 hg6
      rw [← hQ]; refine W.widen (k := mc) (n := ms) (by have h1 := hcs.1; omega) (by have h1 := hcs.2; omega) ?_; exact s_qret (v := (some q5)) (K := K) hx hb hr (Or.inl ⟨_, rfl⟩) hlocks hI h dJ12_valueOf_22
set_option maxHeartbeats 4000000 in
theorem t_J14_copyOf_2_2050 (l : Launch) (hlt : l.stackTraces = false) (D : va_G) (dA : Nat → ClassId) (ad : Nat → Nat) (S : St) (sz : Nat) (x0 : Nat) (x1 : Int) (K : Option Nat → St → Prop) (rx1 : InR x1) (mc ms : Nat) (hmc : mc = bC S) (hms : ms = bL S) (h : w_J14_copyOf_2_2050 x0 x1 S K) : Met l yJ14_copyOf_2 (ws_ yJ14_copyOf_2 cJ14_copyOf_2 4 (Option.some (Jvm.ClassFile.FieldType.array (Jvm.ClassFile.FieldType.object "java/lang/Object")))) (rmD 1 mc ms) (va_Pc [.ref x0, iV x1, .ref (ad 2050)] (tPre D dA ad S sz)) (va_Qq (fun r S' => K r S') (sPost D dA wX ad (wA wX ad S sz)) (wA wX ad S sz)) mc ms (wA wX ad S sz) := by
  refine Met.ofW (cc := cJ14_copyOf_2) (maxL := 4) (ret := (Option.some (Jvm.ClassFile.FieldType.array (Jvm.ClassFile.FieldType.object "java/lang/Object")))) (by decide) rfl ?_
  intro p e s m args below meth c s₁ B hml hv
  obtain ⟨rfl, ⟨hsz, hK, hC⟩, hZ⟩ := hv
  have hx := B.exec
  have hb := B.bytes
  have hr := B.returns
  have hlocks := B.notSynchronized
  have hts := atoms_spec (ws := (ws_ yJ14_copyOf_2 cJ14_copyOf_2 4 (Option.some (Jvm.ClassFile.FieldType.array (Jvm.ClassFile.FieldType.object "java/lang/Object"))))) B.pre
  have hts : ∀ w ∈ lw_all, w.before _ s = true := fun w h => hts w (List.mem_cons_of_mem _ h)
  have hown : s.vm.findClass RJ14 = some m.cls := findClass_of_methodNamed B.named
  clear B
  subst hsz
  have hI : sI D dA wX ad (wA wX ad S s.heap.size) s.heap S s.heap [] := hC.start
  clear hC
  generalize wA wX ad S s.heap.size = A at hI hZ ⊢
  have hl := lv_entry ([.ref x0, iV x1, .ref (ad 2050)] : List Value) (n := 4) (Nat.le_of_ble_eq_true rfl)
  rw [lg_entry_eq]
  generalize (lg_sl ([.ref x0, iV x1, .ref (ad 2050)] : List Value) ++ List.replicate (4 - (lg_sl ([.ref x0, iV x1, .ref (ad 2050)] : List Value)).length) Slot.unset).toArray = ls at hl ⊢
  have hl : lv_has ls 4 [(0, .ref x0), (1, iV x1), (2, .ref (ad 2050))] := hl
  have hF : CallFix p m c cJ14_copyOf_2 4 s _ lw_all RJ14 := ⟨hx, hb, hml, hown, hts⟩
  have hR : (headSpec (ws_ yJ14_copyOf_2 cJ14_copyOf_2 4 (Option.some (Jvm.ClassFile.FieldType.array (Jvm.ClassFile.FieldType.object "java/lang/Object")))) (rmD 1 mc ms)).room.frames = 1 + 1 ∧ (headSpec (ws_ yJ14_copyOf_2 cJ14_copyOf_2 4 (Option.some (Jvm.ClassFile.FieldType.array (Jvm.ClassFile.FieldType.object "java/lang/Object")))) (rmD 1 mc ms)).room.locals = 64 * 1 + 64 := ⟨rfl, rfl⟩
  have hRc : (headSpec (ws_ yJ14_copyOf_2 cJ14_copyOf_2 4 (Option.some (Jvm.ClassFile.FieldType.array (Jvm.ClassFile.FieldType.object "java/lang/Object")))) (rmD 1 mc ms)).room.cells = mc ∧ (headSpec (ws_ yJ14_copyOf_2 cJ14_copyOf_2 4 (Option.some (Jvm.ClassFile.FieldType.array (Jvm.ClassFile.FieldType.object "java/lang/Object")))) (rmD 1 mc ms)).room.slots = ms := ⟨rfl, rfl⟩
  generalize (headSpec (ws_ yJ14_copyOf_2 cJ14_copyOf_2 4 (Option.some (Jvm.ClassFile.FieldType.array (Jvm.ClassFile.FieldType.object "java/lang/Object")))) (rmD 1 mc ms)).room = R at hR hRc ⊢
  obtain ⟨hRc, hRs⟩ := hRc
  have hcs : bOK R S 0 0 := ⟨by omega, by omega⟩
  clear hmc hms
  have hcs0 := hcs
  generalize ([.ref x0, iV x1, .ref (ad 2050)] : List Value).toArray = args at hts hF ⊢
  generalize hQ : MQ below _ _ _ _ _ _ = Q
  unfold w_J14_copyOf_2_2050 at h
  refine lv_aload_n hx hb dJ14_copyOf_2_0 rfl (lv_at hl 2 rfl) ?_
  refine t_mir hx hb hts hown q709 hZ dJ14_copyOf_2_1 ?_
  refine t_acmpn hx hb dJ14_copyOf_2_3 (tgt := 13) (by decide) (fun z => absurd rfl z) (fun _ => ?_)
  show W p l e R s m args below meth c _ _ _ _ Q (F0 m _ ls [])
  refine lv_iload_n hx hb dJ14_copyOf_2_6 rfl (lv_at hl 1 rfl) ?_
  have f3 := h.1; replace h := h.2
  have f4 := h.1; replace h := h.2
  refine t_newq hx hb hts hown q711 hK hI hcs rx1 f3 f4 dJ14_copyOf_2_7 (fun q1 S2 H cells slots hqq1 eS2 hI hcs => ?_)
  replace h := h q1 S2 hqq1 eS2
  refine lv_goto (tgt := 24) hx hb dJ14_copyOf_2_10 (by decide) ?_
  refine lv_astore_n (lv' := [(3, .ref q1), (0, .ref x0), (1, iV x1), (2, .ref (ad 2050))]) hx hb dJ14_copyOf_2_24 rfl hl (by decide) rfl (fun ls hl => ?_)
  refine lv_aload_n hx hb dJ14_copyOf_2_25 rfl (lv_at hl 1 rfl) ?_
  refine nr_iconst hx hb dJ14_copyOf_2_26 ?_
  refine lv_aload_n hx hb dJ14_copyOf_2_27 rfl (lv_at hl 0 rfl) ?_
  refine nr_iconst hx hb dJ14_copyOf_2_28 ?_
  refine lv_aload_n hx hb dJ14_copyOf_2_29 rfl (lv_at hl 1 rfl) ?_
  obtain ⟨n5, pf6, hg7, h⟩ := h
  refine t_rlen hx hb hK hI hg7 dJ14_copyOf_2_30 (fun f8 => ?_)
  replace h := h f8
  refine lv_iload_n hx hb dJ14_copyOf_2_31 rfl (lv_at hl 2 rfl) ?_
  refine s_min hx hb (hl.1.trans hml.symm) hown hts q712 q483 q119 q484 (by have h1 := hR.1; have h2 := hR.2; omega) (cs0 hcs) (Nat.le_of_ble_eq_true rfl) f8 rx1 dJ14_copyOf_2_32 ?_
  have f9 : InR (min (n5 : Int) x1) := nr_mnR f8 rx1
  obtain ⟨n10, pf11, n13, pf14, hg12, hg15, f16, el17, h⟩ := h
  refine t_copyq hx hb (hl.1.trans hml.symm) hown hts q713 hK hI hg12 hg15 f9 f16 el17 (by have h1 := hR.1; have h2 := hR.2; omega) (Nat.le_of_ble_eq_true rfl) dJ14_copyOf_2_35 (fun S18 H locs eS18 hI => ?_)
  replace h := h S18 eS18
  have hcs := bOK.to (S' := S18) hcs (by rw [eS18]; exact ⟨rfl, rfl⟩)
  refine lv_aload_n hx hb dJ14_copyOf_2_38 rfl (lv_at hl 0 rfl) ?_
  rw [← hQ]; refine W.widen (k := mc) (n := ms) (by have h1 := hcs.1; omega) (by have h1 := hcs.2; omega) ?_; exact s_qret (v := (some q1)) (K := K) hx hb hr (Or.inr ⟨_, rfl⟩) hlocks hI h dJ14_copyOf_2_39
set_option maxHeartbeats 4000000 in
theorem t_J14_copyOf (l : Launch) (hlt : l.stackTraces = false) (D : va_G) (dA : Nat → ClassId) (ad : Nat → Nat) (S : St) (sz : Nat) (x0 : Nat) (x1 : Int) (K : Option Nat → St → Prop) (rx1 : InR x1) (mc ms : Nat) (hmc : mc = bC S) (hms : ms = bL S) (h : w_J14_copyOf x0 x1 S K) : Met l yJ14_copyOf (ws_ yJ14_copyOf cJ14_copyOf 2 (Option.some (Jvm.ClassFile.FieldType.array (Jvm.ClassFile.FieldType.object "java/lang/Object")))) (rmD 2 mc ms) (va_Pc [.ref x0, iV x1] (tPre D dA ad S sz)) (va_Qq (fun r S' => K r S') (sPost D dA wX ad (wA wX ad S sz)) (wA wX ad S sz)) mc ms (wA wX ad S sz) := by
  refine Met.ofW (cc := cJ14_copyOf) (maxL := 2) (ret := (Option.some (Jvm.ClassFile.FieldType.array (Jvm.ClassFile.FieldType.object "java/lang/Object")))) (by decide) rfl ?_
  intro p e s m args below meth c s₁ B hml hv
  obtain ⟨rfl, ⟨hsz, hK, hC⟩, hZ⟩ := hv
  have hx := B.exec
  have hb := B.bytes
  have hr := B.returns
  have hlocks := B.notSynchronized
  have hts := atoms_spec (ws := (ws_ yJ14_copyOf cJ14_copyOf 2 (Option.some (Jvm.ClassFile.FieldType.array (Jvm.ClassFile.FieldType.object "java/lang/Object"))))) B.pre
  have hts : ∀ w ∈ lw_all, w.before _ s = true := fun w h => hts w (List.mem_cons_of_mem _ h)
  have hown : s.vm.findClass RJ14 = some m.cls := findClass_of_methodNamed B.named
  clear B
  subst hsz
  have hI : sI D dA wX ad (wA wX ad S s.heap.size) s.heap S s.heap [] := hC.start
  clear hC
  generalize wA wX ad S s.heap.size = A at hI hZ ⊢
  have hl := lv_entry ([.ref x0, iV x1] : List Value) (n := 2) (Nat.le_of_ble_eq_true rfl)
  rw [lg_entry_eq]
  generalize (lg_sl ([.ref x0, iV x1] : List Value) ++ List.replicate (2 - (lg_sl ([.ref x0, iV x1] : List Value)).length) Slot.unset).toArray = ls at hl ⊢
  have hl : lv_has ls 2 [(0, .ref x0), (1, iV x1)] := hl
  have hF : CallFix p m c cJ14_copyOf 2 s _ lw_all RJ14 := ⟨hx, hb, hml, hown, hts⟩
  have hR : (headSpec (ws_ yJ14_copyOf cJ14_copyOf 2 (Option.some (Jvm.ClassFile.FieldType.array (Jvm.ClassFile.FieldType.object "java/lang/Object")))) (rmD 2 mc ms)).room.frames = 2 + 1 ∧ (headSpec (ws_ yJ14_copyOf cJ14_copyOf 2 (Option.some (Jvm.ClassFile.FieldType.array (Jvm.ClassFile.FieldType.object "java/lang/Object")))) (rmD 2 mc ms)).room.locals = 64 * 2 + 64 := ⟨rfl, rfl⟩
  have hRc : (headSpec (ws_ yJ14_copyOf cJ14_copyOf 2 (Option.some (Jvm.ClassFile.FieldType.array (Jvm.ClassFile.FieldType.object "java/lang/Object")))) (rmD 2 mc ms)).room.cells = mc ∧ (headSpec (ws_ yJ14_copyOf cJ14_copyOf 2 (Option.some (Jvm.ClassFile.FieldType.array (Jvm.ClassFile.FieldType.object "java/lang/Object")))) (rmD 2 mc ms)).room.slots = ms := ⟨rfl, rfl⟩
  generalize (headSpec (ws_ yJ14_copyOf cJ14_copyOf 2 (Option.some (Jvm.ClassFile.FieldType.array (Jvm.ClassFile.FieldType.object "java/lang/Object")))) (rmD 2 mc ms)).room = R at hR hRc ⊢
  obtain ⟨hRc, hRs⟩ := hRc
  have hcs : bOK R S 0 0 := ⟨by omega, by omega⟩
  clear hmc hms
  have hcs0 := hcs
  generalize ([.ref x0, iV x1] : List Value).toArray = args at hts hF ⊢
  generalize hQ : MQ below _ _ _ _ _ _ = Q
  unfold w_J14_copyOf at h
  refine lv_aload_n hx hb dJ14_copyOf_0 rfl (lv_at hl 0 rfl) ?_
  refine lv_iload_n hx hb dJ14_copyOf_1 rfl (lv_at hl 1 rfl) ?_
  refine lv_aload_n hx hb dJ14_copyOf_2 rfl (lv_at hl 0 rfl) ?_
  obtain ⟨n1, pf2, hg3, h⟩ := h
  refine t_getc hx hb (hl.1.trans hml.symm) hts hown q686 q1699 q687 q705 hK hI hZ hg3 (by have h1 := hR.1; have h2 := hR.2; omega) (Nat.le_of_ble_eq_true rfl) dJ14_copyOf_3 ?_
  obtain ⟨a4, b5, f6, h⟩ := h
  refine p_callSq (As := [.ref x0, iV x1, .ref (ad 2050)]) (rest := []) hF (t_J14_copyOf_2_2050 l hlt D dA ad (bset S a4 b5) _ x0 x1 _ rx1 a4.toNat b5.toNat (bC_bset _ _ _).symm (bL_bset _ _ _).symm h) (va_cwS 3 hts (lw_S q706 q707 q132 q708) rfl rfl rfl (by decide +kernel) ⟨by have h1 := hR.1; have h2 : (rmD 1 a4.toNat b5.toNat).frames = 1 + 1 := rfl; omega, by have h1 := hR.2; have h2 : (rmD 1 a4.toNat b5.toNat).locals = 64 * 1 + 64 := rfl; omega⟩) hK hI hZ hcs f6 rfl hl.1 rfl (Nat.le_of_ble_eq_true rfl) dJ14_copyOf_6 (fun r7 S8 S9 H locs cells slots h eS9 hI hcs => ?_)
  replace h := h S9 eS9
  obtain ⟨q11, e12, h⟩ := h
  rw [e12]
  show W p l e R s m args below meth c _ _ _ _ Q (F0 m _ ls [.ref q11])
  rw [← hQ]; refine W.widen (k := mc) (n := ms) (by have h1 := hcs.1; omega) (by have h1 := hcs.2; omega) ?_; exact s_qret (v := (some q11)) (K := K) hx hb hr (Or.inr ⟨_, rfl⟩) hlocks hI h dJ14_copyOf_9
theorem cXJ2_73 {p : Program} {l : Launch} {e : Env} {R : Room} {s : State} {m : MethodId} {args : Array Value} {below : List Frame} {meth : Method} {c : Code} {H : Heap} {locs : List Loc} {Q : State → Prop} {cc : ByteArray} {nL pc : Nat} {ls : Array Slot} {rest : List Value} {cells slots : Nat} {D : va_G} {dA : Nat → ClassId} {ad : Nat → Nat} {A : Nat → Prop} {H0 : Heap} {S : St} {dk : Nat} (hF : CallFix p m c cc nL s args lw_all RJ2) (hK : gK D dA s) (hI : sI D dA wX ad A H0 S H locs) (hls : ls.size = nL) (hR : R.frames = dk + 1 ∧ R.locals = 64 * dk + 64) (hd : 1 + 1 ≤ dk) (hW : (rest.map fun v => v.category).sum ≤ 8) (hf : cells ≤ R.cells ∧ slots ≤ R.slots) {x0 : Int} {x1 : Int} {x2 : Int} {K : Int → Prop} (r0 : InR x0) (r1 : InR x1) (r2 : InR x2) (h : w_J13_newLength x0 x1 x2 K) (hdg : decode cc pc = .ok (.invokestatic 73, 3)) (kk : ∀ (r : Int) (H1 : Heap) (locs1 : List Loc), InR r → K r → sI D dA wX ad A H0 S H1 locs1 → W p l e R s m args below meth c H1 locs1 cells slots Q (F0 m (pc + 3) ls (iV r :: rest))) : W p l e R s m args below meth c H locs cells slots Q (F0 m (pc) ls (iV x2 :: iV x1 :: iV x0 :: rest)) := s_callPi (As := [iV x0, iV x1, iV x2]) (rest := rest) hF (t_J13_newLength l x0 x1 x2 K r0 r1 r2 h) (va_cwS 3 hF.2.2.2.2 (lw_S q673 q674 q131 q675) rfl rfl rfl (by decide +kernel) ⟨by have h1 := hR.1; have h2 : (rmD 1 0 0).frames = 1 + 1 := rfl; omega, by have h1 := hR.2; have h2 : (rmD 1 0 0).locals = 64 * 1 + 64 := rfl; omega⟩) hI rfl hls rfl hW hdg hf kk
set_option maxHeartbeats 4000000 in
theorem t_J2_grow_2 (l : Launch) (hlt : l.stackTraces = false) (D : va_G) (dA : Nat → ClassId) (ad : Nat → Nat) (S : St) (sz : Nat) (x0 : Nat) (x1 : Int) (K : Option Nat → St → Prop) (rx1 : InR x1) (mc ms : Nat) (hmc : mc = bC S) (hms : ms = bL S) (h : w_J2_grow_2 x0 x1 S K) : Met l yJ2_grow_2 (ws_ yJ2_grow_2 cJ2_grow_2 4 (Option.some (Jvm.ClassFile.FieldType.array (Jvm.ClassFile.FieldType.object "java/lang/Object")))) (rmD 3 mc ms) (va_Pc [.ref x0, iV x1] (tPre D dA ad S sz)) (va_Qq (fun r S' => K r S') (sPost D dA wX ad (wA wX ad S sz)) (wA wX ad S sz)) mc ms (wA wX ad S sz) := by
  refine Met.ofW (cc := cJ2_grow_2) (maxL := 4) (ret := (Option.some (Jvm.ClassFile.FieldType.array (Jvm.ClassFile.FieldType.object "java/lang/Object")))) (by decide) rfl ?_
  intro p e s m args below meth c s₁ B hml hv
  obtain ⟨rfl, ⟨hsz, hK, hC⟩, hZ⟩ := hv
  have hx := B.exec
  have hb := B.bytes
  have hr := B.returns
  have hlocks := B.notSynchronized
  have hts := atoms_spec (ws := (ws_ yJ2_grow_2 cJ2_grow_2 4 (Option.some (Jvm.ClassFile.FieldType.array (Jvm.ClassFile.FieldType.object "java/lang/Object"))))) B.pre
  have hts : ∀ w ∈ lw_all, w.before _ s = true := fun w h => hts w (List.mem_cons_of_mem _ h)
  have hown : s.vm.findClass RJ2 = some m.cls := findClass_of_methodNamed B.named
  clear B
  subst hsz
  have hI : sI D dA wX ad (wA wX ad S s.heap.size) s.heap S s.heap [] := hC.start
  clear hC
  generalize wA wX ad S s.heap.size = A at hI hZ ⊢
  have hl := lv_entry ([.ref x0, iV x1] : List Value) (n := 4) (Nat.le_of_ble_eq_true rfl)
  rw [lg_entry_eq]
  generalize (lg_sl ([.ref x0, iV x1] : List Value) ++ List.replicate (4 - (lg_sl ([.ref x0, iV x1] : List Value)).length) Slot.unset).toArray = ls at hl ⊢
  have hl : lv_has ls 4 [(0, .ref x0), (1, iV x1)] := hl
  have hF : CallFix p m c cJ2_grow_2 4 s _ lw_all RJ2 := ⟨hx, hb, hml, hown, hts⟩
  have hR : (headSpec (ws_ yJ2_grow_2 cJ2_grow_2 4 (Option.some (Jvm.ClassFile.FieldType.array (Jvm.ClassFile.FieldType.object "java/lang/Object")))) (rmD 3 mc ms)).room.frames = 3 + 1 ∧ (headSpec (ws_ yJ2_grow_2 cJ2_grow_2 4 (Option.some (Jvm.ClassFile.FieldType.array (Jvm.ClassFile.FieldType.object "java/lang/Object")))) (rmD 3 mc ms)).room.locals = 64 * 3 + 64 := ⟨rfl, rfl⟩
  have hRc : (headSpec (ws_ yJ2_grow_2 cJ2_grow_2 4 (Option.some (Jvm.ClassFile.FieldType.array (Jvm.ClassFile.FieldType.object "java/lang/Object")))) (rmD 3 mc ms)).room.cells = mc ∧ (headSpec (ws_ yJ2_grow_2 cJ2_grow_2 4 (Option.some (Jvm.ClassFile.FieldType.array (Jvm.ClassFile.FieldType.object "java/lang/Object")))) (rmD 3 mc ms)).room.slots = ms := ⟨rfl, rfl⟩
  generalize (headSpec (ws_ yJ2_grow_2 cJ2_grow_2 4 (Option.some (Jvm.ClassFile.FieldType.array (Jvm.ClassFile.FieldType.object "java/lang/Object")))) (rmD 3 mc ms)).room = R at hR hRc ⊢
  obtain ⟨hRc, hRs⟩ := hRc
  have hcs : bOK R S 0 0 := ⟨by omega, by omega⟩
  clear hmc hms
  have hcs0 := hcs
  generalize ([.ref x0, iV x1] : List Value).toArray = args at hts hF ⊢
  generalize hQ : MQ below _ _ _ _ _ _ = Q
  have J20 : ∀ (x0 : Nat) (x1 : Int) (x2 : Int) (S : St) (H : Heap) (locs : List Loc) (ls : Array Slot) (cells slots : Nat), InR x1 → InR x2 → (sI D dA wX ad A s.heap S H locs ∧ bOK R S cells slots) → lv_has ls 4 [(0, .ref x0), (1, iV x1), (2, iV x2)] → j_J2_grow_2_20 x0 x1 x2 S K → W p l e R s m args below meth c H locs cells slots Q (F0 m 20 ls []) := by
    intro x0 x1 x2 S H locs ls cells slots rx1 rx2 hI hl h
    obtain ⟨hI, hcs⟩ := hI
    unfold j_J2_grow_2_20 at h
    refine lv_iload_n hx hb dJ2_grow_2_20 rfl (lv_at hl 2 rfl) ?_
    refine lv_iload_n hx hb dJ2_grow_2_21 rfl (lv_at hl 1 rfl) ?_
    refine lv_iload_n hx hb dJ2_grow_2_22 rfl (lv_at hl 2 rfl) ?_
    have f1 := h.1; replace h := h.2
    refine nr_isub hx hb dJ2_grow_2_23 ?_
    refine lv_iload_n hx hb dJ2_grow_2_24 rfl (lv_at hl 2 rfl) ?_
    refine nr_iconst hx hb dJ2_grow_2_25 ?_
    refine nr_ishr hx hb (by decide) rx2 dJ2_grow_2_26 ?_
    have f2 : InR (x2 / 2 ^ (Int.toNat 1)) := ni_shrR rx2
    refine cXJ2_73 hF hK hI hl.1 hR (by decide) (Nat.le_of_ble_eq_true rfl) (cs0 hcs) rx2 f1 f2 h dJ2_grow_2_27 (fun r3 H locs fr3 h hI => ?_)
    replace h := h fr3
    refine lv_istore_n (lv' := [(3, iV r3), (0, .ref x0), (1, iV x1), (2, iV x2)]) hx hb dJ2_grow_2_30 rfl hl (by decide) rfl (fun ls hl => ?_)
    refine lv_aload_n hx hb dJ2_grow_2_31 rfl (lv_at hl 1 rfl) ?_
    refine lv_aload_n hx hb dJ2_grow_2_32 rfl (lv_at hl 1 rfl) ?_
    obtain ⟨fs5, v8, hg6, hv7, h⟩ := h
    refine gPJ2_9 (v := some v8) hF hK hI hg6 hv7 dJ2_grow_2_33 ?_
    show W p l e R s m args below meth c _ _ _ _ Q (F0 m _ ls [.ref v8, .ref x0])
    refine lv_iload_n hx hb dJ2_grow_2_36 rfl (lv_at hl 0 rfl) ?_
    obtain ⟨a9, b10, f11, h⟩ := h
    refine p_callSq (As := [.ref v8, iV r3]) (rest := [.ref x0]) hF (t_J14_copyOf l hlt D dA ad (bset S a9 b10) _ v8 r3 _ fr3 a9.toNat b10.toNat (bC_bset _ _ _).symm (bL_bset _ _ _).symm h) (va_cwS 2 hts (lw_S q683 q684 q132 q685) rfl rfl rfl (by decide +kernel) ⟨by have h1 := hR.1; have h2 : (rmD 2 a9.toNat b10.toNat).frames = 2 + 1 := rfl; omega, by have h1 := hR.2; have h2 : (rmD 2 a9.toNat b10.toNat).locals = 64 * 2 + 64 := rfl; omega⟩) hK hI hZ hcs f11 rfl hl.1 rfl (Nat.le_of_ble_eq_true rfl) dJ2_grow_2_37 (fun r12 S13 S14 H locs cells slots h eS14 hI hcs => ?_)
    replace h := h S14 eS14
    obtain ⟨q16, e17, h⟩ := h
    rw [e17]
    show W p l e R s m args below meth c _ _ _ _ Q (F0 m _ ls [.ref q16, .ref x0])
    refine lv_dup_x1 hx hb dJ2_grow_2_40 rfl rfl ?_
    obtain ⟨fs18, hg19, hn20, h⟩ := h
    refine uPJ2_9 hF hK hI hg19 hn20 dJ2_grow_2_41 (fun S21 H locs eS21 hI => ?_)
    replace h := h S21 eS21
    have hcs := bOK.to (S' := S21) hcs (by rw [eS21]; exact ⟨rfl, rfl⟩)
    rw [← hQ]; refine W.widen (k := mc) (n := ms) (by have h1 := hcs.1; omega) (by have h1 := hcs.2; omega) ?_; exact s_qret (v := (some q16)) (K := K) hx hb hr (Or.inr ⟨_, rfl⟩) hlocks hI h dJ2_grow_2_44
  unfold w_J2_grow_2 at h
  refine lv_aload_n hx hb dJ2_grow_2_0 rfl (lv_at hl 0 rfl) ?_
  obtain ⟨fs22, v25, hg23, hv24, h⟩ := h
  refine gPJ2_9 (v := some v25) hF hK hI hg23 hv24 dJ2_grow_2_1 ?_
  show W p l e R s m args below meth c _ _ _ _ Q (F0 m _ ls [.ref v25])
  obtain ⟨n26, pf27, hg28, h⟩ := h
  refine t_rlen hx hb hK hI hg28 dJ2_grow_2_4 (fun f29 => ?_)
  replace h := h f29
  refine nr_topi (fun v30 ev30 => ?_)
  have rv30 : InR v30 := by rw [ev30]; exact f29
  replace h := h v30 ev30 rv30
  refine lv_istore_n (lv' := [(2, iV v30), (0, .ref x0), (1, iV x1)]) hx hb dJ2_grow_2_5 rfl hl (by decide) rfl (fun ls hl => ?_)
  refine lv_iload_n hx hb dJ2_grow_2_6 rfl (lv_at hl 0 rfl) ?_
  refine nr_if_gt hx hb rv30 dJ2_grow_2_7 (tgt := 20) (by decide) (fun c31 => ?_) (fun c31 => ?_)
  · replace h := h.1 c31
    exact J20 x0 x1 v30 S _ _ _ _ _ rx1 rv30 ⟨hI, hcs⟩ (lv_sub hl [1, 2, 0] rfl) h
  · replace h := h.2 c31
    refine lv_aload_n hx hb dJ2_grow_2_10 rfl (lv_at hl 1 rfl) ?_
    obtain ⟨fs32, v35, hg33, hv34, h⟩ := h
    refine gPJ2_9 (v := some v35) hF hK hI hg33 hv34 dJ2_grow_2_11 ?_
    show W p l e R s m args below meth c _ _ _ _ Q (F0 m _ ls [.ref v35])
    refine t_empty hx hb hts hown q377 hI hZ dJ2_grow_2_14 (fun q36 hr37 hg38 => ?_)
    replace h := h q36 hr37 hg38
    refine t_acmpe hx hb dJ2_grow_2_17 (tgt := 45) (by decide) (fun c39 => ?_) (fun c39 => ?_)
    · replace h := h.1 c39
      refine lv_aload_n hx hb dJ2_grow_2_45 rfl (lv_at hl 1 rfl) ?_
      refine nr_bipush hx hb dJ2_grow_2_46 (by decide) ?_
      refine lv_iload_n hx hb dJ2_grow_2_48 rfl (lv_at hl 2 rfl) ?_
      refine s_max hx hb (hl.1.trans hml.symm) hown hts q714 q677 q119 q678 (by have h1 := hR.1; have h2 := hR.2; omega) (cs0 hcs) (Nat.le_of_ble_eq_true rfl) (by decide) rx1 dJ2_grow_2_49 ?_
      have f40 : InR (max 10 x1) := nr_mxR (by decide) rx1
      have f43 := h.1; replace h := h.2
      have f44 := h.1; replace h := h.2
      refine t_newq hx hb hts hown q715 hK hI hcs f40 f43 f44 dJ2_grow_2_52 (fun q41 S42 H cells slots hqq41 eS42 hI hcs => ?_)
      replace h := h q41 S42 hqq41 eS42
      refine lv_dup_x1 hx hb dJ2_grow_2_55 rfl rfl ?_
      obtain ⟨fs45, hg46, hn47, h⟩ := h
      refine uPJ2_9 hF hK hI hg46 hn47 dJ2_grow_2_56 (fun S48 H locs eS48 hI => ?_)
      replace h := h S48 eS48
      have hcs := bOK.to (S' := S48) hcs (by rw [eS48]; exact ⟨rfl, rfl⟩)
      rw [← hQ]; refine W.widen (k := mc) (n := ms) (by have h1 := hcs.1; omega) (by have h1 := hcs.2; omega) ?_; exact s_qret (v := (some q41)) (K := K) hx hb hr (Or.inr ⟨_, rfl⟩) hlocks hI h dJ2_grow_2_59
    · replace h := h.2 c39
      exact J20 x0 x1 v30 S _ _ _ _ _ rx1 rv30 ⟨hI, hcs⟩ (lv_sub hl [1, 2, 0] rfl) h
