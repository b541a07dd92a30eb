set_option maxRecDepth 100000
set_option maxHeartbeats 4000000 in
theorem t_J5_checkIndex_null (l : Launch) (x0 : Int) (x1 : Int) (K : Int → Prop) (rx0 : InR x0) (rx1 : InR x1) (h : w_J5_checkIndex_null x0 x1 K) : Met l yJ5_checkIndex (ws_ yJ5_checkIndex cJ5_checkIndex 3 (Option.some Jvm.ClassFile.FieldType.int)) (rmD 0 0 0) (va_Pc [iV x0, iV x1, .null] (fun _ => True)) (va_Qi (fun r (_ : Unit) => K r.toInt) (fun _ _ => True) (fun _ => False)) 0 0 (fun _ => False) := by
  refine Met.ofW (cc := cJ5_checkIndex) (maxL := 3) (ret := (Option.some Jvm.ClassFile.FieldType.int)) (by decide) rfl ?_
  intro p e s m args below meth c s₁ B hml hv
  obtain ⟨rfl, -⟩ := hv
  have hx := B.exec
  have hb := B.bytes
  have hr := B.returns
  have hlocks := B.notSynchronized
  have hts := atoms_spec (ws := (ws_ yJ5_checkIndex cJ5_checkIndex 3 (Option.some Jvm.ClassFile.FieldType.int))) B.pre
  have hts : ∀ w ∈ lw_all, w.before _ s = true := fun w h => hts w (List.mem_cons_of_mem _ h)
  have hown : s.vm.findClass RJ5 = some m.cls := findClass_of_methodNamed B.named
  clear B
  have hI : va_S (fun _ => False) s.heap s.heap [] := va_S.rf
  have hl := lv_entry ([iV x0, iV x1, .null] : List Value) (n := 3) (Nat.le_of_ble_eq_true rfl)
  rw [lg_entry_eq]
  generalize (lg_sl ([iV x0, iV x1, .null] : List Value) ++ List.replicate (3 - (lg_sl ([iV x0, iV x1, .null] : List Value)).length) Slot.unset).toArray = ls at hl ⊢
  have hl : lv_has ls 3 [(0, iV x0), (1, iV x1), (2, .null)] := hl
  have hF : CallFix p m c cJ5_checkIndex 3 s _ lw_all RJ5 := ⟨hx, hb, hml, hown, hts⟩
  have hR : (headSpec (ws_ yJ5_checkIndex cJ5_checkIndex 3 (Option.some Jvm.ClassFile.FieldType.int)) (rmD 0 0 0)).room.frames = 0 + 1 ∧ (headSpec (ws_ yJ5_checkIndex cJ5_checkIndex 3 (Option.some Jvm.ClassFile.FieldType.int)) (rmD 0 0 0)).room.locals = 64 * 0 + 64 := ⟨rfl, rfl⟩
  generalize (headSpec (ws_ yJ5_checkIndex cJ5_checkIndex 3 (Option.some Jvm.ClassFile.FieldType.int)) (rmD 0 0 0)).room = R at hR ⊢
  generalize ([iV x0, iV x1, .null] : List Value).toArray = args at hts hF ⊢
  generalize hQ : MQ below _ _ _ _ _ _ = Q
  unfold w_J5_checkIndex_null at h
  refine lv_iload_n hx hb dJ5_checkIndex_0 rfl (lv_at hl 0 rfl) ?_
  refine nr_if_lt hx hb rx0 dJ5_checkIndex_1 (tgt := 9) (by decide) (fun c1 => ?_) (fun c1 => ?_)
  · replace h := h.1 c1
    exact h.elim
  · replace h := h.2 c1
    refine lv_iload_n hx hb dJ5_checkIndex_4 rfl (lv_at hl 0 rfl) ?_
    refine lv_iload_n hx hb dJ5_checkIndex_5 rfl (lv_at hl 1 rfl) ?_
    refine nr_icmp_lt hx hb rx0 rx1 dJ5_checkIndex_6 (tgt := 16) (by decide) (fun c2 => ?_) (fun c2 => ?_)
    · replace h := h.1 c2
      refine lv_iload_n hx hb dJ5_checkIndex_16 rfl (lv_at hl 0 rfl) ?_
      rw [← hQ]; exact p_iret (K := K) hx hb hr hlocks hI rx0 h dJ5_checkIndex_17
    · replace h := h.2 c2
      exact h.elim
theorem cqXJ15_105_null {p : Program} {l : Launch} {e : Env} {R : Room} {s : State} {m : MethodId} {args : Array Value} {below : List Frame} {meth : Method} {c : Code} {H : Heap} {locs : List Loc} {Q : State → Prop} {cc : ByteArray} {nL pc : Nat} {ls : Array Slot} {rest : List Value} {cells slots : Nat} {A : Nat → Prop} {H0 : Heap} {dk : Nat} (hF : CallFix p m c cc nL s args lw_all RJ15) (hI : va_S A H0 H locs) (hls : ls.size = nL) (hR : R.frames = dk + 1 ∧ R.locals = 64 * dk + 64) (hd : 0 + 1 ≤ dk) (hW : (rest.map fun v => v.category).sum ≤ 8) (hf : cells ≤ R.cells ∧ slots ≤ R.slots) {x0 : Int} {x1 : Int} {K : Int → Prop} (r0 : InR x0) (r1 : InR x1) (h : w_J5_checkIndex_null x0 x1 K) (hdg : decode cc pc = .ok (.invokestatic 105, 3)) (kk : ∀ (r : Int) (H1 : Heap) (locs1 : List Loc), InR r → K r → va_S A H0 H1 locs1 → W p l e R s m args below meth c H1 locs1 cells slots Q (F0 m (pc + 3) ls (iV r :: rest))) : W p l e R s m args below meth c H locs cells slots Q (F0 m (pc) ls (.null :: iV x1 :: iV x0 :: rest)) := p_callPi (As := [iV x0, iV x1, .null]) (rest := rest) hF (t_J5_checkIndex_null l x0 x1 K r0 r1 h) (va_cwS 3 hF.2.2.2.2 (lw_S q776 q457 q117 q458) rfl rfl rfl (by decide +kernel) ⟨by have h1 := hR.1; have h2 : (rmD 0 0 0).frames = 0 + 1 := rfl; omega, by have h1 := hR.2; have h2 : (rmD 0 0 0).locals = 64 * 0 + 64 := rfl; omega⟩) hI rfl hls rfl hW hdg hf kk
set_option maxHeartbeats 4000000 in
theorem t_J15_checkIndex (l : Launch) (x0 : Int) (x1 : Int) (K : Int → Prop) (rx0 : InR x0) (rx1 : InR x1) (h : w_J15_checkIndex x0 x1 K) : Met l yJ15_checkIndex (ws_ yJ15_checkIndex cJ15_checkIndex 2 (Option.some Jvm.ClassFile.FieldType.int)) (rmD 1 0 0) (va_Pc [iV x0, iV x1] (fun _ => True)) (va_Qi (fun r (_ : Unit) => K r.toInt) (fun _ _ => True) (fun _ => False)) 0 0 (fun _ => False) := by
  refine Met.ofW (cc := cJ15_checkIndex) (maxL := 2) (ret := (Option.some Jvm.ClassFile.FieldType.int)) (by decide) rfl ?_
  intro p e s m args below meth c s₁ B hml hv
  obtain ⟨rfl, -⟩ := hv
  have hx := B.exec
  have hb := B.bytes
  have hr := B.returns
  have hlocks := B.notSynchronized
  have hts := atoms_spec (ws := (ws_ yJ15_checkIndex cJ15_checkIndex 2 (Option.some Jvm.ClassFile.FieldType.int))) B.pre
  have hts : ∀ w ∈ lw_all, w.before _ s = true := fun w h => hts w (List.mem_cons_of_mem _ h)
  have hown : s.vm.findClass RJ15 = some m.cls := findClass_of_methodNamed B.named
  clear B
  have hI : va_S (fun _ => False) s.heap s.heap [] := va_S.rf
  have hl := lv_entry ([iV x0, iV x1] : List Value) (n := 2) (Nat.le_of_ble_eq_true rfl)
  rw [lg_entry_eq]
  generalize (lg_sl ([iV x0, iV x1] : List Value) ++ List.replicate (2 - (lg_sl ([iV x0, iV x1] : List Value)).length) Slot.unset).toArray = ls at hl ⊢
  have hl : lv_has ls 2 [(0, iV x0), (1, iV x1)] := hl
  have hF : CallFix p m c cJ15_checkIndex 2 s _ lw_all RJ15 := ⟨hx, hb, hml, hown, hts⟩
  have hR : (headSpec (ws_ yJ15_checkIndex cJ15_checkIndex 2 (Option.some Jvm.ClassFile.FieldType.int)) (rmD 1 0 0)).room.frames = 1 + 1 ∧ (headSpec (ws_ yJ15_checkIndex cJ15_checkIndex 2 (Option.some Jvm.ClassFile.FieldType.int)) (rmD 1 0 0)).room.locals = 64 * 1 + 64 := ⟨rfl, rfl⟩
  generalize (headSpec (ws_ yJ15_checkIndex cJ15_checkIndex 2 (Option.some Jvm.ClassFile.FieldType.int)) (rmD 1 0 0)).room = R at hR ⊢
  generalize ([iV x0, iV x1] : List Value).toArray = args at hts hF ⊢
  generalize hQ : MQ below _ _ _ _ _ _ = Q
  unfold w_J15_checkIndex at h
  refine lv_iload_n hx hb dJ15_checkIndex_0 rfl (lv_at hl 0 rfl) ?_
  refine lv_iload_n hx hb dJ15_checkIndex_1 rfl (lv_at hl 1 rfl) ?_
  refine lv_null hx hb dJ15_checkIndex_2 ?_
  refine cqXJ15_105_null hF hI hl.1 hR (by decide) (Nat.le_of_ble_eq_true rfl) ⟨Nat.zero_le _, Nat.zero_le _⟩ rx0 rx1 h dJ15_checkIndex_3 (fun r1 H locs fr1 h hI => ?_)
  replace h := h fr1
  rw [← hQ]; exact p_iret (K := K) hx hb hr hlocks hI fr1 h dJ15_checkIndex_6
theorem gPJ2_48 {p : Program} {l : Launch} {e : Env} {R : Room} {s : State} {m : MethodId} {args : Array Value} {below : List Frame} {meth : Method} {c : Code} {H : Heap} {locs : List Loc} {Q : State → Prop} {cc : ByteArray} {nL pc : Nat} {ls : Array Slot} {rest : List Value} {cells slots : Nat} {w : Wd} {D : va_G} {dA : Nat → ClassId} {ad : Nat → Nat} {A : Nat → Prop} {H0 : Heap} {S : St} {q : Nat} {fs : List PV} {v : Int} (hF : CallFix p m c cc nL s args lw_all RJ2) (hK : gK D dA s) (hI : sI D dA w ad A H0 S H locs) (hg : gI S q = some (.inr (.inl (14, fs)))) (hv : fs[2]? = some (.inl v)) (hdg : decode cc pc = .ok (.getfield 48, 3)) (kk : InR v → W p l e R s m args below meth c H locs cells slots Q (F0 m (pc + 3) ls (iV v :: rest))) : W p l e R s m args below meth c H locs cells slots Q (F0 m (pc) ls (.ref q :: rest)) := s_pgi hF.1 hF.2.1 hF.2.2.2.2 hF.2.2.2.1 hK hI hg rfl in_J2 2 (by decide) q380 rfl hv hdg kk
set_option maxHeartbeats 4000000 in
theorem t_J2_size (l : Launch) (D : va_G) (dA : Nat → ClassId) (ad : Nat → Nat) (S : St) (sz : Nat) (x0 : Nat) (K : Int → Prop) (h : w_J2_size x0 S K) : Met l yJ2_size (ws_ yJ2_size cJ2_size 1 (Option.some Jvm.ClassFile.FieldType.int)) (rmD 0 0 0) (va_Pc [.ref x0] (sPre D dA wX ad S sz)) (va_Qi (fun r S' => S' = S ∧ K r.toInt) (sPost D dA wX ad (wA wX ad S sz)) (wA wX ad S sz)) 0 0 (wA wX ad S sz) := by
  refine Met.ofW (cc := cJ2_size) (maxL := 1) (ret := (Option.some Jvm.ClassFile.FieldType.int)) (by decide) rfl ?_
  intro p e s m args below meth c s₁ B hml hv
  obtain ⟨rfl, hsz, hK, hC⟩ := hv
  have hx := B.exec
  have hb := B.bytes
  have hr := B.returns
  have hlocks := B.notSynchronized
  have hts := atoms_spec (ws := (ws_ yJ2_size cJ2_size 1 (Option.some Jvm.ClassFile.FieldType.int))) B.pre
  have hts : ∀ w ∈ lw_all, w.before _ s = true := fun w h => hts w (List.mem_cons_of_mem _ h)
  have hown : s.vm.findClass RJ2 = some m.cls := findClass_of_methodNamed B.named
  clear B
  subst hsz
  have hI : sI D dA wX ad (wA wX ad S s.heap.size) s.heap S s.heap [] := hC.start
  clear hC
  generalize wA wX ad S s.heap.size = A at hI ⊢
  have hl := lv_entry ([.ref x0] : List Value) (n := 1) (Nat.le_of_ble_eq_true rfl)
  rw [lg_entry_eq]
  generalize (lg_sl ([.ref x0] : List Value) ++ List.replicate (1 - (lg_sl ([.ref x0] : List Value)).length) Slot.unset).toArray = ls at hl ⊢
  have hl : lv_has ls 1 [(0, .ref x0)] := hl
  have hF : CallFix p m c cJ2_size 1 s _ lw_all RJ2 := ⟨hx, hb, hml, hown, hts⟩
  have hR : (headSpec (ws_ yJ2_size cJ2_size 1 (Option.some Jvm.ClassFile.FieldType.int)) (rmD 0 0 0)).room.frames = 0 + 1 ∧ (headSpec (ws_ yJ2_size cJ2_size 1 (Option.some Jvm.ClassFile.FieldType.int)) (rmD 0 0 0)).room.locals = 64 * 0 + 64 := ⟨rfl, rfl⟩
  generalize (headSpec (ws_ yJ2_size cJ2_size 1 (Option.some Jvm.ClassFile.FieldType.int)) (rmD 0 0 0)).room = R at hR ⊢
  generalize ([.ref x0] : List Value).toArray = args at hts hF ⊢
  generalize hQ : MQ below _ _ _ _ _ _ = Q
  unfold w_J2_size at h
  refine lv_aload_n hx hb dJ2_size_0 rfl (lv_at hl 0 rfl) ?_
  obtain ⟨fs1, v4, hg2, hv3, h⟩ := h
  refine gPJ2_48 hF hK hI hg2 hv3 dJ2_size_1 (fun f5 => ?_)
  replace h := h f5
  rw [← hQ]; exact s_iret (K := fun r S' => S' = S ∧ K r) hx hb hr hlocks hI f5 ⟨rfl, h⟩ dJ2_size_4
theorem gPJ2_9 {p : Program} {l : Launch} {e : Env} {R : Room} {s : State} {m : MethodId} {args : Array Value} {below : List Frame} {meth : Method} {c : Code} {H : Heap} {locs : List Loc} {Q : State → Prop} {cc : ByteArray} {nL pc : Nat} {ls : Array Slot} {rest : List Value} {cells slots : Nat} {w : Wd} {D : va_G} {dA : Nat → ClassId} {ad : Nat → Nat} {A : Nat → Prop} {H0 : Heap} {S : St} {q : Nat} {fs : List PV} {v : Option Nat} (hF : CallFix p m c cc nL s args lw_all RJ2) (hK : gK D dA s) (hI : sI D dA w ad A H0 S H locs) (hg : gI S q = some (.inr (.inl (14, fs)))) (hv : fs[1]? = some (.inr (.inr v))) (hdg : decode cc pc = .ok (.getfield 9, 3)) (kk : W p l e R s m args below meth c H locs cells slots Q (F0 m (pc + 3) ls (va_rf v :: rest))) : W p l e R s m args below meth c H locs cells slots Q (F0 m (pc) ls (.ref q :: rest)) := s_pgr hF.1 hF.2.1 hF.2.2.2.2 hF.2.2.2.1 hK hI hg rfl in_J2 1 (by decide) q379 rfl hv hdg kk
set_option maxHeartbeats 4000000 in
theorem t_J2_elementData (l : Launch) (D : va_G) (dA : Nat → ClassId) (ad : Nat → Nat) (S : St) (sz : Nat) (x0 : Nat) (x1 : Int) (K : Option Nat → Prop) (rx1 : InR x1) (h : w_J2_elementData x0 x1 S K) : Met l yJ2_elementData (ws_ yJ2_elementData cJ2_elementData 2 (Option.some (Jvm.ClassFile.FieldType.object "java/lang/Object"))) (rmD 0 0 0) (va_Pc [.ref x0, iV x1] (sPre D dA wX ad S sz)) (va_Qq (fun r S' => S' = S ∧ K r) (sPost D dA wX ad (wA wX ad S sz)) (wA wX ad S sz)) 0 0 (wA wX ad S sz) := by
  refine Met.ofW (cc := cJ2_elementData) (maxL := 2) (ret := (Option.some (Jvm.ClassFile.FieldType.object "java/lang/Object"))) (by decide) rfl ?_
  intro p e s m args below meth c s₁ B hml hv
  obtain ⟨rfl, hsz, hK, hC⟩ := hv
  have hx := B.exec
  have hb := B.bytes
  have hr := B.returns
  have hlocks := B.notSynchronized
  have hts := atoms_spec (ws := (ws_ yJ2_elementData cJ2_elementData 2 (Option.some (Jvm.ClassFile.FieldType.object "java/lang/Object")))) B.pre
  have hts : ∀ w ∈ lw_all, w.before _ s = true := fun w h => hts w (List.mem_cons_of_mem _ h)
  have hown : s.vm.findClass RJ2 = some m.cls := findClass_of_methodNamed B.named
  clear B
  subst hsz
  have hI : sI D dA wX ad (wA wX ad S s.heap.size) s.heap S s.heap [] := hC.start
  clear hC
  generalize wA wX ad S s.heap.size = A at hI ⊢
  have hl := lv_entry ([.ref x0, iV x1] : List Value) (n := 2) (Nat.le_of_ble_eq_true rfl)
  rw [lg_entry_eq]
  generalize (lg_sl ([.ref x0, iV x1] : List Value) ++ List.replicate (2 - (lg_sl ([.ref x0, iV x1] : List Value)).length) Slot.unset).toArray = ls at hl ⊢
  have hl : lv_has ls 2 [(0, .ref x0), (1, iV x1)] := hl
  have hF : CallFix p m c cJ2_elementData 2 s _ lw_all RJ2 := ⟨hx, hb, hml, hown, hts⟩
  have hR : (headSpec (ws_ yJ2_elementData cJ2_elementData 2 (Option.some (Jvm.ClassFile.FieldType.object "java/lang/Object"))) (rmD 0 0 0)).room.frames = 0 + 1 ∧ (headSpec (ws_ yJ2_elementData cJ2_elementData 2 (Option.some (Jvm.ClassFile.FieldType.object "java/lang/Object"))) (rmD 0 0 0)).room.locals = 64 * 0 + 64 := ⟨rfl, rfl⟩
  generalize (headSpec (ws_ yJ2_elementData cJ2_elementData 2 (Option.some (Jvm.ClassFile.FieldType.object "java/lang/Object"))) (rmD 0 0 0)).room = R at hR ⊢
  generalize ([.ref x0, iV x1] : List Value).toArray = args at hts hF ⊢
  generalize hQ : MQ below _ _ _ _ _ _ = Q
  unfold w_J2_elementData at h
  refine lv_aload_n hx hb dJ2_elementData_0 rfl (lv_at hl 0 rfl) ?_
  obtain ⟨fs1, v4, hg2, hv3, h⟩ := h
  refine gPJ2_9 (v := some v4) hF hK hI hg2 hv3 dJ2_elementData_1 ?_
  show W p l e R s m args below meth c _ _ _ _ Q (F0 m _ ls [.ref v4])
  refine lv_iload_n hx hb dJ2_elementData_4 rfl (lv_at hl 1 rfl) ?_
  obtain ⟨pn5, pf6, hp7, f8, h⟩ := h
  refine s_aaldP hx hb hK hI hp7 rx1 f8 dJ2_elementData_5 ?_
  rw [← hQ]; exact s_qret (v := pf6 x1) (K := fun r S' => S' = S ∧ K r) hx hb hr (Or.inl ⟨_, rfl⟩) hlocks hI ⟨rfl, h⟩ dJ2_elementData_6
theorem cXJ2_118 {p : Program} {l : Launch} {e : Env} {R : Room} {s : State} {m : MethodId} {args : Array Value} {below : List Frame} {meth : Method} {c : Code} {H : Heap} {locs : List Loc} {Q : State → Prop} {cc : ByteArray} {nL pc : Nat} {ls : Array Slot} {rest : List Value} {cells slots : Nat} {D : va_G} {dA : Nat → ClassId} {ad : Nat → Nat} {A : Nat → Prop} {H0 : Heap} {S : St} {dk : Nat} (hF : CallFix p m c cc nL s args lw_all RJ2) (hK : gK D dA s) (hI : sI D dA wX ad A H0 S H locs) (hls : ls.size = nL) (hR : R.frames = dk + 1 ∧ R.locals = 64 * dk + 64) (hd : 1 + 1 ≤ dk) (hW : (rest.map fun v => v.category).sum ≤ 8) (hf : cells ≤ R.cells ∧ slots ≤ R.slots) {x0 : Int} {x1 : Int} {K : Int → Prop} (r0 : InR x0) (r1 : InR x1) (h : w_J15_checkIndex x0 x1 K) (hdg : decode cc pc = .ok (.invokestatic 118, 3)) (kk : ∀ (r : Int) (H1 : Heap) (locs1 : List Loc), InR r → K r → sI D dA wX ad A H0 S H1 locs1 → W p l e R s m args below meth c H1 locs1 cells slots Q (F0 m (pc + 3) ls (iV r :: rest))) : W p l e R s m args below meth c H locs cells slots Q (F0 m (pc) ls (iV x1 :: iV x0 :: rest)) := s_callPi (As := [iV x0, iV x1]) (rest := rest) hF (t_J15_checkIndex l x0 x1 K r0 r1 h) (va_cwS 2 hF.2.2.2.2 (lw_S q773 q774 q135 q775) rfl rfl rfl (by decide +kernel) ⟨by have h1 := hR.1; have h2 : (rmD 1 0 0).frames = 1 + 1 := rfl; omega, by have h1 := hR.2; have h2 : (rmD 1 0 0).locals = 64 * 1 + 64 := rfl; omega⟩) hI rfl hls rfl hW hdg hf kk
theorem cXJ2_123 {p : Program} {l : Launch} {e : Env} {R : Room} {s : State} {m : MethodId} {args : Array Value} {below : List Frame} {meth : Method} {c : Code} {H : Heap} {locs : List Loc} {Q : State → Prop} {cc : ByteArray} {nL pc : Nat} {ls : Array Slot} {rest : List Value} {cells slots : Nat} {D : va_G} {dA : Nat → ClassId} {ad : Nat → Nat} {A : Nat → Prop} {H0 : Heap} {S : St} {dk : Nat} (hF : CallFix p m c cc nL s args lw_all RJ2) (hK : gK D dA s) (hI : sI D dA wX ad A H0 S H locs) (hls : ls.size = nL) (hR : R.frames = dk + 1 ∧ R.locals = 64 * dk + 64) (hd : 0 + 1 ≤ dk) (hW : (rest.map fun v => v.category).sum ≤ 8) (hf : cells ≤ R.cells ∧ slots ≤ R.slots) {x0 : Nat} {x1 : Int} {K : Option Nat → Prop} (hg0 : ∃ fs : List PV, gI S x0 = some (.inr (.inl (14, fs)))) (r1 : InR x1) (h : w_J2_elementData x0 x1 S K) (hdg : decode cc pc = .ok (.invokevirtual 123, 3)) (kk : ∀ (r : Option Nat) (H1 : Heap) (locs1 : List Loc), K r → sI D dA wX ad A H0 S H1 locs1 → W p l e R s m args below meth c H1 locs1 cells slots Q (F0 m (pc + 3) ls (va_rf r :: rest))) : W p l e R s m args below meth c H locs cells slots Q (F0 m (pc) ls (iV x1 :: .ref x0 :: rest)) := s_callVq (As := [iV x1]) (rest := rest) (K := fun r S' => S' = S ∧ K r) hF (t_J2_elementData l D dA ad S H.size x0 x1 K r1 h) (by obtain ⟨fs, hg⟩ := hg0; exact s_recvP hK hI hg rfl) (cwV 1 hF.2.2.2.2 (lw_V q777 q778 q779 q114 q780) rfl rfl rfl (by decide +kernel) ⟨by have h1 := hR.1; have h2 : (rmD 0 0 0).frames = 0 + 1 := rfl; omega, by have h1 := hR.2; have h2 : (rmD 0 0 0).locals = 64 * 0 + 64 := rfl; omega⟩) hK hI rfl hls rfl hW hdg hf (fun r S1 H1 locs1 hk hI1 => by obtain ⟨rfl, hk⟩ := hk; exact kk r H1 locs1 hk hI1)
set_option maxHeartbeats 4000000 in
theorem t_J2_get (l : Launch) (D : va_G) (dA : Nat → ClassId) (ad : Nat → Nat) (S : St) (sz : Nat) (x0 : Nat) (x1 : Int) (K : Option Nat → Prop) (rx1 : InR x1) (h : w_J2_get x0 x1 S K) : Met l yJ2_get (ws_ yJ2_get cJ2_get 2 (Option.some (Jvm.ClassFile.FieldType.object "java/lang/Object"))) (rmD 2 0 0) (va_Pc [.ref x0, iV x1] (sPre D dA wX ad S sz)) (va_Qq (fun r S' => S' = S ∧ K r) (sPost D dA wX ad (wA wX ad S sz)) (wA wX ad S sz)) 0 0 (wA wX ad S sz) := by
  refine Met.ofW (cc := cJ2_get) (maxL := 2) (ret := (Option.some (Jvm.ClassFile.FieldType.object "java/lang/Object"))) (by decide) rfl ?_
  intro p e s m args below meth c s₁ B hml hv
  obtain ⟨rfl, hsz, hK, hC⟩ := hv
  have hx := B.exec
  have hb := B.bytes
  have hr := B.returns
  have hlocks := B.notSynchronized
  have hts := atoms_spec (ws := (ws_ yJ2_get cJ2_get 2 (Option.some (Jvm.ClassFile.FieldType.object "java/lang/Object")))) B.pre
  have hts : ∀ w ∈ lw_all, w.before _ s = true := fun w h => hts w (List.mem_cons_of_mem _ h)
  have hown : s.vm.findClass RJ2 = some m.cls := findClass_of_methodNamed B.named
  clear B
  subst hsz
  have hI : sI D dA wX ad (wA wX ad S s.heap.size) s.heap S s.heap [] := hC.start
  clear hC
  generalize wA wX ad S s.heap.size = A at hI ⊢
  have hl := lv_entry ([.ref x0, iV x1] : List Value) (n := 2) (Nat.le_of_ble_eq_true rfl)
  rw [lg_entry_eq]
  generalize (lg_sl ([.ref x0, iV x1] : List Value) ++ List.replicate (2 - (lg_sl ([.ref x0, iV x1] : List Value)).length) Slot.unset).toArray = ls at hl ⊢
  have hl : lv_has ls 2 [(0, .ref x0), (1, iV x1)] := hl
  have hF : CallFix p m c cJ2_get 2 s _ lw_all RJ2 := ⟨hx, hb, hml, hown, hts⟩
  have hR : (headSpec (ws_ yJ2_get cJ2_get 2 (Option.some (Jvm.ClassFile.FieldType.object "java/lang/Object"))) (rmD 2 0 0)).room.frames = 2 + 1 ∧ (headSpec (ws_ yJ2_get cJ2_get 2 (Option.some (Jvm.ClassFile.FieldType.object "java/lang/Object"))) (rmD 2 0 0)).room.locals = 64 * 2 + 64 := ⟨rfl, rfl⟩
  generalize (headSpec (ws_ yJ2_get cJ2_get 2 (Option.some (Jvm.ClassFile.FieldType.object "java/lang/Object"))) (rmD 2 0 0)).room = R at hR ⊢
  generalize ([.ref x0, iV x1] : List Value).toArray = args at hts hF ⊢
  generalize hQ : MQ below _ _ _ _ _ _ = Q
  unfold w_J2_get at h
  refine lv_iload_n hx hb dJ2_get_0 rfl (lv_at hl 1 rfl) ?_
  refine lv_aload_n hx hb dJ2_get_1 rfl (lv_at hl 0 rfl) ?_
  obtain ⟨fs1, v4, hg2, hv3, h⟩ := h
  refine gPJ2_48 hF hK hI hg2 hv3 dJ2_get_2 (fun f5 => ?_)
  replace h := h f5
  refine cXJ2_118 hF hK hI hl.1 hR (by decide) (Nat.le_of_ble_eq_true rfl) ⟨Nat.zero_le _, Nat.zero_le _⟩ rx1 f5 h dJ2_get_5 (fun r6 H locs fr6 h hI => ?_)
  replace h := h fr6
  refine lv_pop hx hb dJ2_get_8 rfl ?_
  refine lv_aload_n hx hb dJ2_get_9 rfl (lv_at hl 0 rfl) ?_
  refine lv_iload_n hx hb dJ2_get_10 rfl (lv_at hl 1 rfl) ?_
  have hr8 := h.1; replace h := h.2
  refine cXJ2_123 hF hK hI hl.1 hR (by decide) (Nat.le_of_ble_eq_true rfl) ⟨Nat.zero_le _, Nat.zero_le _⟩ hr8 rx1 h dJ2_get_11 (fun r9 H locs h hI => ?_)
  rw [← hQ]; exact s_qret (v := r9) (K := fun r S' => S' = S ∧ K r) hx hb hr (Or.inl ⟨_, rfl⟩) hlocks hI ⟨rfl, h⟩ dJ2_get_14
theorem gPJ12_205 {p : Program} {l : Launch} {e : Env} {R : Room} {s : State} {m : MethodId} {args : Array Value} {below : List Frame} {meth : Method} {c : Code} {H : Heap} {locs : List Loc} {Q : State → Prop} {cc : ByteArray} {nL pc : Nat} {ls : Array Slot} {rest : List Value} {cells slots : Nat} {w : Wd} {D : va_G} {dA : Nat → ClassId} {ad : Nat → Nat} {A : Nat → Prop} {H0 : Heap} {S : St} {q : Nat} {fs : List PV} {v : Int} (hF : CallFix p m c cc nL s args lw_all RJ12) (hK : gK D dA s) (hI : sI D dA w ad A H0 S H locs) (hg : gI S q = some (.inr (.inl (15, fs)))) (hv : fs[0]? = some (.inl v)) (hdg : decode cc pc = .ok (.getfield 205, 3)) (kk : InR v → W p l e R s m args below meth c H locs cells slots Q (F0 m (pc + 3) ls (iV v :: rest))) : W p l e R s m args below meth c H locs cells slots Q (F0 m (pc) ls (.ref q :: rest)) := s_pgi hF.1 hF.2.1 hF.2.2.2.2 hF.2.2.2.1 hK hI hg rfl in_J12 0 (by decide) q653 rfl hv hdg kk
set_option maxHeartbeats 4000000 in
theorem t_J12_intValue (l : Launch) (D : va_G) (dA : Nat → ClassId) (ad : Nat → Nat) (S : St) (sz : Nat) (x0 : Nat) (K : Int → Prop) (h : w_J12_intValue x0 S K) : Met l yJ12_intValue (ws_ yJ12_intValue cJ12_intValue 1 (Option.some Jvm.ClassFile.FieldType.int)) (rmD 0 0 0) (va_Pc [.ref x0] (sPre D dA wX ad S sz)) (va_Qi (fun r S' => S' = S ∧ K r.toInt) (sPost D dA wX ad (wA wX ad S sz)) (wA wX ad S sz)) 0 0 (wA wX ad S sz) := by
  refine Met.ofW (cc := cJ12_intValue) (maxL := 1) (ret := (Option.some Jvm.ClassFile.FieldType.int)) (by decide) rfl ?_
  intro p e s m args below meth c s₁ B hml hv
  obtain ⟨rfl, hsz, hK, hC⟩ := hv
  have hx := B.exec
  have hb := B.bytes
  have hr := B.returns
  have hlocks := B.notSynchronized
  have hts := atoms_spec (ws := (ws_ yJ12_intValue cJ12_intValue 1 (Option.some Jvm.ClassFile.FieldType.int))) B.pre
  have hts : ∀ w ∈ lw_all, w.before _ s = true := fun w h => hts w (List.mem_cons_of_mem _ h)
  have hown : s.vm.findClass RJ12 = some m.cls := findClass_of_methodNamed B.named
  clear B
  subst hsz
  have hI : sI D dA wX ad (wA wX ad S s.heap.size) s.heap S s.heap [] := hC.start
  clear hC
  generalize wA wX ad S s.heap.size = A at hI ⊢
  have hl := lv_entry ([.ref x0] : List Value) (n := 1) (Nat.le_of_ble_eq_true rfl)
  rw [lg_entry_eq]
  generalize (lg_sl ([.ref x0] : List Value) ++ List.replicate (1 - (lg_sl ([.ref x0] : List Value)).length) Slot.unset).toArray = ls at hl ⊢
  have hl : lv_has ls 1 [(0, .ref x0)] := hl
  have hF : CallFix p m c cJ12_intValue 1 s _ lw_all RJ12 := ⟨hx, hb, hml, hown, hts⟩
  have hR : (headSpec (ws_ yJ12_intValue cJ12_intValue 1 (Option.some Jvm.ClassFile.FieldType.int)) (rmD 0 0 0)).room.frames = 0 + 1 ∧ (headSpec (ws_ yJ12_intValue cJ12_intValue 1 (Option.some Jvm.ClassFile.FieldType.int)) (rmD 0 0 0)).room.locals = 64 * 0 + 64 := ⟨rfl, rfl⟩
  generalize (headSpec (ws_ yJ12_intValue cJ12_intValue 1 (Option.some Jvm.ClassFile.FieldType.int)) (rmD 0 0 0)).room = R at hR ⊢
  generalize ([.ref x0] : List Value).toArray = args at hts hF ⊢
  generalize hQ : MQ below _ _ _ _ _ _ = Q
  unfold w_J12_intValue at h
  refine lv_aload_n hx hb dJ12_intValue_0 rfl (lv_at hl 0 rfl) ?_
  obtain ⟨fs1, v4, hg2, hv3, h⟩ := h
  refine gPJ12_205 hF hK hI hg2 hv3 dJ12_intValue_1 (fun f5 => ?_)
  replace h := h f5
  rw [← hQ]; exact s_iret (K := fun r S' => S' = S ∧ K r) hx hb hr hlocks hI f5 ⟨rfl, h⟩ dJ12_intValue_4
def OfM (l : Launch) (D : va_G) (dA : Nat → ClassId) (ad : Nat → Nat) (dd : Nat) (S : St) (sz : Nat) (x0 : Nat) (K : Int → Prop) : Prop :=
  ((∃ fs : List PV, gI S x0 = some (.inr (.inl (7, fs)))) ∧ Met l yX7_of (ws_ yX7_of cX7_of 2 (Option.some Jvm.ClassFile.FieldType.long)) (rmD dd 0 0) (va_Pc [.ref x0, .ref (ad 9)] (sPre D dA wX ad S sz)) (va_Ql (fun r S' => S' = S ∧ K r.toInt) (sPost D dA wX ad (wA wX ad S sz)) (wA wX ad S sz)) 0 0 (wA wX ad S sz)) ∨
  ((∃ fs : List PV, gI S x0 = some (.inr (.inl (8, fs)))) ∧ Met l yX8_of (ws_ yX8_of cX8_of 2 (Option.some Jvm.ClassFile.FieldType.long)) (rmD dd 0 0) (va_Pc [.ref x0, .ref (ad 9)] (sPre D dA wX ad S sz)) (va_Ql (fun r S' => S' = S ∧ K r.toInt) (sPost D dA wX ad (wA wX ad S sz)) (wA wX ad S sz)) 0 0 (wA wX ad S sz)) ∨
  ((∃ fs : List PV, gI S x0 = some (.inr (.inl (9, fs)))) ∧ Met l yX9_of (ws_ yX9_of cX9_of 2 (Option.some Jvm.ClassFile.FieldType.long)) (rmD dd 0 0) (va_Pc [.ref x0, .ref (ad 9)] (sPre D dA wX ad S sz)) (va_Ql (fun r S' => S' = S ∧ K r.toInt) (sPost D dA wX ad (wA wX ad S sz)) (wA wX ad S sz)) 0 0 (wA wX ad S sz)) ∨
  ((∃ fs : List PV, gI S x0 = some (.inr (.inl (6, fs)))) ∧ Met l yX6_of (ws_ yX6_of cX6_of 10 (Option.some Jvm.ClassFile.FieldType.long)) (rmD dd 0 0) (va_Pc [.ref x0, .ref (ad 9)] (sPre D dA wX ad S sz)) (va_Ql (fun r S' => S' = S ∧ K r.toInt) (sPost D dA wX ad (wA wX ad S sz)) (wA wX ad S sz)) 0 0 (wA wX ad S sz))

theorem gPX7_7 {p : Program} {l : Launch} {e : Env} {R : Room} {s : State} {m : MethodId} {args : Array Value} {below : List Frame} {meth : Method} {c : Code} {H : Heap} {locs : List Loc} {Q : State → Prop} {cc : ByteArray} {nL pc : Nat} {ls : Array Slot} {rest : List Value} {cells slots : Nat} {w : Wd} {D : va_G} {dA : Nat → ClassId} {ad : Nat → Nat} {A : Nat → Prop} {H0 : Heap} {S : St} {q : Nat} {fs : List PV} {v : Int} (hF : CallFix p m c cc nL s args lw_all RX7) (hK : gK D dA s) (hI : sI D dA w ad A H0 S H locs) (hg : gI S q = some (.inr (.inl (7, fs)))) (hv : fs[0]? = some (.inl v)) (hdg : decode cc pc = .ok (.getfield 7, 3)) (kk : InR v → W p l e R s m args below meth c H locs cells slots Q (F0 m (pc + 3) ls (iV v :: rest))) : W p l e R s m args below meth c H locs cells slots Q (F0 m (pc) ls (.ref q :: rest)) := s_pgi hF.1 hF.2.1 hF.2.2.2.2 hF.2.2.2.1 hK hI hg rfl in_X7 0 (by decide) q585 rfl hv hdg kk
set_option maxHeartbeats 4000000 in
theorem t_X7_of_9 (l : Launch) (D : va_G) (dA : Nat → ClassId) (ad : Nat → Nat) (d : Nat) (W0 : Nat → St → (Int → Prop) → Prop) (ihd : ∀ (S : St) (sz : Nat) (q : Nat) (K : Int → Prop), W0 q S K → OfM l D dA ad (3 + d) S sz q K) (S : St) (sz : Nat) (x0 : Nat) (K : Int → Prop) (h : b_X7_of_9 W0 x0 S K) : Met l yX7_of (ws_ yX7_of cX7_of 2 (Option.some Jvm.ClassFile.FieldType.long)) (rmD (3 + (d + 1)) 0 0) (va_Pc [.ref x0, .ref (ad 9)] (sPre D dA wX ad S sz)) (va_Ql (fun r S' => S' = S ∧ K r.toInt) (sPost D dA wX ad (wA wX ad S sz)) (wA wX ad S sz)) 0 0 (wA wX ad S sz) := by
  refine Met.ofW (cc := cX7_of) (maxL := 2) (ret := (Option.some Jvm.ClassFile.FieldType.long)) (by decide) rfl ?_
  intro p e s m args below meth c s₁ B hml hv
  obtain ⟨rfl, hsz, hK, hC⟩ := hv
  have hx := B.exec
  have hb := B.bytes
  have hr := B.returns
  have hlocks := B.notSynchronized
  have hts := atoms_spec (ws := (ws_ yX7_of cX7_of 2 (Option.some Jvm.ClassFile.FieldType.long))) B.pre
  have hts : ∀ w ∈ lw_all, w.before _ s = true := fun w h => hts w (List.mem_cons_of_mem _ h)
  have hown : s.vm.findClass RX7 = some m.cls := findClass_of_methodNamed B.named
  clear B
  subst hsz
  have hI : sI D dA wX ad (wA wX ad S s.heap.size) s.heap S s.heap [] := hC.start
  clear hC
  generalize wA wX ad S s.heap.size = A at hI ⊢
  have hl := lv_entry ([.ref x0, .ref (ad 9)] : List Value) (n := 2) (Nat.le_of_ble_eq_true rfl)
  rw [lg_entry_eq]
  generalize (lg_sl ([.ref x0, .ref (ad 9)] : List Value) ++ List.replicate (2 - (lg_sl ([.ref x0, .ref (ad 9)] : List Value)).length) Slot.unset).toArray = ls at hl ⊢
  have hl : lv_has ls 2 [(0, .ref x0), (1, .ref (ad 9))] := hl
  have hF : CallFix p m c cX7_of 2 s _ lw_all RX7 := ⟨hx, hb, hml, hown, hts⟩
  have hR : (headSpec (ws_ yX7_of cX7_of 2 (Option.some Jvm.ClassFile.FieldType.long)) (rmD (3 + (d + 1)) 0 0)).room.frames = (3 + (d + 1)) + 1 ∧ (headSpec (ws_ yX7_of cX7_of 2 (Option.some Jvm.ClassFile.FieldType.long)) (rmD (3 + (d + 1)) 0 0)).room.locals = 64 * (3 + (d + 1)) + 64 := ⟨rfl, rfl⟩
  generalize (headSpec (ws_ yX7_of cX7_of 2 (Option.some Jvm.ClassFile.FieldType.long)) (rmD (3 + (d + 1)) 0 0)).room = R at hR ⊢
  generalize ([.ref x0, .ref (ad 9)] : List Value).toArray = args at hts hF ⊢
  generalize hQ : MQ below _ _ _ _ _ _ = Q
  unfold b_X7_of_9 at h
  refine lv_aload_n hx hb dX7_of_0 rfl (lv_at hl 0 rfl) ?_
  obtain ⟨fs1, v4, hg2, hv3, h⟩ := h
  refine gPX7_7 hF hK hI hg2 hv3 dX7_of_1 (fun f5 => ?_)
  replace h := h f5
  refine nr_i2l hx hb f5 dX7_of_4 ?_
  have f6 : InL (v4) := ni_L f5
  rw [← hQ]; exact s_lret (K := fun r S' => S' = S ∧ K r) hx hb hr hlocks hI f6 ⟨rfl, h⟩ dX7_of_5
theorem gPX8_7 {p : Program} {l : Launch} {e : Env} {R : Room} {s : State} {m : MethodId} {args : Array Value} {below : List Frame} {meth : Method} {c : Code} {H : Heap} {locs : List Loc} {Q : State → Prop} {cc : ByteArray} {nL pc : Nat} {ls : Array Slot} {rest : List Value} {cells slots : Nat} {w : Wd} {D : va_G} {dA : Nat → ClassId} {ad : Nat → Nat} {A : Nat → Prop} {H0 : Heap} {S : St} {q : Nat} {fs : List PV} {v : Int} (hF : CallFix p m c cc nL s args lw_all RX8) (hK : gK D dA s) (hI : sI D dA w ad A H0 S H locs) (hg : gI S q = some (.inr (.inl (8, fs)))) (hv : fs[0]? = some (.inl v)) (hdg : decode cc pc = .ok (.getfield 7, 3)) (kk : InR v → W p l e R s m args below meth c H locs cells slots Q (F0 m (pc + 3) ls (iV v :: rest))) : W p l e R s m args below meth c H locs cells slots Q (F0 m (pc) ls (.ref q :: rest)) := s_pgi hF.1 hF.2.1 hF.2.2.2.2 hF.2.2.2.1 hK hI hg rfl in_X8 0 (by decide) q595 rfl hv hdg kk
set_option maxHeartbeats 4000000 in
theorem t_X8_of_9 (l : Launch) (D : va_G) (dA : Nat → ClassId) (ad : Nat → Nat) (d : Nat) (W0 : Nat → St → (Int → Prop) → Prop) (ihd : ∀ (S : St) (sz : Nat) (q : Nat) (K : Int → Prop), W0 q S K → OfM l D dA ad (3 + d) S sz q K) (S : St) (sz : Nat) (x0 : Nat) (K : Int → Prop) (h : b_X8_of_9 W0 x0 S K) : Met l yX8_of (ws_ yX8_of cX8_of 2 (Option.some Jvm.ClassFile.FieldType.long)) (rmD (3 + (d + 1)) 0 0) (va_Pc [.ref x0, .ref (ad 9)] (sPre D dA wX ad S sz)) (va_Ql (fun r S' => S' = S ∧ K r.toInt) (sPost D dA wX ad (wA wX ad S sz)) (wA wX ad S sz)) 0 0 (wA wX ad S sz) := by
  refine Met.ofW (cc := cX8_of) (maxL := 2) (ret := (Option.some Jvm.ClassFile.FieldType.long)) (by decide) rfl ?_
  intro p e s m args below meth c s₁ B hml hv
  obtain ⟨rfl, hsz, hK, hC⟩ := hv
  have hx := B.exec
  have hb := B.bytes
  have hr := B.returns
  have hlocks := B.notSynchronized
  have hts := atoms_spec (ws := (ws_ yX8_of cX8_of 2 (Option.some Jvm.ClassFile.FieldType.long))) B.pre
  have hts : ∀ w ∈ lw_all, w.before _ s = true := fun w h => hts w (List.mem_cons_of_mem _ h)
  have hown : s.vm.findClass RX8 = some m.cls := findClass_of_methodNamed B.named
  clear B
  subst hsz
  have hI : sI D dA wX ad (wA wX ad S s.heap.size) s.heap S s.heap [] := hC.start
  clear hC
  generalize wA wX ad S s.heap.size = A at hI ⊢
  have hl := lv_entry ([.ref x0, .ref (ad 9)] : List Value) (n := 2) (Nat.le_of_ble_eq_true rfl)
  rw [lg_entry_eq]
  generalize (lg_sl ([.ref x0, .ref (ad 9)] : List Value) ++ List.replicate (2 - (lg_sl ([.ref x0, .ref (ad 9)] : List Value)).length) Slot.unset).toArray = ls at hl ⊢
  have hl : lv_has ls 2 [(0, .ref x0), (1, .ref (ad 9))] := hl
  have hF : CallFix p m c cX8_of 2 s _ lw_all RX8 := ⟨hx, hb, hml, hown, hts⟩
  have hR : (headSpec (ws_ yX8_of cX8_of 2 (Option.some Jvm.ClassFile.FieldType.long)) (rmD (3 + (d + 1)) 0 0)).room.frames = (3 + (d + 1)) + 1 ∧ (headSpec (ws_ yX8_of cX8_of 2 (Option.some Jvm.ClassFile.FieldType.long)) (rmD (3 + (d + 1)) 0 0)).room.locals = 64 * (3 + (d + 1)) + 64 := ⟨rfl, rfl⟩
  generalize (headSpec (ws_ yX8_of cX8_of 2 (Option.some Jvm.ClassFile.FieldType.long)) (rmD (3 + (d + 1)) 0 0)).room = R at hR ⊢
  generalize ([.ref x0, .ref (ad 9)] : List Value).toArray = args at hts hF ⊢
  generalize hQ : MQ below _ _ _ _ _ _ = Q
  unfold b_X8_of_9 at h
  refine lv_aload_n hx hb dX8_of_0 rfl (lv_at hl 1 rfl) ?_
  refine lv_aload_n hx hb dX8_of_1 rfl (lv_at hl 0 rfl) ?_
  obtain ⟨fs1, v4, hg2, hv3, h⟩ := h
  refine gPX8_7 hF hK hI hg2 hv3 dX8_of_2 (fun f5 => ?_)
  replace h := h f5
  have f6 := h.1; replace h := h.2
  refine s_iald hx hb hK hI 9 (by decide) wX_9 f5 f6 dX8_of_5 (fun f7 => ?_)
  replace h := h f7
  refine nr_i2l hx hb f7 dX8_of_6 ?_
  have f8 : InL (aI S 9 v4) := ni_L f7
  rw [← hQ]; exact s_lret (K := fun r S' => S' = S ∧ K r) hx hb hr hlocks hI f8 ⟨rfl, h⟩ dX8_of_7
theorem gPX9_7 {p : Program} {l : Launch} {e : Env} {R : Room} {s : State} {m : MethodId} {args : Array Value} {below : List Frame} {meth : Method} {c : Code} {H : Heap} {locs : List Loc} {Q : State → Prop} {cc : ByteArray} {nL pc : Nat} {ls : Array Slot} {rest : List Value} {cells slots : Nat} {w : Wd} {D : va_G} {dA : Nat → ClassId} {ad : Nat → Nat} {A : Nat → Prop} {H0 : Heap} {S : St} {q : Nat} {fs : List PV} {v : Option Nat} (hF : CallFix p m c cc nL s args lw_all RX9) (hK : gK D dA s) (hI : sI D dA w ad A H0 S H locs) (hg : gI S q = some (.inr (.inl (9, fs)))) (hv : fs[0]? = some (.inr (.inr v))) (hdg : decode cc pc = .ok (.getfield 7, 3)) (kk : W p l e R s m args below meth c H locs cells slots Q (F0 m (pc + 3) ls (va_rf v :: rest))) : W p l e R s m args below meth c H locs cells slots Q (F0 m (pc) ls (.ref q :: rest)) := s_pgr hF.1 hF.2.1 hF.2.2.2.2 hF.2.2.2.1 hK hI hg rfl in_X9 0 (by decide) q613 rfl hv hdg kk
theorem iPX9_13 {p : Program} {l : Launch} {e : Env} {R : Room} {s : State} {m : MethodId} {args : Array Value} {below : List Frame} {meth : Method} {c : Code} {H : Heap} {locs : List Loc} {Q : State → Prop} {cc : ByteArray} {nL pc : Nat} {ls : Array Slot} {rest : List Value} {cells slots : Nat} {D : va_G} {dA : Nat → ClassId} {ad : Nat → Nat} {A : Nat → Prop} {H0 : Heap} {S : St} {dk dd q : Nat} {K : Int → Prop} (hM : OfM l D dA ad dd S H.size q K) (hF : CallFix p m c cc nL s args lw_all RX9) (hK : gK D dA s) (hI : sI D dA wX ad A H0 S H locs) (hls : ls.size = nL) (hR : R.frames = dk + 1 ∧ R.locals = 64 * dk + 64) (hd : dd + 1 ≤ dk) (hW : (rest.map fun v => v.category).sum ≤ 8) (hf : cells ≤ R.cells ∧ slots ≤ R.slots) (hdg : decode cc pc = .ok (.invokeinterface 13 2, 5)) (kk : ∀ (r : Int) (H1 : Heap) (locs1 : List Loc), InL r → K r → sI D dA wX ad A H0 S H1 locs1 → W p l e R s m args below meth c H1 locs1 cells slots Q (F0 m (pc + 5) ls (jV r :: rest))) : W p l e R s m args below meth c H locs cells slots Q (F0 m (pc) ls (.ref (ad 9) :: .ref q :: rest)) := by
  rcases hM with ⟨⟨fs, hg⟩, hM⟩ | ⟨⟨fs, hg⟩, hM⟩ | ⟨⟨fs, hg⟩, hM⟩ | ⟨⟨fs, hg⟩, hM⟩
  · exact s_callFl (x := (⟨"NineGraves$Sum", "of", "([I)J"⟩ : MethodName)) (As := [.ref (ad 9)]) (rest := rest) (K := fun r S' => S' = S ∧ K r) (hK.1.1 7 _ rfl).2 hF hM (s_recvP hK hI hg rfl) (va_cwF 1 hF.2.2.2.2 (lw_F q914 q922 q924 q125 q926) rfl rfl rfl (nFw_0 hK.2) (by decide +kernel) ⟨by have h1 := hR.1; have h2 : (rmD dd 0 0).frames = dd + 1 := rfl; omega, by have h1 := hR.2; have h2 : (rmD dd 0 0).locals = 64 * dd + 64 := rfl; omega⟩) hK hI rfl hls rfl hW hdg hf (fun r S1 H1 locs1 f hk hI1 => by obtain ⟨rfl, hk⟩ := hk; exact kk r H1 locs1 f hk hI1)
  · exact s_callFl (x := (⟨"NineGraves$Sum", "of", "([I)J"⟩ : MethodName)) (As := [.ref (ad 9)]) (rest := rest) (K := fun r S' => S' = S ∧ K r) (hK.1.1 8 _ rfl).2 hF hM (s_recvP hK hI hg rfl) (va_cwF 1 hF.2.2.2.2 (lw_F q914 q916 q918 q126 q920) rfl rfl rfl (nFw_1 hK.2) (by decide +kernel) ⟨by have h1 := hR.1; have h2 : (rmD dd 0 0).frames = dd + 1 := rfl; omega, by have h1 := hR.2; have h2 : (rmD dd 0 0).locals = 64 * dd + 64 := rfl; omega⟩) hK hI rfl hls rfl hW hdg hf (fun r S1 H1 locs1 f hk hI1 => by obtain ⟨rfl, hk⟩ := hk; exact kk r H1 locs1 f hk hI1)
  · exact s_callFl (x := (⟨"NineGraves$Sum", "of", "([I)J"⟩ : MethodName)) (As := [.ref (ad 9)]) (rest := rest) (K := fun r S' => S' = S ∧ K r) (hK.1.1 9 _ rfl).2 hF hM (s_recvP hK hI hg rfl) (va_cwF 1 hF.2.2.2.2 (lw_F q914 q908 q910 q127 q912) rfl rfl rfl (nFw_2 hK.2) (by decide +kernel) ⟨by have h1 := hR.1; have h2 : (rmD dd 0 0).frames = dd + 1 := rfl; omega, by have h1 := hR.2; have h2 : (rmD dd 0 0).locals = 64 * dd + 64 := rfl; omega⟩) hK hI rfl hls rfl hW hdg hf (fun r S1 H1 locs1 f hk hI1 => by obtain ⟨rfl, hk⟩ := hk; exact kk r H1 locs1 f hk hI1)
  · exact s_callFl (x := (⟨"NineGraves$Sum", "of", "([I)J"⟩ : MethodName)) (As := [.ref (ad 9)]) (rest := rest) (K := fun r S' => S' = S ∧ K r) (hK.1.1 6 _ rfl).2 hF hM (s_recvP hK hI hg rfl) (va_cwF 1 hF.2.2.2.2 (lw_F q914 q900 q902 q123 q904) rfl rfl rfl (nFw_3 hK.2) (by decide +kernel) ⟨by have h1 := hR.1; have h2 : (rmD dd 0 0).frames = dd + 1 := rfl; omega, by have h1 := hR.2; have h2 : (rmD dd 0 0).locals = 64 * dd + 64 := rfl; omega⟩) hK hI rfl hls rfl hW hdg hf (fun r S1 H1 locs1 f hk hI1 => by obtain ⟨rfl, hk⟩ := hk; exact kk r H1 locs1 f hk hI1)
set_option maxHeartbeats 4000000 in
theorem t_X9_of_9 (l : Launch) (D : va_G) (dA : Nat → ClassId) (ad : Nat → Nat) (d : Nat) (W0 : Nat → St → (Int → Prop) → Prop) (ihd : ∀ (S : St) (sz : Nat) (q : Nat) (K : Int → Prop), W0 q S K → OfM l D dA ad (3 + d) S sz q K) (S : St) (sz : Nat) (x0 : Nat) (K : Int → Prop) (h : b_X9_of_9 W0 x0 S K) : Met l yX9_of (ws_ yX9_of cX9_of 2 (Option.some Jvm.ClassFile.FieldType.long)) (rmD (3 + (d + 1)) 0 0) (va_Pc [.ref x0, .ref (ad 9)] (sPre D dA wX ad S sz)) (va_Ql (fun r S' => S' = S ∧ K r.toInt) (sPost D dA wX ad (wA wX ad S sz)) (wA wX ad S sz)) 0 0 (wA wX ad S sz) := by
  refine Met.ofW (cc := cX9_of) (maxL := 2) (ret := (Option.some Jvm.ClassFile.FieldType.long)) (by decide) rfl ?_
  intro p e s m args below meth c s₁ B hml hv
  obtain ⟨rfl, hsz, hK, hC⟩ := hv
  have hx := B.exec
  have hb := B.bytes
  have hr := B.returns
  have hlocks := B.notSynchronized
  have hts := atoms_spec (ws := (ws_ yX9_of cX9_of 2 (Option.some Jvm.ClassFile.FieldType.long))) B.pre
  have hts : ∀ w ∈ lw_all, w.before _ s = true := fun w h => hts w (List.mem_cons_of_mem _ h)
  have hown : s.vm.findClass RX9 = some m.cls := findClass_of_methodNamed B.named
  clear B
  subst hsz
  have hI : sI D dA wX ad (wA wX ad S s.heap.size) s.heap S s.heap [] := hC.start
  clear hC
  generalize wA wX ad S s.heap.size = A at hI ⊢
  have hl := lv_entry ([.ref x0, .ref (ad 9)] : List Value) (n := 2) (Nat.le_of_ble_eq_true rfl)
  rw [lg_entry_eq]
  generalize (lg_sl ([.ref x0, .ref (ad 9)] : List Value) ++ List.replicate (2 - (lg_sl ([.ref x0, .ref (ad 9)] : List Value)).length) Slot.unset).toArray = ls at hl ⊢
  have hl : lv_has ls 2 [(0, .ref x0), (1, .ref (ad 9))] := hl
  have hF : CallFix p m c cX9_of 2 s _ lw_all RX9 := ⟨hx, hb, hml, hown, hts⟩
  have hR : (headSpec (ws_ yX9_of cX9_of 2 (Option.some Jvm.ClassFile.FieldType.long)) (rmD (3 + (d + 1)) 0 0)).room.frames = (3 + (d + 1)) + 1 ∧ (headSpec (ws_ yX9_of cX9_of 2 (Option.some Jvm.ClassFile.FieldType.long)) (rmD (3 + (d + 1)) 0 0)).room.locals = 64 * (3 + (d + 1)) + 64 := ⟨rfl, rfl⟩
  generalize (headSpec (ws_ yX9_of cX9_of 2 (Option.some Jvm.ClassFile.FieldType.long)) (rmD (3 + (d + 1)) 0 0)).room = R at hR ⊢
  generalize ([.ref x0, .ref (ad 9)] : List Value).toArray = args at hts hF ⊢
  generalize hQ : MQ below _ _ _ _ _ _ = Q
  unfold b_X9_of_9 at h
  refine lv_aload_n hx hb dX9_of_0 rfl (lv_at hl 0 rfl) ?_
  obtain ⟨fs1, v4, hg2, hv3, h⟩ := h
  refine gPX9_7 (v := some v4) hF hK hI hg2 hv3 dX9_of_1 ?_
  show W p l e R s m args below meth c _ _ _ _ Q (F0 m _ ls [.ref v4])
  refine lv_aload_n hx hb dX9_of_4 rfl (lv_at hl 1 rfl) ?_
  refine iPX9_13 (ihd _ _ _ _ h) hF hK hI hl.1 hR (by omega) (Nat.le_of_ble_eq_true rfl) ⟨Nat.zero_le _, Nat.zero_le _⟩ dX9_of_5 (fun r5 H locs fr5 h hI => ?_)
  replace h := h fr5
  have f6 := h.1; replace h := h.2
  refine nr_lneg hx hb dX9_of_10 ?_
  rw [← hQ]; exact s_lret (K := fun r S' => S' = S ∧ K r) hx hb hr hlocks hI f6 ⟨rfl, h⟩ dX9_of_11
theorem gPX6_12 {p : Program} {l : Launch} {e : Env} {R : Room} {s : State} {m : MethodId} {args : Array Value} {below : List Frame} {meth : Method} {c : Code} {H : Heap} {locs : List Loc} {Q : State → Prop} {cc : ByteArray} {nL pc : Nat} {ls : Array Slot} {rest : List Value} {cells slots : Nat} {w : Wd} {D : va_G} {dA : Nat → ClassId} {ad : Nat → Nat} {A : Nat → Prop} {H0 : Heap} {S : St} {q : Nat} {fs : List PV} {v : Option Nat} (hF : CallFix p m c cc nL s args lw_all RX6) (hK : gK D dA s) (hI : sI D dA w ad A H0 S H locs) (hg : gI S q = some (.inr (.inl (6, fs)))) (hv : fs[1]? = some (.inr (.inr v))) (hdg : decode cc pc = .ok (.getfield 12, 3)) (kk : W p l e R s m args below meth c H locs cells slots Q (F0 m (pc + 3) ls (va_rf v :: rest))) : W p l e R s m args below meth c H locs cells slots Q (F0 m (pc) ls (.ref q :: rest)) := s_pgr hF.1 hF.2.1 hF.2.2.2.2 hF.2.2.2.1 hK hI hg rfl in_X6 1 (by decide) q624 rfl hv hdg kk
theorem cXX6_45 {p : Program} {l : Launch} {e : Env} {R : Room} {s : State} {m : MethodId} {args : Array Value} {below : List Frame} {meth : Method} {c : Code} {H : Heap} {locs : List Loc} {Q : State → Prop} {cc : ByteArray} {nL pc : Nat} {ls : Array Slot} {rest : List Value} {cells slots : Nat} {D : va_G} {dA : Nat → ClassId} {ad : Nat → Nat} {A : Nat → Prop} {H0 : Heap} {S : St} {dk : Nat} (hF : CallFix p m c cc nL s args lw_all RX6) (hK : gK D dA s) (hI : sI D dA wX ad A H0 S H locs) (hls : ls.size = nL) (hR : R.frames = dk + 1 ∧ R.locals = 64 * dk + 64) (hd : 0 + 1 ≤ dk) (hW : (rest.map fun v => v.category).sum ≤ 8) (hf : cells ≤ R.cells ∧ slots ≤ R.slots) {x0 : Nat} {K : Int → Prop} (hg0 : ∃ fs : List PV, gI S x0 = some (.inr (.inl (14, fs)))) (h : w_J2_size x0 S K) (hdg : decode cc pc = .ok (.invokevirtual 45, 3)) (kk : ∀ (r : Int) (H1 : Heap) (locs1 : List Loc), InR r → K r → sI D dA wX ad A H0 S H1 locs1 → W p l e R s m args below meth c H1 locs1 cells slots Q (F0 m (pc + 3) ls (iV r :: rest))) : W p l e R s m args below meth c H locs cells slots Q (F0 m (pc) ls (.ref x0 :: rest)) := s_callVi (As := []) (rest := rest) (K := fun r S' => S' = S ∧ K r) hF (t_J2_size l D dA ad S H.size x0 K h) (by obtain ⟨fs, hg⟩ := hg0; exact s_recvP hK hI hg rfl) (cwV 0 hF.2.2.2.2 (lw_V q927 q766 q767 q114 q768) rfl rfl rfl (by decide +kernel) ⟨by have h1 := hR.1; have h2 : (rmD 0 0 0).frames = 0 + 1 := rfl; omega, by have h1 := hR.2; have h2 : (rmD 0 0 0).locals = 64 * 0 + 64 := rfl; omega⟩) hK hI rfl hls rfl hW hdg hf (fun r S1 H1 locs1 f hk hI1 => by obtain ⟨rfl, hk⟩ := hk; exact kk r H1 locs1 f hk hI1)
theorem cXX6_49 {p : Program} {l : Launch} {e : Env} {R : Room} {s : State} {m : MethodId} {args : Array Value} {below : List Frame} {meth : Method} {c : Code} {H : Heap} {locs : List Loc} {Q : State → Prop} {cc : ByteArray} {nL pc : Nat} {ls : Array Slot} {rest : List Value} {cells slots : Nat} {D : va_G} {dA : Nat → ClassId} {ad : Nat → Nat} {A : Nat → Prop} {H0 : Heap} {S : St} {dk : Nat} (hF : CallFix p m c cc nL s args lw_all RX6) (hK : gK D dA s) (hI : sI D dA wX ad A H0 S H locs) (hls : ls.size = nL) (hR : R.frames = dk + 1 ∧ R.locals = 64 * dk + 64) (hd : 2 + 1 ≤ dk) (hW : (rest.map fun v => v.category).sum ≤ 8) (hf : cells ≤ R.cells ∧ slots ≤ R.slots) {x0 : Nat} {x1 : Int} {K : Option Nat → Prop} (hg0 : ∃ fs : List PV, gI S x0 = some (.inr (.inl (14, fs)))) (r1 : InR x1) (h : w_J2_get x0 x1 S K) (hdg : decode cc pc = .ok (.invokevirtual 49, 3)) (kk : ∀ (r : Option Nat) (H1 : Heap) (locs1 : List Loc), K r → sI D dA wX ad A H0 S H1 locs1 → W p l e R s m args below meth c H1 locs1 cells slots Q (F0 m (pc + 3) ls (va_rf r :: rest))) : W p l e R s m args below meth c H locs cells slots Q (F0 m (pc) ls (iV x1 :: .ref x0 :: rest)) := s_callVq (As := [iV x1]) (rest := rest) (K := fun r S' => S' = S ∧ K r) hF (t_J2_get l D dA ad S H.size x0 x1 K r1 h) (by obtain ⟨fs, hg⟩ := hg0; exact s_recvP hK hI hg rfl) (cwV 1 hF.2.2.2.2 (lw_V q928 q770 q771 q114 q772) rfl rfl rfl (by decide +kernel) ⟨by have h1 := hR.1; have h2 : (rmD 2 0 0).frames = 2 + 1 := rfl; omega, by have h1 := hR.2; have h2 : (rmD 2 0 0).locals = 64 * 2 + 64 := rfl; omega⟩) hK hI rfl hls rfl hW hdg hf (fun r S1 H1 locs1 hk hI1 => by obtain ⟨rfl, hk⟩ := hk; exact kk r H1 locs1 hk hI1)
theorem kPX6_40 {p : Program} {l : Launch} {e : Env} {R : Room} {s : State} {m : MethodId} {args : Array Value} {below : List Frame} {meth : Method} {c : Code} {H : Heap} {locs : List Loc} {Q : State → Prop} {cc : ByteArray} {nL pc : Nat} {ls : Array Slot} {rest : List Value} {cells slots : Nat} {w : Wd} {D : va_G} {dA : Nat → ClassId} {ad : Nat → Nat} {A : Nat → Prop} {H0 : Heap} {S : St} {q : Nat} (hF : CallFix p m c cc nL s args lw_all RX6) (hK : gK D dA s) (hI : sI D dA w ad A H0 S H locs) (hc : isSum S q) (hdg : decode cc pc = .ok (.checkcast 40, 3)) (k : W p l e R s m args below meth c H locs cells slots Q (F0 m (pc + 3) ls (.ref q :: rest))) : W p l e R s m args below meth c H locs cells slots Q (F0 m (pc) ls (.ref q :: rest)) := by
  rcases hc with ⟨fs, hg⟩ | ⟨fs, hg⟩ | ⟨fs, hg⟩ | ⟨fs, hg⟩
  · exact s_cast hF.1 hF.2.1 hF.2.2.2.1 hF.2.2.2.2 q929 (nCs_20 hK.2) hK hI hg rfl hdg k
  · exact s_cast hF.1 hF.2.1 hF.2.2.2.1 hF.2.2.2.2 q929 (nCs_22 hK.2) hK hI hg rfl hdg k
  · exact s_cast hF.1 hF.2.1 hF.2.2.2.1 hF.2.2.2.2 q929 (nCs_24 hK.2) hK hI hg rfl hdg k
  · exact s_cast hF.1 hF.2.1 hF.2.2.2.1 hF.2.2.2.2 q929 (nCs_18 hK.2) hK hI hg rfl hdg k
theorem iPX6_39 {p : Program} {l : Launch} {e : Env} {R : Room} {s : State} {m : MethodId} {args : Array Value} {below : List Frame} {meth : Method} {c : Code} {H : Heap} {locs : List Loc} {Q : State → Prop} {cc : ByteArray} {nL pc : Nat} {ls : Array Slot} {rest : List Value} {cells slots : Nat} {D : va_G} {dA : Nat → ClassId} {ad : Nat → Nat} {A : Nat → Prop} {H0 : Heap} {S : St} {dk dd q : Nat} {K : Int → Prop} (hM : OfM l D dA ad dd S H.size q K) (hF : CallFix p m c cc nL s args lw_all RX6) (hK : gK D dA s) (hI : sI D dA wX ad A H0 S H locs) (hls : ls.size = nL) (hR : R.frames = dk + 1 ∧ R.locals = 64 * dk + 64) (hd : dd + 1 ≤ dk) (hW : (rest.map fun v => v.category).sum ≤ 8) (hf : cells ≤ R.cells ∧ slots ≤ R.slots) (hdg : decode cc pc = .ok (.invokeinterface 39 2, 5)) (kk : ∀ (r : Int) (H1 : Heap) (locs1 : List Loc), InL r → K r → sI D dA wX ad A H0 S H1 locs1 → W p l e R s m args below meth c H1 locs1 cells slots Q (F0 m (pc + 5) ls (jV r :: rest))) : W p l e R s m args below meth c H locs cells slots Q (F0 m (pc) ls (.ref (ad 9) :: .ref q :: rest)) := by
  rcases hM with ⟨⟨fs, hg⟩, hM⟩ | ⟨⟨fs, hg⟩, hM⟩ | ⟨⟨fs, hg⟩, hM⟩ | ⟨⟨fs, hg⟩, hM⟩
  · exact s_callFl (x := (⟨"NineGraves$Sum", "of", "([I)J"⟩ : MethodName)) (As := [.ref (ad 9)]) (rest := rest) (K := fun r S' => S' = S ∧ K r) (hK.1.1 7 _ rfl).2 hF hM (s_recvP hK hI hg rfl) (va_cwF 1 hF.2.2.2.2 (lw_F q906 q922 q924 q125 q926) rfl rfl rfl (nFw_0 hK.2) (by decide +kernel) ⟨by have h1 := hR.1; have h2 : (rmD dd 0 0).frames = dd + 1 := rfl; omega, by have h1 := hR.2; have h2 : (rmD dd 0 0).locals = 64 * dd + 64 := rfl; omega⟩) hK hI rfl hls rfl hW hdg hf (fun r S1 H1 locs1 f hk hI1 => by obtain ⟨rfl, hk⟩ := hk; exact kk r H1 locs1 f hk hI1)
  · exact s_callFl (x := (⟨"NineGraves$Sum", "of", "([I)J"⟩ : MethodName)) (As := [.ref (ad 9)]) (rest := rest) (K := fun r S' => S' = S ∧ K r) (hK.1.1 8 _ rfl).2 hF hM (s_recvP hK hI hg rfl) (va_cwF 1 hF.2.2.2.2 (lw_F q906 q916 q918 q126 q920) rfl rfl rfl (nFw_1 hK.2) (by decide +kernel) ⟨by have h1 := hR.1; have h2 : (rmD dd 0 0).frames = dd + 1 := rfl; omega, by have h1 := hR.2; have h2 : (rmD dd 0 0).locals = 64 * dd + 64 := rfl; omega⟩) hK hI rfl hls rfl hW hdg hf (fun r S1 H1 locs1 f hk hI1 => by obtain ⟨rfl, hk⟩ := hk; exact kk r H1 locs1 f hk hI1)
  · exact s_callFl (x := (⟨"NineGraves$Sum", "of", "([I)J"⟩ : MethodName)) (As := [.ref (ad 9)]) (rest := rest) (K := fun r S' => S' = S ∧ K r) (hK.1.1 9 _ rfl).2 hF hM (s_recvP hK hI hg rfl) (va_cwF 1 hF.2.2.2.2 (lw_F q906 q908 q910 q127 q912) rfl rfl rfl (nFw_2 hK.2) (by decide +kernel) ⟨by have h1 := hR.1; have h2 : (rmD dd 0 0).frames = dd + 1 := rfl; omega, by have h1 := hR.2; have h2 : (rmD dd 0 0).locals = 64 * dd + 64 := rfl; omega⟩) hK hI rfl hls rfl hW hdg hf (fun r S1 H1 locs1 f hk hI1 => by obtain ⟨rfl, hk⟩ := hk; exact kk r H1 locs1 f hk hI1)
  · exact s_callFl (x := (⟨"NineGraves$Sum", "of", "([I)J"⟩ : MethodName)) (As := [.ref (ad 9)]) (rest := rest) (K := fun r S' => S' = S ∧ K r) (hK.1.1 6 _ rfl).2 hF hM (s_recvP hK hI hg rfl) (va_cwF 1 hF.2.2.2.2 (lw_F q906 q900 q902 q123 q904) rfl rfl rfl (nFw_3 hK.2) (by decide +kernel) ⟨by have h1 := hR.1; have h2 : (rmD dd 0 0).frames = dd + 1 := rfl; omega, by have h1 := hR.2; have h2 : (rmD dd 0 0).locals = 64 * dd + 64 := rfl; omega⟩) hK hI rfl hls rfl hW hdg hf (fun r S1 H1 locs1 f hk hI1 => by obtain ⟨rfl, hk⟩ := hk; exact kk r H1 locs1 f hk hI1)
theorem gPX6_18 {p : Program} {l : Launch} {e : Env} {R : Room} {s : State} {m : MethodId} {args : Array Value} {below : List Frame} {meth : Method} {c : Code} {H : Heap} {locs : List Loc} {Q : State → Prop} {cc : ByteArray} {nL pc : Nat} {ls : Array Slot} {rest : List Value} {cells slots : Nat} {w : Wd} {D : va_G} {dA : Nat → ClassId} {ad : Nat → Nat} {A : Nat → Prop} {H0 : Heap} {S : St} {q : Nat} {fs : List PV} {v : Option Nat} (hF : CallFix p m c cc nL s args lw_all RX6) (hK : gK D dA s) (hI : sI D dA w ad A H0 S H locs) (hg : gI S q = some (.inr (.inl (6, fs)))) (hv : fs[2]? = some (.inr (.inr v))) (hdg : decode cc pc = .ok (.getfield 18, 3)) (kk : W p l e R s m args below meth c H locs cells slots Q (F0 m (pc + 3) ls (va_rf v :: rest))) : W p l e R s m args below meth c H locs cells slots Q (F0 m (pc) ls (.ref q :: rest)) := s_pgr hF.1 hF.2.1 hF.2.2.2.2 hF.2.2.2.1 hK hI hg rfl in_X6 2 (by decide) q625 rfl hv hdg kk
theorem kPX6_26 {p : Program} {l : Launch} {e : Env} {R : Room} {s : State} {m : MethodId} {args : Array Value} {below : List Frame} {meth : Method} {c : Code} {H : Heap} {locs : List Loc} {Q : State → Prop} {cc : ByteArray} {nL pc : Nat} {ls : Array Slot} {rest : List Value} {cells slots : Nat} {w : Wd} {D : va_G} {dA : Nat → ClassId} {ad : Nat → Nat} {A : Nat → Prop} {H0 : Heap} {S : St} {q : Nat} (hF : CallFix p m c cc nL s args lw_all RX6) (hK : gK D dA s) (hI : sI D dA w ad A H0 S H locs) (hc : ∃ fs : List PV, gI S q = some (.inr (.inl (15, fs)))) (hdg : decode cc pc = .ok (.checkcast 26, 3)) (k : W p l e R s m args below meth c H locs cells slots Q (F0 m (pc + 3) ls (.ref q :: rest))) : W p l e R s m args below meth c H locs cells slots Q (F0 m (pc) ls (.ref q :: rest)) := by
  obtain ⟨fs, hg⟩ := hc
  exact s_castS (C := RJ12) (T := TJ12) hF.1 hF.2.1 hF.2.2.2.1 hF.2.2.2.2 q930 hK hI hg rfl hdg k
theorem cXX6_53 {p : Program} {l : Launch} {e : Env} {R : Room} {s : State} {m : MethodId} {args : Array Value} {below : List Frame} {meth : Method} {c : Code} {H : Heap} {locs : List Loc} {Q : State → Prop} {cc : ByteArray} {nL pc : Nat} {ls : Array Slot} {rest : List Value} {cells slots : Nat} {D : va_G} {dA : Nat → ClassId} {ad : Nat → Nat} {A : Nat → Prop} {H0 : Heap} {S : St} {dk : Nat} (hF : CallFix p m c cc nL s args lw_all RX6) (hK : gK D dA s) (hI : sI D dA wX ad A H0 S H locs) (hls : ls.size = nL) (hR : R.frames = dk + 1 ∧ R.locals = 64 * dk + 64) (hd : 0 + 1 ≤ dk) (hW : (rest.map fun v => v.category).sum ≤ 8) (hf : cells ≤ R.cells ∧ slots ≤ R.slots) {x0 : Nat} {K : Int → Prop} (hg0 : ∃ fs : List PV, gI S x0 = some (.inr (.inl (15, fs)))) (h : w_J12_intValue x0 S K) (hdg : decode cc pc = .ok (.invokevirtual 53, 3)) (kk : ∀ (r : Int) (H1 : Heap) (locs1 : List Loc), InR r → K r → sI D dA wX ad A H0 S H1 locs1 → W p l e R s m args below meth c H1 locs1 cells slots Q (F0 m (pc + 3) ls (iV r :: rest))) : W p l e R s m args below meth c H locs cells slots Q (F0 m (pc) ls (.ref x0 :: rest)) := s_callVi (As := []) (rest := rest) (K := fun r S' => S' = S ∧ K r) hF (t_J12_intValue l D dA ad S H.size x0 K h) (by obtain ⟨fs, hg⟩ := hg0; exact s_recvP hK hI hg rfl) (cwV 0 hF.2.2.2.2 (lw_V q931 q932 q933 q129 q934) rfl rfl rfl (by decide +kernel) ⟨by have h1 := hR.1; have h2 : (rmD 0 0 0).frames = 0 + 1 := rfl; omega, by have h1 := hR.2; have h2 : (rmD 0 0 0).locals = 64 * 0 + 64 := rfl; omega⟩) hK hI rfl hls rfl hW hdg hf (fun r S1 H1 locs1 f hk hI1 => by obtain ⟨rfl, hk⟩ := hk; exact kk r H1 locs1 f hk hI1)
theorem gPX6_21 {p : Program} {l : Launch} {e : Env} {R : Room} {s : State} {m : MethodId} {args : Array Value} {below : List Frame} {meth : Method} {c : Code} {H : Heap} {locs : List Loc} {Q : State → Prop} {cc : ByteArray} {nL pc : Nat} {ls : Array Slot} {rest : List Value} {cells slots : Nat} {w : Wd} {D : va_G} {dA : Nat → ClassId} {ad : Nat → Nat} {A : Nat → Prop} {H0 : Heap} {S : St} {q : Nat} {fs : List PV} {v : Option Nat} (hF : CallFix p m c cc nL s args lw_all RX6) (hK : gK D dA s) (hI : sI D dA w ad A H0 S H locs) (hg : gI S q = some (.inr (.inl (6, fs)))) (hv : fs[0]? = some (.inr (.inr v))) (hdg : decode cc pc = .ok (.getfield 21, 3)) (kk : W p l e R s m args below meth c H locs cells slots Q (F0 m (pc + 3) ls (va_rf v :: rest))) : W p l e R s m args below meth c H locs cells slots Q (F0 m (pc) ls (.ref q :: rest)) := s_pgr hF.1 hF.2.1 hF.2.2.2.2 hF.2.2.2.1 hK hI hg rfl in_X6 0 (by decide) q623 rfl hv hdg kk
set_option maxHeartbeats 4000000 in
theorem t_X6_of_9 (l : Launch) (D : va_G) (dA : Nat → ClassId) (ad : Nat → Nat) (d : Nat) (W0 : Nat → St → (Int → Prop) → Prop) (ihd : ∀ (S : St) (sz : Nat) (q : Nat) (K : Int → Prop), W0 q S K → OfM l D dA ad (3 + d) S sz q K) (S : St) (sz : Nat) (x0 : Nat) (K : Int → Prop) (h : b_X6_of_9 W0 x0 S K) : Met l yX6_of (ws_ yX6_of cX6_of 10 (Option.some Jvm.ClassFile.FieldType.long)) (rmD (3 + (d + 1)) 0 0) (va_Pc [.ref x0, .ref (ad 9)] (sPre D dA wX ad S sz)) (va_Ql (fun r S' => S' = S ∧ K r.toInt) (sPost D dA wX ad (wA wX ad S sz)) (wA wX ad S sz)) 0 0 (wA wX ad S sz) := by
  refine Met.ofW (cc := cX6_of) (maxL := 10) (ret := (Option.some Jvm.ClassFile.FieldType.long)) (by decide) rfl ?_
  intro p e s m args below meth c s₁ B hml hv
  obtain ⟨rfl, hsz, hK, hC⟩ := hv
  have hx := B.exec
  have hb := B.bytes
  have hr := B.returns
  have hlocks := B.notSynchronized
  have hts := atoms_spec (ws := (ws_ yX6_of cX6_of 10 (Option.some Jvm.ClassFile.FieldType.long))) B.pre
  have hts : ∀ w ∈ lw_all, w.before _ s = true := fun w h => hts w (List.mem_cons_of_mem _ h)
  have hown : s.vm.findClass RX6 = some m.cls := findClass_of_methodNamed B.named
  clear B
  subst hsz
  have hI : sI D dA wX ad (wA wX ad S s.heap.size) s.heap S s.heap [] := hC.start
  clear hC
  generalize wA wX ad S s.heap.size = A at hI ⊢
  have hl := lv_entry ([.ref x0, .ref (ad 9)] : List Value) (n := 10) (Nat.le_of_ble_eq_true rfl)
  rw [lg_entry_eq]
  generalize (lg_sl ([.ref x0, .ref (ad 9)] : List Value) ++ List.replicate (10 - (lg_sl ([.ref x0, .ref (ad 9)] : List Value)).length) Slot.unset).toArray = ls at hl ⊢
  have hl : lv_has ls 10 [(0, .ref x0), (1, .ref (ad 9))] := hl
  have hF : CallFix p m c cX6_of 10 s _ lw_all RX6 := ⟨hx, hb, hml, hown, hts⟩
  have hR : (headSpec (ws_ yX6_of cX6_of 10 (Option.some Jvm.ClassFile.FieldType.long)) (rmD (3 + (d + 1)) 0 0)).room.frames = (3 + (d + 1)) + 1 ∧ (headSpec (ws_ yX6_of cX6_of 10 (Option.some Jvm.ClassFile.FieldType.long)) (rmD (3 + (d + 1)) 0 0)).room.locals = 64 * (3 + (d + 1)) + 64 := ⟨rfl, rfl⟩
  generalize (headSpec (ws_ yX6_of cX6_of 10 (Option.some Jvm.ClassFile.FieldType.long)) (rmD (3 + (d + 1)) 0 0)).room = R at hR ⊢
  generalize ([.ref x0, .ref (ad 9)] : List Value).toArray = args at hts hF ⊢
  generalize hQ : MQ below _ _ _ _ _ _ = Q
  have L14 : ∀ (x0 : Nat), ∀ (n14 : Nat) (x2 : Int) (x4 : Int) (H : Heap) (locs : List Loc) (ls : Array Slot), InL x2 → InR x4 → sI D dA wX ad A s.heap S H locs → lv_has ls 10 [(0, .ref x0), (1, .ref (ad 9)), (2, jV x2), (4, iV x4)] → l_X6_of_9_14 W0 x0 S K n14 x2 x4 → W p l e R s m args below meth c H locs 0 0 Q (F0 m 14 ls []) := by
    intro x0 n14
    induction n14 with
    | zero => intro x2 x4 H locs ls rx2 rx4 hI hl h; exact False.elim h
    | succ n14 ih14 =>
      intro x2 x4 H locs ls rx2 rx4 hI hl h
      have J120 : ∀ (x4 : Int) (y0 : Int) (H : Heap) (locs : List Loc) (ls : Array Slot), InR x4 → InL y0 → sI D dA wX ad A s.heap S H locs → lv_has ls 10 [(0, .ref x0), (1, .ref (ad 9)), (4, iV x4)] → j_X6_of_9_120 W0 x0 x4 y0 S K (l_X6_of_9_14 W0 x0 S K n14) → W p l e R s m args below meth c H locs 0 0 Q (F0 m 120 ls [jV y0]) := by
        intro x4 y0 H locs ls rx4 ry0 hI hl h
        unfold j_X6_of_9_120 at h
        refine lv_lstore (lv' := [(8, jV y0), (0, .ref x0), (1, .ref (ad 9)), (4, iV x4)]) hx hb dX6_of_120 hl (by decide) rfl (fun ls hl => ?_)
        refine nr_ldc2 (v := (-1000000)) hx hb hown (by decide) (hts _ q935) dX6_of_122 ?_
        refine nr_ldc2 (v := 1000000) hx hb hown (by decide) (hts _ q936) dX6_of_125 ?_
        refine lv_lload hx hb dX6_of_128 (lv_at hl 0 rfl) ?_
        refine s_minl hx hb (hl.1.trans hml.symm) hown hts q937 q938 q119 q939 (by have h1 := hR.1; have h2 := hR.2; omega) ⟨Nat.zero_le _, Nat.zero_le _⟩ (Nat.le_of_ble_eq_true rfl) (by decide) ry0 dX6_of_130 ?_
        have f1 : InL (min 1000000 y0) := nr_mnRL (by decide) ry0
        refine s_maxl hx hb (hl.1.trans hml.symm) hown hts q940 q941 q119 q942 (by have h1 := hR.1; have h2 := hR.2; omega) ⟨Nat.zero_le _, Nat.zero_le _⟩ (Nat.le_of_ble_eq_true rfl) (by decide) f1 dX6_of_133 ?_
        have f2 : InL (max (-1000000) (min 1000000 y0)) := nr_mxRL (by decide) f1
        refine nr_topj (fun v3 ev3 => ?_)
        have rv3 : InL v3 := by rw [ev3]; exact f2
        replace h := h v3 ev3 rv3
        refine lv_lstore_n (lv' := [(2, jV v3), (8, jV y0), (0, .ref x0), (1, .ref (ad 9)), (4, iV x4)]) hx hb dX6_of_136 rfl hl (by decide) rfl (fun ls hl => ?_)
        have f4 := h.1; replace h := h.2
        refine nr_iinc (lv' := [(4, iV (x4 + 1)), (2, jV v3), (8, jV y0), (0, .ref x0), (1, .ref (ad 9))]) hx hb dX6_of_137 hl (k := 4) rfl (by decide) rfl (fun ls hl => ?_)
        refine lv_goto (tgt := 14) hx hb dX6_of_140 (by decide) ?_
        exact ih14 v3 (x4 + 1) _ _ _ rv3 f4 hI (lv_sub hl [3, 4, 1, 0] rfl) h
      unfold l_X6_of_9_14 at h
      refine lv_iload hx hb dX6_of_14 (lv_at hl 3 rfl) ?_
      refine lv_aload_n hx hb dX6_of_16 rfl (lv_at hl 0 rfl) ?_
      obtain ⟨fs5, v8, hg6, hv7, h⟩ := h
      refine gPX6_12 (v := some v8) hF hK hI hg6 hv7 dX6_of_17 ?_
      show W p l e R s m args below meth c _ _ _ _ Q (F0 m _ ls [.ref v8, iV x4])
      have hr9 := h.1; replace h := h.2
      refine cXX6_45 hF hK hI hl.1 hR (by omega) (Nat.le_of_ble_eq_true rfl) ⟨Nat.zero_le _, Nat.zero_le _⟩ hr9 h dX6_of_20 (fun r10 H locs fr10 h hI => ?_)
      replace h := h fr10
      refine nr_icmp_ge hx hb rx4 fr10 dX6_of_23 (tgt := 143) (by decide) (fun c12 => ?_) (fun c12 => ?_)
      · replace h := h.1 c12
        refine lv_lload_n hx hb dX6_of_143 rfl (lv_at hl 2 rfl) ?_
        rw [← hQ]; exact s_lret (K := fun r S' => S' = S ∧ K r) hx hb hr hlocks hI rx2 ⟨rfl, h⟩ dX6_of_144
      · replace h := h.2 c12
        refine lv_aload_n hx hb dX6_of_26 rfl (lv_at hl 0 rfl) ?_
        obtain ⟨fs13, v16, hg14, hv15, h⟩ := h
        refine gPX6_12 (v := some v16) hF hK hI hg14 hv15 dX6_of_27 ?_
        show W p l e R s m args below meth c _ _ _ _ Q (F0 m _ ls [.ref v16])
        refine lv_iload hx hb dX6_of_30 (lv_at hl 3 rfl) ?_
        have hr17 := h.1; replace h := h.2
        refine cXX6_49 hF hK hI hl.1 hR (by omega) (Nat.le_of_ble_eq_true rfl) ⟨Nat.zero_le _, Nat.zero_le _⟩ hr17 rx4 h dX6_of_32 (fun r18 H locs h hI => ?_)
        obtain ⟨q20, e21, h⟩ := h
        rw [e21]
        show W p l e R s m args below meth c _ _ _ _ Q (F0 m _ ls [.ref q20])
        have hcst := h.1; replace h := h.2
        refine kPX6_40 hF hK hI hcst dX6_of_35 ?_
        refine lv_aload_n hx hb dX6_of_38 rfl (lv_at hl 1 rfl) ?_
        refine iPX6_39 (ihd _ _ _ _ h) hF hK hI hl.1 hR (by omega) (Nat.le_of_ble_eq_true rfl) ⟨Nat.zero_le _, Nat.zero_le _⟩ dX6_of_39 (fun r22 H locs fr22 h hI => ?_)
        replace h := h fr22
        refine lv_lstore (lv' := [(5, jV r22), (0, .ref x0), (1, .ref (ad 9)), (2, jV x2), (4, iV x4)]) hx hb dX6_of_44 hl (by decide) rfl (fun ls hl => ?_)
        refine lv_aload_n hx hb dX6_of_46 rfl (lv_at hl 1 rfl) ?_
        obtain ⟨fs23, v26, hg24, hv25, h⟩ := h
        refine gPX6_18 (v := some v26) hF hK hI hg24 hv25 dX6_of_47 ?_
        show W p l e R s m args below meth c _ _ _ _ Q (F0 m _ ls [.ref v26])
        refine lv_iload hx hb dX6_of_50 (lv_at hl 4 rfl) ?_
        have hr27 := h.1; replace h := h.2
        refine cXX6_49 hF hK hI hl.1 hR (by omega) (Nat.le_of_ble_eq_true rfl) ⟨Nat.zero_le _, Nat.zero_le _⟩ hr27 rx4 h dX6_of_52 (fun r28 H locs h hI => ?_)
        obtain ⟨q30, e31, h⟩ := h
        rw [e31]
        show W p l e R s m args below meth c _ _ _ _ Q (F0 m _ ls [.ref q30])
        have hcst := h.1; replace h := h.2
        refine kPX6_26 hF hK hI hcst dX6_of_55 ?_
        have hr32 := h.1; replace h := h.2
        refine cXX6_53 hF hK hI hl.1 hR (by omega) (Nat.le_of_ble_eq_true rfl) ⟨Nat.zero_le _, Nat.zero_le _⟩ hr32 h dX6_of_58 (fun r33 H locs fr33 h hI => ?_)
        replace h := h fr33
        refine lv_istore (lv' := [(7, iV r33), (5, jV r22), (0, .ref x0), (1, .ref (ad 9)), (2, jV x2), (4, iV x4)]) hx hb dX6_of_61 hl (by decide) rfl (fun ls hl => ?_)
        refine lv_iload hx hb dX6_of_63 (lv_at hl 0 rfl) ?_
        refine nr_bipush hx hb dX6_of_65 (by decide) ?_
        refine nr_icmp_ne hx hb fr33 (by decide) dX6_of_67 (tgt := 77) (by decide) (fun c35 => ?_) (fun c35 => ?_)
        · replace h := h.1 c35
          refine lv_iload hx hb dX6_of_77 (lv_at hl 0 rfl) ?_
          refine nr_bipush hx hb dX6_of_79 (by decide) ?_
          refine nr_icmp_ne hx hb fr33 (by decide) dX6_of_81 (tgt := 91) (by decide) (fun c36 => ?_) (fun c36 => ?_)
          · replace h := h.1 c36
            refine lv_iload hx hb dX6_of_91 (lv_at hl 0 rfl) ?_
            refine nr_bipush hx hb dX6_of_93 (by decide) ?_
            refine nr_icmp_ne hx hb fr33 (by decide) dX6_of_95 (tgt := 105) (by decide) (fun c37 => ?_) (fun c37 => ?_)
            · replace h := h.1 c37
              refine lv_lload hx hb dX6_of_105 (lv_at hl 1 rfl) ?_
              refine nr_lconst (v := 0) hx hb dX6_of_107 rfl ?_
              refine nr_lcmp_ne hx hb fr22 (by decide) dX6_of_108 dX6_of_109 (tgt := 116) (by decide) (fun c38 => ?_) (fun c38 => ?_)
              · replace h := h.1 c38
                refine lv_lload_n hx hb dX6_of_116 rfl (lv_at hl 4 rfl) ?_
                refine lv_lload hx hb dX6_of_117 (lv_at hl 1 rfl) ?_
                have f39 := h.1; replace h := h.2
                have f40 := h.1; replace h := h.2
                refine nr_ldiv hx hb rx2 fr22 f39 dX6_of_119 ?_
                exact J120 x4 (Int.tdiv x2 r22) _ _ _ rx4 f40 hI (lv_sub hl [2, 3, 5] rfl) h
              · replace h := h.2 c38
                refine nr_lconst (v := 0) hx hb dX6_of_112 rfl ?_
                refine lv_goto (tgt := 120) hx hb dX6_of_113 (by decide) ?_
                exact J120 x4 0 _ _ _ rx4 (by decide) hI (lv_sub hl [2, 3, 5] rfl) h
            · replace h := h.2 c37
              refine lv_lload_n hx hb dX6_of_98 rfl (lv_at hl 4 rfl) ?_
              refine lv_lload hx hb dX6_of_99 (lv_at hl 1 rfl) ?_
              have f41 := h.1; replace h := h.2
              refine nr_lmul hx hb dX6_of_101 ?_
              refine lv_goto (tgt := 120) hx hb dX6_of_102 (by decide) ?_
              exact J120 x4 (x2 * r22) _ _ _ rx4 f41 hI (lv_sub hl [2, 3, 5] rfl) h
          · replace h := h.2 c36
            refine lv_lload_n hx hb dX6_of_84 rfl (lv_at hl 4 rfl) ?_
            refine lv_lload hx hb dX6_of_85 (lv_at hl 1 rfl) ?_
            have f42 := h.1; replace h := h.2
            refine nr_lsub hx hb dX6_of_87 ?_
            refine lv_goto (tgt := 120) hx hb dX6_of_88 (by decide) ?_
            exact J120 x4 (x2 - r22) _ _ _ rx4 f42 hI (lv_sub hl [2, 3, 5] rfl) h
        · replace h := h.2 c35
          refine lv_lload_n hx hb dX6_of_70 rfl (lv_at hl 4 rfl) ?_
          refine lv_lload hx hb dX6_of_71 (lv_at hl 1 rfl) ?_
          have f43 := h.1; replace h := h.2
          refine nr_ladd hx hb dX6_of_73 ?_
          refine lv_goto (tgt := 120) hx hb dX6_of_74 (by decide) ?_
          exact J120 x4 (x2 + r22) _ _ _ rx4 f43 hI (lv_sub hl [2, 3, 5] rfl) h
  unfold b_X6_of_9 at h
  refine lv_aload_n hx hb dX6_of_0 rfl (lv_at hl 0 rfl) ?_
  obtain ⟨fs44, v47, hg45, hv46, h⟩ := h
  refine gPX6_21 (v := some v47) hF hK hI hg45 hv46 dX6_of_1 ?_
  show W p l e R s m args below meth c _ _ _ _ Q (F0 m _ ls [.ref v47])
  refine lv_aload_n hx hb dX6_of_4 rfl (lv_at hl 1 rfl) ?_
  refine iPX6_39 (ihd _ _ _ _ h) hF hK hI hl.1 hR (by omega) (Nat.le_of_ble_eq_true rfl) ⟨Nat.zero_le _, Nat.zero_le _⟩ dX6_of_5 (fun r48 H locs fr48 h hI => ?_)
  replace h := h fr48
  refine lv_lstore_n (lv' := [(2, jV r48), (0, .ref x0), (1, .ref (ad 9))]) hx hb dX6_of_10 rfl hl (by decide) rfl (fun ls hl => ?_)
  refine nr_iconst hx hb dX6_of_11 ?_
  refine lv_istore (lv' := [(4, iV 0), (2, jV r48), (0, .ref x0), (1, .ref (ad 9))]) hx hb dX6_of_12 hl (by decide) rfl (fun ls hl => ?_)
  obtain ⟨n0, h⟩ := h
  exact L14 x0 n0 r48 0 _ _ _ fr48 (by decide) hI (lv_sub hl [2, 3, 1, 0] rfl) h
theorem t_of (l : Launch) : ∀ (d : Nat) (D : va_G) (dA : Nat → ClassId) (ad : Nat → Nat) (S : St) (sz q : Nat) (K : Int → Prop), w_of d q S K → OfM l D dA ad (3 + d) S sz q K := by
  intro d
  induction d with
  | zero => intro D dA ad S sz q K h; exact False.elim h
  | succ d ih =>
    intro D dA ad S sz q K h
    rcases h with ⟨hg, h⟩ | ⟨hg, h⟩ | ⟨hg, h⟩ | ⟨hg, h⟩
    · exact Or.inl ⟨hg, t_X7_of_9 l D dA ad d (w_of d) (ih D dA ad) S sz q K h⟩
    · exact Or.inr (Or.inl ⟨hg, t_X8_of_9 l D dA ad d (w_of d) (ih D dA ad) S sz q K h⟩)
    · exact Or.inr (Or.inr (Or.inl ⟨hg, t_X9_of_9 l D dA ad d (w_of d) (ih D dA ad) S sz q K h⟩))
    · exact Or.inr (Or.inr (Or.inr (⟨hg, t_X6_of_9 l D dA ad d (w_of d) (ih D dA ad) S sz q K h⟩)))

def IsM (l : Launch) (D : va_G) (dA : Nat → ClassId) (ad : Nat → Nat) (dd : Nat) (S : St) (sz : Nat) (x0 : Nat) (K : Int → Prop) : Prop :=
  ((∃ fs : List PV, gI S x0 = some (.inr (.inl (11, fs)))) ∧ Met l yX11_is (ws_ yX11_is cX11_is 4 (Option.some Jvm.ClassFile.FieldType.boolean)) (rmD dd 0 0) (va_Pc [.ref x0, .ref (ad 9)] (sPre D dA wX ad S sz)) (va_Qi (fun r S' => (r.toInt = 0 ∨ r.toInt = 1) ∧ (S' = S ∧ K r.toInt)) (sPost D dA wX ad (wA wX ad S sz)) (wA wX ad S sz)) 0 0 (wA wX ad S sz)) ∨
  ((∃ fs : List PV, gI S x0 = some (.inr (.inl (10, fs)))) ∧ Met l yX10_is (ws_ yX10_is cX10_is 2 (Option.some Jvm.ClassFile.FieldType.boolean)) (rmD dd 0 0) (va_Pc [.ref x0, .ref (ad 9)] (sPre D dA wX ad S sz)) (va_Qi (fun r S' => (r.toInt = 0 ∨ r.toInt = 1) ∧ (S' = S ∧ K r.toInt)) (sPost D dA wX ad (wA wX ad S sz)) (wA wX ad S sz)) 0 0 (wA wX ad S sz)) ∨
  ((∃ fs : List PV, gI S x0 = some (.inr (.inl (12, fs)))) ∧ Met l yX12_is (ws_ yX12_is cX12_is 4 (Option.some Jvm.ClassFile.FieldType.boolean)) (rmD dd 0 0) (va_Pc [.ref x0, .ref (ad 9)] (sPre D dA wX ad S sz)) (va_Qi (fun r S' => (r.toInt = 0 ∨ r.toInt = 1) ∧ (S' = S ∧ K r.toInt)) (sPost D dA wX ad (wA wX ad S sz)) (wA wX ad S sz)) 0 0 (wA wX ad S sz))

theorem gPX11_13 {p : Program} {l : Launch} {e : Env} {R : Room} {s : State} {m : MethodId} {args : Array Value} {below : List Frame} {meth : Method} {c : Code} {H : Heap} {locs : List Loc} {Q : State → Prop} {cc : ByteArray} {nL pc : Nat} {ls : Array Slot} {rest : List Value} {cells slots : Nat} {w : Wd} {D : va_G} {dA : Nat → ClassId} {ad : Nat → Nat} {A : Nat → Prop} {H0 : Heap} {S : St} {q : Nat} {fs : List PV} {v : Option Nat} (hF : CallFix p m c cc nL s args lw_all RX11) (hK : gK D dA s) (hI : sI D dA w ad A H0 S H locs) (hg : gI S q = some (.inr (.inl (11, fs)))) (hv : fs[1]? = some (.inr (.inr v))) (hdg : decode cc pc = .ok (.getfield 13, 3)) (kk : W p l e R s m args below meth c H locs cells slots Q (F0 m (pc + 3) ls (va_rf v :: rest))) : W p l e R s m args below meth c H locs cells slots Q (F0 m (pc) ls (.ref q :: rest)) := s_pgr hF.1 hF.2.1 hF.2.2.2.2 hF.2.2.2.1 hK hI hg rfl in_X11 1 (by decide) q755 rfl hv hdg kk
theorem iPX11_20 {p : Program} {l : Launch} {e : Env} {R : Room} {s : State} {m : MethodId} {args : Array Value} {below : List Frame} {meth : Method} {c : Code} {H : Heap} {locs : List Loc} {Q : State → Prop} {cc : ByteArray} {nL pc : Nat} {ls : Array Slot} {rest : List Value} {cells slots : Nat} {D : va_G} {dA : Nat → ClassId} {ad : Nat → Nat} {A : Nat → Prop} {H0 : Heap} {S : St} {dk dd q : Nat} {K : Int → Prop} (hM : OfM l D dA ad dd S H.size q K) (hF : CallFix p m c cc nL s args lw_all RX11) (hK : gK D dA s) (hI : sI D dA wX ad A H0 S H locs) (hls : ls.size = nL) (hR : R.frames = dk + 1 ∧ R.locals = 64 * dk + 64) (hd : dd + 1 ≤ dk) (hW : (rest.map fun v => v.category).sum ≤ 8) (hf : cells ≤ R.cells ∧ slots ≤ R.slots) (hdg : decode cc pc = .ok (.invokeinterface 20 2, 5)) (kk : ∀ (r : Int) (H1 : Heap) (locs1 : List Loc), InL r → K r → sI D dA wX ad A H0 S H1 locs1 → W p l e R s m args below meth c H1 locs1 cells slots Q (F0 m (pc + 5) ls (jV r :: rest))) : W p l e R s m args below meth c H locs cells slots Q (F0 m (pc) ls (.ref (ad 9) :: .ref q :: rest)) := by
  rcases hM with ⟨⟨fs, hg⟩, hM⟩ | ⟨⟨fs, hg⟩, hM⟩ | ⟨⟨fs, hg⟩, hM⟩ | ⟨⟨fs, hg⟩, hM⟩
  · exact s_callFl (x := (⟨"NineGraves$Sum", "of", "([I)J"⟩ : MethodName)) (As := [.ref (ad 9)]) (rest := rest) (K := fun r S' => S' = S ∧ K r) (hK.1.1 7 _ rfl).2 hF hM (s_recvP hK hI hg rfl) (va_cwF 1 hF.2.2.2.2 (lw_F q1015 q922 q924 q125 q926) rfl rfl rfl (nFw_0 hK.2) (by decide +kernel) ⟨by have h1 := hR.1; have h2 : (rmD dd 0 0).frames = dd + 1 := rfl; omega, by have h1 := hR.2; have h2 : (rmD dd 0 0).locals = 64 * dd + 64 := rfl; omega⟩) hK hI rfl hls rfl hW hdg hf (fun r S1 H1 locs1 f hk hI1 => by obtain ⟨rfl, hk⟩ := hk; exact kk r H1 locs1 f hk hI1)
  · exact s_callFl (x := (⟨"NineGraves$Sum", "of", "([I)J"⟩ : MethodName)) (As := [.ref (ad 9)]) (rest := rest) (K := fun r S' => S' = S ∧ K r) (hK.1.1 8 _ rfl).2 hF hM (s_recvP hK hI hg rfl) (va_cwF 1 hF.2.2.2.2 (lw_F q1015 q916 q918 q126 q920) rfl rfl rfl (nFw_1 hK.2) (by decide +kernel) ⟨by have h1 := hR.1; have h2 : (rmD dd 0 0).frames = dd + 1 := rfl; omega, by have h1 := hR.2; have h2 : (rmD dd 0 0).locals = 64 * dd + 64 := rfl; omega⟩) hK hI rfl hls rfl hW hdg hf (fun r S1 H1 locs1 f hk hI1 => by obtain ⟨rfl, hk⟩ := hk; exact kk r H1 locs1 f hk hI1)
  · exact s_callFl (x := (⟨"NineGraves$Sum", "of", "([I)J"⟩ : MethodName)) (As := [.ref (ad 9)]) (rest := rest) (K := fun r S' => S' = S ∧ K r) (hK.1.1 9 _ rfl).2 hF hM (s_recvP hK hI hg rfl) (va_cwF 1 hF.2.2.2.2 (lw_F q1015 q908 q910 q127 q912) rfl rfl rfl (nFw_2 hK.2) (by decide +kernel) ⟨by have h1 := hR.1; have h2 : (rmD dd 0 0).frames = dd + 1 := rfl; omega, by have h1 := hR.2; have h2 : (rmD dd 0 0).locals = 64 * dd + 64 := rfl; omega⟩) hK hI rfl hls rfl hW hdg hf (fun r S1 H1 locs1 f hk hI1 => by obtain ⟨rfl, hk⟩ := hk; exact kk r H1 locs1 f hk hI1)
  · exact s_callFl (x := (⟨"NineGraves$Sum", "of", "([I)J"⟩ : MethodName)) (As := [.ref (ad 9)]) (rest := rest) (K := fun r S' => S' = S ∧ K r) (hK.1.1 6 _ rfl).2 hF hM (s_recvP hK hI hg rfl) (va_cwF 1 hF.2.2.2.2 (lw_F q1015 q900 q902 q123 q904) rfl rfl rfl (nFw_3 hK.2) (by decide +kernel) ⟨by have h1 := hR.1; have h2 : (rmD dd 0 0).frames = dd + 1 := rfl; omega, by have h1 := hR.2; have h2 : (rmD dd 0 0).locals = 64 * dd + 64 := rfl; omega⟩) hK hI rfl hls rfl hW hdg hf (fun r S1 H1 locs1 f hk hI1 => by obtain ⟨rfl, hk⟩ := hk; exact kk r H1 locs1 f hk hI1)
theorem gPX11_17 {p : Program} {l : Launch} {e : Env} {R : Room} {s : State} {m : MethodId} {args : Array Value} {below : List Frame} {meth : Method} {c : Code} {H : Heap} {locs : List Loc} {Q : State → Prop} {cc : ByteArray} {nL pc : Nat} {ls : Array Slot} {rest : List Value} {cells slots : Nat} {w : Wd} {D : va_G} {dA : Nat → ClassId} {ad : Nat → Nat} {A : Nat → Prop} {H0 : Heap} {S : St} {q : Nat} {fs : List PV} {v : Option Nat} (hF : CallFix p m c cc nL s args lw_all RX11) (hK : gK D dA s) (hI : sI D dA w ad A H0 S H locs) (hg : gI S q = some (.inr (.inl (11, fs)))) (hv : fs[2]? = some (.inr (.inr v))) (hdg : decode cc pc = .ok (.getfield 17, 3)) (kk : W p l e R s m args below meth c H locs cells slots Q (F0 m (pc + 3) ls (va_rf v :: rest))) : W p l e R s m args below meth c H locs cells slots Q (F0 m (pc) ls (.ref q :: rest)) := s_pgr hF.1 hF.2.1 hF.2.2.2.2 hF.2.2.2.1 hK hI hg rfl in_X11 2 (by decide) q756 rfl hv hdg kk
theorem gPX11_7 {p : Program} {l : Launch} {e : Env} {R : Room} {s : State} {m : MethodId} {args : Array Value} {below : List Frame} {meth : Method} {c : Code} {H : Heap} {locs : List Loc} {Q : State → Prop} {cc : ByteArray} {nL pc : Nat} {ls : Array Slot} {rest : List Value} {cells slots : Nat} {w : Wd} {D : va_G} {dA : Nat → ClassId} {ad : Nat → Nat} {A : Nat → Prop} {H0 : Heap} {S : St} {q : Nat} {fs : List PV} {v : Int} (hF : CallFix p m c cc nL s args lw_all RX11) (hK : gK D dA s) (hI : sI D dA w ad A H0 S H locs) (hg : gI S q = some (.inr (.inl (11, fs)))) (hv : fs[0]? = some (.inl v)) (hdg : decode cc pc = .ok (.getfield 7, 3)) (kk : InR v → W p l e R s m args below meth c H locs cells slots Q (F0 m (pc + 3) ls (iV v :: rest))) : W p l e R s m args below meth c H locs cells slots Q (F0 m (pc) ls (.ref q :: rest)) := s_pgi hF.1 hF.2.1 hF.2.2.2.2 hF.2.2.2.1 hK hI hg rfl in_X11 0 (by decide) q754 rfl hv hdg kk
set_option maxHeartbeats 4000000 in
theorem t_X11_is_9 (l : Launch) (D : va_G) (dA : Nat → ClassId) (ad : Nat → Nat) (d : Nat) (W0 : Nat → St → (Int → Prop) → Prop) (ihd : ∀ (S : St) (sz : Nat) (q : Nat) (K : Int → Prop), W0 q S K → IsM l D dA ad (75 + d) S sz q K) (S : St) (sz : Nat) (x0 : Nat) (K : Int → Prop) (h : b_X11_is_9 W0 x0 S K) : Met l yX11_is (ws_ yX11_is cX11_is 4 (Option.some Jvm.ClassFile.FieldType.boolean)) (rmD (75 + (d + 1)) 0 0) (va_Pc [.ref x0, .ref (ad 9)] (sPre D dA wX ad S sz)) (va_Qi (fun r S' => (r.toInt = 0 ∨ r.toInt = 1) ∧ (S' = S ∧ K r.toInt)) (sPost D dA wX ad (wA wX ad S sz)) (wA wX ad S sz)) 0 0 (wA wX ad S sz) := by
  refine Met.ofW (cc := cX11_is) (maxL := 4) (ret := (Option.some Jvm.ClassFile.FieldType.boolean)) (by decide) rfl ?_
  intro p e s m args below meth c s₁ B hml hv
  obtain ⟨rfl, hsz, hK, hC⟩ := hv
  have hx := B.exec
  have hb := B.bytes
  have hr := B.returns
  have hlocks := B.notSynchronized
  have hts := atoms_spec (ws := (ws_ yX11_is cX11_is 4 (Option.some Jvm.ClassFile.FieldType.boolean))) B.pre
  have hts : ∀ w ∈ lw_all, w.before _ s = true := fun w h => hts w (List.mem_cons_of_mem _ h)
  have hown : s.vm.findClass RX11 = some m.cls := findClass_of_methodNamed B.named
  clear B
  subst hsz
  have hI : sI D dA wX ad (wA wX ad S s.heap.size) s.heap S s.heap [] := hC.start
  clear hC
  generalize wA wX ad S s.heap.size = A at hI ⊢
  have hl := lv_entry ([.ref x0, .ref (ad 9)] : List Value) (n := 4) (Nat.le_of_ble_eq_true rfl)
  rw [lg_entry_eq]
  generalize (lg_sl ([.ref x0, .ref (ad 9)] : List Value) ++ List.replicate (4 - (lg_sl ([.ref x0, .ref (ad 9)] : List Value)).length) Slot.unset).toArray = ls at hl ⊢
  have hl : lv_has ls 4 [(0, .ref x0), (1, .ref (ad 9))] := hl
  have hF : CallFix p m c cX11_is 4 s _ lw_all RX11 := ⟨hx, hb, hml, hown, hts⟩
  have hR : (headSpec (ws_ yX11_is cX11_is 4 (Option.some Jvm.ClassFile.FieldType.boolean)) (rmD (75 + (d + 1)) 0 0)).room.frames = (75 + (d + 1)) + 1 ∧ (headSpec (ws_ yX11_is cX11_is 4 (Option.some Jvm.ClassFile.FieldType.boolean)) (rmD (75 + (d + 1)) 0 0)).room.locals = 64 * (75 + (d + 1)) + 64 := ⟨rfl, rfl⟩
  generalize (headSpec (ws_ yX11_is cX11_is 4 (Option.some Jvm.ClassFile.FieldType.boolean)) (rmD (75 + (d + 1)) 0 0)).room = R at hR ⊢
  generalize ([.ref x0, .ref (ad 9)] : List Value).toArray = args at hts hF ⊢
  generalize hQ : MQ below _ _ _ _ _ _ = Q
  unfold b_X11_is_9 at h
  refine lv_aload_n hx hb dX11_is_0 rfl (lv_at hl 0 rfl) ?_
  obtain ⟨fs1, v4, hg2, hv3, h⟩ := h
  refine gPX11_13 (v := some v4) hF hK hI hg2 hv3 dX11_is_1 ?_
  show W p l e R s m args below meth c _ _ _ _ Q (F0 m _ ls [.ref v4])
  refine lv_aload_n hx hb dX11_is_4 rfl (lv_at hl 1 rfl) ?_
  obtain ⟨d6, hd6, h⟩ := h
  refine iPX11_20 (t_of l d6 D dA ad S _ _ _ h) hF hK hI hl.1 hR (by omega) (Nat.le_of_ble_eq_true rfl) ⟨Nat.zero_le _, Nat.zero_le _⟩ dX11_is_5 (fun r5 H locs fr5 h hI => ?_)
  replace h := h fr5
  refine lv_aload_n hx hb dX11_is_10 rfl (lv_at hl 0 rfl) ?_
  obtain ⟨fs7, v10, hg8, hv9, h⟩ := h
  refine gPX11_17 (v := some v10) hF hK hI hg8 hv9 dX11_is_11 ?_
  show W p l e R s m args below meth c _ _ _ _ Q (F0 m _ ls [.ref v10, jV r5])
  refine lv_aload_n hx hb dX11_is_14 rfl (lv_at hl 1 rfl) ?_
  obtain ⟨d12, hd12, h⟩ := h
  refine iPX11_20 (t_of l d12 D dA ad S _ _ _ h) hF hK hI hl.1 hR (by omega) (Nat.le_of_ble_eq_true rfl) ⟨Nat.zero_le _, Nat.zero_le _⟩ dX11_is_15 (fun r11 H locs fr11 h hI => ?_)
  replace h := h fr11
  have f13 := h.1; replace h := h.2
  refine nr_lsub hx hb dX11_is_20 ?_
  refine nr_topj (fun v14 ev14 => ?_)
  have rv14 : InL v14 := by rw [ev14]; exact f13
  replace h := h v14 ev14 rv14
  refine lv_lstore_n (lv' := [(2, jV v14), (0, .ref x0), (1, .ref (ad 9))]) hx hb dX11_is_21 rfl hl (by decide) rfl (fun ls hl => ?_)
  refine lv_aload_n hx hb dX11_is_22 rfl (lv_at hl 1 rfl) ?_
  obtain ⟨fs15, v18, hg16, hv17, h⟩ := h
  refine gPX11_7 hF hK hI hg16 hv17 dX11_is_23 (fun f19 => ?_)
  replace h := h f19
  have hcs : v18 = 35 ∨ v18 = 60 ∨ v18 = 61 ∨ v18 = 62 ∨ v18 = 303 ∨ (¬ v18 = 35 ∧ ¬ v18 = 60 ∧ ¬ v18 = 61 ∧ ¬ v18 = 62 ∧ ¬ v18 = 303) := by omega
  rcases hcs with c20 | c20 | c20 | c20 | c20 | c20
  · replace h := h.1 c20
    refine nr_lookup hx hb f19 dX11_is_26 (by decide) (by rw [c20] <;> rfl) (tgt := 112) (by decide) ?_
    refine lv_lload_n hx hb dX11_is_112 rfl (lv_at hl 0 rfl) ?_
    refine nr_lconst (v := 0) hx hb dX11_is_113 rfl ?_
    refine nr_lcmp_eq hx hb rv14 (by decide) dX11_is_114 dX11_is_115 (tgt := 122) (by decide) (fun c21 => ?_) (fun c21 => ?_)
    · replace h := h.1 c21
      refine nr_iconst hx hb dX11_is_122 ?_
      rw [← hQ]; exact s_zret (K := fun r S' => S' = S ∧ K r) hx hb hr hlocks hI (by decide) ⟨rfl, h⟩ dX11_is_123
    · replace h := h.2 c21
      refine nr_iconst hx hb dX11_is_118 ?_
      refine lv_goto (tgt := 123) hx hb dX11_is_119 (by decide) ?_
      rw [← hQ]; exact s_zret (K := fun r S' => S' = S ∧ K r) hx hb hr hlocks hI (by decide) ⟨rfl, h⟩ dX11_is_123
  · replace h := h.2.1 c20
    refine nr_lookup hx hb f19 dX11_is_26 (by decide) (by rw [c20] <;> rfl) (tgt := 76) (by decide) ?_
    refine lv_lload_n hx hb dX11_is_76 rfl (lv_at hl 0 rfl) ?_
    refine nr_lconst (v := 0) hx hb dX11_is_77 rfl ?_
    refine nr_lcmp_ge hx hb rv14 (by decide) dX11_is_78 dX11_is_79 (tgt := 86) (by decide) (fun c22 => ?_) (fun c22 => ?_)
    · replace h := h.1 c22
      refine nr_iconst hx hb dX11_is_86 ?_
      rw [← hQ]; exact s_zret (K := fun r S' => S' = S ∧ K r) hx hb hr hlocks hI (by decide) ⟨rfl, h⟩ dX11_is_87
    · replace h := h.2 c22
      refine nr_iconst hx hb dX11_is_82 ?_
      refine lv_goto (tgt := 87) hx hb dX11_is_83 (by decide) ?_
      rw [← hQ]; exact s_zret (K := fun r S' => S' = S ∧ K r) hx hb hr hlocks hI (by decide) ⟨rfl, h⟩ dX11_is_87
  · replace h := h.2.2.1 c20
    refine nr_lookup hx hb f19 dX11_is_26 (by decide) (by rw [c20] <;> rfl) (tgt := 100) (by decide) ?_
    refine lv_lload_n hx hb dX11_is_100 rfl (lv_at hl 0 rfl) ?_
    refine nr_lconst (v := 0) hx hb dX11_is_101 rfl ?_
    refine nr_lcmp_ne hx hb rv14 (by decide) dX11_is_102 dX11_is_103 (tgt := 110) (by decide) (fun c23 => ?_) (fun c23 => ?_)
    · replace h := h.1 c23
      refine nr_iconst hx hb dX11_is_110 ?_
      rw [← hQ]; exact s_zret (K := fun r S' => S' = S ∧ K r) hx hb hr hlocks hI (by decide) ⟨rfl, h⟩ dX11_is_111
    · replace h := h.2 c23
      refine nr_iconst hx hb dX11_is_106 ?_
      refine lv_goto (tgt := 111) hx hb dX11_is_107 (by decide) ?_
      rw [← hQ]; exact s_zret (K := fun r S' => S' = S ∧ K r) hx hb hr hlocks hI (by decide) ⟨rfl, h⟩ dX11_is_111
  · replace h := h.2.2.2.1 c20
    refine nr_lookup hx hb f19 dX11_is_26 (by decide) (by rw [c20] <;> rfl) (tgt := 88) (by decide) ?_
    refine lv_lload_n hx hb dX11_is_88 rfl (lv_at hl 0 rfl) ?_
    refine nr_lconst (v := 0) hx hb dX11_is_89 rfl ?_
    refine nr_lcmp_le hx hb rv14 (by decide) dX11_is_90 dX11_is_91 (tgt := 98) (by decide) (fun c24 => ?_) (fun c24 => ?_)
    · replace h := h.1 c24
      refine nr_iconst hx hb dX11_is_98 ?_
      rw [← hQ]; exact s_zret (K := fun r S' => S' = S ∧ K r) hx hb hr hlocks hI (by decide) ⟨rfl, h⟩ dX11_is_99
    · replace h := h.2 c24
      refine nr_iconst hx hb dX11_is_94 ?_
      refine lv_goto (tgt := 99) hx hb dX11_is_95 (by decide) ?_
      rw [← hQ]; exact s_zret (K := fun r S' => S' = S ∧ K r) hx hb hr hlocks hI (by decide) ⟨rfl, h⟩ dX11_is_99
  · replace h := h.2.2.2.2.1 c20
    refine nr_lookup hx hb f19 dX11_is_26 (by decide) (by rw [c20] <;> rfl) (tgt := 124) (by decide) ?_
    refine lv_lload_n hx hb dX11_is_124 rfl (lv_at hl 0 rfl) ?_
    refine nr_lconst (v := 0) hx hb dX11_is_125 rfl ?_
    refine nr_lcmp_gt hx hb rv14 (by decide) dX11_is_126 dX11_is_127 (tgt := 134) (by decide) (fun c25 => ?_) (fun c25 => ?_)
    · replace h := h.1 c25
      refine nr_iconst hx hb dX11_is_134 ?_
      rw [← hQ]; exact s_zret (K := fun r S' => S' = S ∧ K r) hx hb hr hlocks hI (by decide) ⟨rfl, h⟩ dX11_is_135
    · replace h := h.2 c25
      refine nr_iconst hx hb dX11_is_130 ?_
      refine lv_goto (tgt := 135) hx hb dX11_is_131 (by decide) ?_
      rw [← hQ]; exact s_zret (K := fun r S' => S' = S ∧ K r) hx hb hr hlocks hI (by decide) ⟨rfl, h⟩ dX11_is_135
  · replace h := h.2.2.2.2.2 c20
    refine nr_lookup (off := 110) hx hb f19 dX11_is_26 (by decide) ((nr_osw (c20.1)).trans ((nr_osw (c20.2.1)).trans ((nr_osw (c20.2.2.1)).trans ((nr_osw (c20.2.2.2.1)).trans ((nr_osw c20.2.2.2.2).trans rfl))))) (tgt := 136) (by decide) ?_
    refine lv_lload_n hx hb dX11_is_136 rfl (lv_at hl 0 rfl) ?_
    refine nr_lconst (v := 0) hx hb dX11_is_137 rfl ?_
    refine nr_lcmp_lt hx hb rv14 (by decide) dX11_is_138 dX11_is_139 (tgt := 146) (by decide) (fun c26 => ?_) (fun c26 => ?_)
    · replace h := h.1 c26
      refine nr_iconst hx hb dX11_is_146 ?_
      rw [← hQ]; exact s_zret (K := fun r S' => S' = S ∧ K r) hx hb hr hlocks hI (by decide) ⟨rfl, h⟩ dX11_is_147
    · replace h := h.2 c26
      refine nr_iconst hx hb dX11_is_142 ?_
      refine lv_goto (tgt := 147) hx hb dX11_is_143 (by decide) ?_
      rw [← hQ]; exact s_zret (K := fun r S' => S' = S ∧ K r) hx hb hr hlocks hI (by decide) ⟨rfl, h⟩ dX11_is_147
theorem gPX10_7 {p : Program} {l : Launch} {e : Env} {R : Room} {s : State} {m : MethodId} {args : Array Value} {below : List Frame} {meth : Method} {c : Code} {H : Heap} {locs : List Loc} {Q : State → Prop} {cc : ByteArray} {nL pc : Nat} {ls : Array Slot} {rest : List Value} {cells slots : Nat} {w : Wd} {D : va_G} {dA : Nat → ClassId} {ad : Nat → Nat} {A : Nat → Prop} {H0 : Heap} {S : St} {q : Nat} {fs : List PV} {v : Option Nat} (hF : CallFix p m c cc nL s args lw_all RX10) (hK : gK D dA s) (hI : sI D dA w ad A H0 S H locs) (hg : gI S q = some (.inr (.inl (10, fs)))) (hv : fs[0]? = some (.inr (.inr v))) (hdg : decode cc pc = .ok (.getfield 7, 3)) (kk : W p l e R s m args below meth c H locs cells slots Q (F0 m (pc + 3) ls (va_rf v :: rest))) : W p l e R s m args below meth c H locs cells slots Q (F0 m (pc) ls (.ref q :: rest)) := s_pgr hF.1 hF.2.1 hF.2.2.2.2 hF.2.2.2.1 hK hI hg rfl in_X10 0 (by decide) q744 rfl hv hdg kk
theorem iPX10_13 {p : Program} {l : Launch} {e : Env} {R : Room} {s : State} {m : MethodId} {args : Array Value} {below : List Frame} {meth : Method} {c : Code} {H : Heap} {locs : List Loc} {Q : State → Prop} {cc : ByteArray} {nL pc : Nat} {ls : Array Slot} {rest : List Value} {cells slots : Nat} {D : va_G} {dA : Nat → ClassId} {ad : Nat → Nat} {A : Nat → Prop} {H0 : Heap} {S : St} {dk dd q : Nat} {K : Int → Prop} (hM : IsM l D dA ad dd S H.size q K) (hF : CallFix p m c cc nL s args lw_all RX10) (hK : gK D dA s) (hI : sI D dA wX ad A H0 S H locs) (hls : ls.size = nL) (hR : R.frames = dk + 1 ∧ R.locals = 64 * dk + 64) (hd : dd + 1 ≤ dk) (hW : (rest.map fun v => v.category).sum ≤ 8) (hf : cells ≤ R.cells ∧ slots ≤ R.slots) (hdg : decode cc pc = .ok (.invokeinterface 13 2, 5)) (kk : ∀ (r : Int) (H1 : Heap) (locs1 : List Loc), (r = 0 ∨ r = 1) → K r → sI D dA wX ad A H0 S H1 locs1 → W p l e R s m args below meth c H1 locs1 cells slots Q (F0 m (pc + 5) ls (iV r :: rest))) : W p l e R s m args below meth c H locs cells slots Q (F0 m (pc) ls (.ref (ad 9) :: .ref q :: rest)) := by
  rcases hM with ⟨⟨fs, hg⟩, hM⟩ | ⟨⟨fs, hg⟩, hM⟩ | ⟨⟨fs, hg⟩, hM⟩
  · exact s_callFz (x := (⟨"NineGraves$Asked", "is", "([I)Z"⟩ : MethodName)) (As := [.ref (ad 9)]) (rest := rest) (K := fun r S' => S' = S ∧ K r) (hK.1.1 11 _ rfl).2 hF hM (s_recvP hK hI hg rfl) (va_cwF 1 hF.2.2.2.2 (lw_F q1023 q1009 q1011 q134 q1013) rfl rfl rfl (nFw_4 hK.2) (by decide +kernel) ⟨by have h1 := hR.1; have h2 : (rmD dd 0 0).frames = dd + 1 := rfl; omega, by have h1 := hR.2; have h2 : (rmD dd 0 0).locals = 64 * dd + 64 := rfl; omega⟩) hK hI rfl hls rfl hW hdg hf (fun r S1 H1 locs1 f hk hI1 => by obtain ⟨rfl, hk⟩ := hk; exact kk r H1 locs1 f hk hI1)
  · exact s_callFz (x := (⟨"NineGraves$Asked", "is", "([I)Z"⟩ : MethodName)) (As := [.ref (ad 9)]) (rest := rest) (K := fun r S' => S' = S ∧ K r) (hK.1.1 10 _ rfl).2 hF hM (s_recvP hK hI hg rfl) (va_cwF 1 hF.2.2.2.2 (lw_F q1023 q1017 q1019 q133 q1021) rfl rfl rfl (nFw_5 hK.2) (by decide +kernel) ⟨by have h1 := hR.1; have h2 : (rmD dd 0 0).frames = dd + 1 := rfl; omega, by have h1 := hR.2; have h2 : (rmD dd 0 0).locals = 64 * dd + 64 := rfl; omega⟩) hK hI rfl hls rfl hW hdg hf (fun r S1 H1 locs1 f hk hI1 => by obtain ⟨rfl, hk⟩ := hk; exact kk r H1 locs1 f hk hI1)
  · exact s_callFz (x := (⟨"NineGraves$Asked", "is", "([I)Z"⟩ : MethodName)) (As := [.ref (ad 9)]) (rest := rest) (K := fun r S' => S' = S ∧ K r) (hK.1.1 12 _ rfl).2 hF hM (s_recvP hK hI hg rfl) (va_cwF 1 hF.2.2.2.2 (lw_F q1023 q998 q1000 q136 q1002) rfl rfl rfl (nFw_6 hK.2) (by decide +kernel) ⟨by have h1 := hR.1; have h2 : (rmD dd 0 0).frames = dd + 1 := rfl; omega, by have h1 := hR.2; have h2 : (rmD dd 0 0).locals = 64 * dd + 64 := rfl; omega⟩) hK hI rfl hls rfl hW hdg hf (fun r S1 H1 locs1 f hk hI1 => by obtain ⟨rfl, hk⟩ := hk; exact kk r H1 locs1 f hk hI1)
set_option maxHeartbeats 4000000 in
theorem t_X10_is_9 (l : Launch) (D : va_G) (dA : Nat → ClassId) (ad : Nat → Nat) (d : Nat) (W0 : Nat → St → (Int → Prop) → Prop) (ihd : ∀ (S : St) (sz : Nat) (q : Nat) (K : Int → Prop), W0 q S K → IsM l D dA ad (75 + d) S sz q K) (S : St) (sz : Nat) (x0 : Nat) (K : Int → Prop) (h : b_X10_is_9 W0 x0 S K) : Met l yX10_is (ws_ yX10_is cX10_is 2 (Option.some Jvm.ClassFile.FieldType.boolean)) (rmD (75 + (d + 1)) 0 0) (va_Pc [.ref x0, .ref (ad 9)] (sPre D dA wX ad S sz)) (va_Qi (fun r S' => (r.toInt = 0 ∨ r.toInt = 1) ∧ (S' = S ∧ K r.toInt)) (sPost D dA wX ad (wA wX ad S sz)) (wA wX ad S sz)) 0 0 (wA wX ad S sz) := by
  refine Met.ofW (cc := cX10_is) (maxL := 2) (ret := (Option.some Jvm.ClassFile.FieldType.boolean)) (by decide) rfl ?_
  intro p e s m args below meth c s₁ B hml hv
  obtain ⟨rfl, hsz, hK, hC⟩ := hv
  have hx := B.exec
  have hb := B.bytes
  have hr := B.returns
  have hlocks := B.notSynchronized
  have hts := atoms_spec (ws := (ws_ yX10_is cX10_is 2 (Option.some Jvm.ClassFile.FieldType.boolean))) B.pre
  have hts : ∀ w ∈ lw_all, w.before _ s = true := fun w h => hts w (List.mem_cons_of_mem _ h)
  have hown : s.vm.findClass RX10 = some m.cls := findClass_of_methodNamed B.named
  clear B
  subst hsz
  have hI : sI D dA wX ad (wA wX ad S s.heap.size) s.heap S s.heap [] := hC.start
  clear hC
  generalize wA wX ad S s.heap.size = A at hI ⊢
  have hl := lv_entry ([.ref x0, .ref (ad 9)] : List Value) (n := 2) (Nat.le_of_ble_eq_true rfl)
  rw [lg_entry_eq]
  generalize (lg_sl ([.ref x0, .ref (ad 9)] : List Value) ++ List.replicate (2 - (lg_sl ([.ref x0, .ref (ad 9)] : List Value)).length) Slot.unset).toArray = ls at hl ⊢
  have hl : lv_has ls 2 [(0, .ref x0), (1, .ref (ad 9))] := hl
  have hF : CallFix p m c cX10_is 2 s _ lw_all RX10 := ⟨hx, hb, hml, hown, hts⟩
  have hR : (headSpec (ws_ yX10_is cX10_is 2 (Option.some Jvm.ClassFile.FieldType.boolean)) (rmD (75 + (d + 1)) 0 0)).room.frames = (75 + (d + 1)) + 1 ∧ (headSpec (ws_ yX10_is cX10_is 2 (Option.some Jvm.ClassFile.FieldType.boolean)) (rmD (75 + (d + 1)) 0 0)).room.locals = 64 * (75 + (d + 1)) + 64 := ⟨rfl, rfl⟩
  generalize (headSpec (ws_ yX10_is cX10_is 2 (Option.some Jvm.ClassFile.FieldType.boolean)) (rmD (75 + (d + 1)) 0 0)).room = R at hR ⊢
  generalize ([.ref x0, .ref (ad 9)] : List Value).toArray = args at hts hF ⊢
  generalize hQ : MQ below _ _ _ _ _ _ = Q
  unfold b_X10_is_9 at h
  refine lv_aload_n hx hb dX10_is_0 rfl (lv_at hl 0 rfl) ?_
  obtain ⟨fs1, v4, hg2, hv3, h⟩ := h
  refine gPX10_7 (v := some v4) hF hK hI hg2 hv3 dX10_is_1 ?_
  show W p l e R s m args below meth c _ _ _ _ Q (F0 m _ ls [.ref v4])
  refine lv_aload_n hx hb dX10_is_4 rfl (lv_at hl 1 rfl) ?_
  refine iPX10_13 (ihd _ _ _ _ h) hF hK hI hl.1 hR (by omega) (Nat.le_of_ble_eq_true rfl) ⟨Nat.zero_le _, Nat.zero_le _⟩ dX10_is_5 (fun r5 H locs fr5 h hI => ?_)
  replace h := h fr5
  have gr5 : InR r5 := kdP_R (k := 2) (by decide) fr5
  refine nr_if_ne hx hb gr5 dX10_is_10 (tgt := 17) (by decide) (fun c6 => ?_) (fun c6 => ?_)
  · replace h := h.1 c6
    refine nr_iconst hx hb dX10_is_17 ?_
    rw [← hQ]; exact s_zret (K := fun r S' => S' = S ∧ K r) hx hb hr hlocks hI (by decide) ⟨rfl, h⟩ dX10_is_18
  · replace h := h.2 c6
    refine nr_iconst hx hb dX10_is_13 ?_
    refine lv_goto (tgt := 18) hx hb dX10_is_14 (by decide) ?_
    rw [← hQ]; exact s_zret (K := fun r S' => S' = S ∧ K r) hx hb hr hlocks hI (by decide) ⟨rfl, h⟩ dX10_is_18
theorem gPX12_7 {p : Program} {l : Launch} {e : Env} {R : Room} {s : State} {m : MethodId} {args : Array Value} {below : List Frame} {meth : Method} {c : Code} {H : Heap} {locs : List Loc} {Q : State → Prop} {cc : ByteArray} {nL pc : Nat} {ls : Array Slot} {rest : List Value} {cells slots : Nat} {w : Wd} {D : va_G} {dA : Nat → ClassId} {ad : Nat → Nat} {A : Nat → Prop} {H0 : Heap} {S : St} {q : Nat} {fs : List PV} {v : Int} (hF : CallFix p m c cc nL s args lw_all RX12) (hK : gK D dA s) (hI : sI D dA w ad A H0 S H locs) (hg : gI S q = some (.inr (.inl (12, fs)))) (hv : fs[0]? = some (.inl v)) (hdg : decode cc pc = .ok (.getfield 7, 3)) (kk : InR v → W p l e R s m args below meth c H locs cells slots Q (F0 m (pc + 3) ls (iV v :: rest))) : W p l e R s m args below meth c H locs cells slots Q (F0 m (pc) ls (.ref q :: rest)) := s_pgi hF.1 hF.2.1 hF.2.2.2.2 hF.2.2.2.1 hK hI hg rfl in_X12 0 (by decide) q788 rfl hv hdg kk
theorem gPX12_13 {p : Program} {l : Launch} {e : Env} {R : Room} {s : State} {m : MethodId} {args : Array Value} {below : List Frame} {meth : Method} {c : Code} {H : Heap} {locs : List Loc} {Q : State → Prop} {cc : ByteArray} {nL pc : Nat} {ls : Array Slot} {rest : List Value} {cells slots : Nat} {w : Wd} {D : va_G} {dA : Nat → ClassId} {ad : Nat → Nat} {A : Nat → Prop} {H0 : Heap} {S : St} {q : Nat} {fs : List PV} {v : Option Nat} (hF : CallFix p m c cc nL s args lw_all RX12) (hK : gK D dA s) (hI : sI D dA w ad A H0 S H locs) (hg : gI S q = some (.inr (.inl (12, fs)))) (hv : fs[1]? = some (.inr (.inr v))) (hdg : decode cc pc = .ok (.getfield 13, 3)) (kk : W p l e R s m args below meth c H locs cells slots Q (F0 m (pc + 3) ls (va_rf v :: rest))) : W p l e R s m args below meth c H locs cells slots Q (F0 m (pc) ls (.ref q :: rest)) := s_pgr hF.1 hF.2.1 hF.2.2.2.2 hF.2.2.2.1 hK hI hg rfl in_X12 1 (by decide) q789 rfl hv hdg kk
theorem cXX12_17 {p : Program} {l : Launch} {e : Env} {R : Room} {s : State} {m : MethodId} {args : Array Value} {below : List Frame} {meth : Method} {c : Code} {H : Heap} {locs : List Loc} {Q : State → Prop} {cc : ByteArray} {nL pc : Nat} {ls : Array Slot} {rest : List Value} {cells slots : Nat} {D : va_G} {dA : Nat → ClassId} {ad : Nat → Nat} {A : Nat → Prop} {H0 : Heap} {S : St} {dk : Nat} (hF : CallFix p m c cc nL s args lw_all RX12) (hK : gK D dA s) (hI : sI D dA wX ad A H0 S H locs) (hls : ls.size = nL) (hR : R.frames = dk + 1 ∧ R.locals = 64 * dk + 64) (hd : 0 + 1 ≤ dk) (hW : (rest.map fun v => v.category).sum ≤ 8) (hf : cells ≤ R.cells ∧ slots ≤ R.slots) {x0 : Nat} {K : Int → Prop} (hg0 : ∃ fs : List PV, gI S x0 = some (.inr (.inl (14, fs)))) (h : w_J2_size x0 S K) (hdg : decode cc pc = .ok (.invokevirtual 17, 3)) (kk : ∀ (r : Int) (H1 : Heap) (locs1 : List Loc), InR r → K r → sI D dA wX ad A H0 S H1 locs1 → W p l e R s m args below meth c H1 locs1 cells slots Q (F0 m (pc + 3) ls (iV r :: rest))) : W p l e R s m args below meth c H locs cells slots Q (F0 m (pc) ls (.ref x0 :: rest)) := s_callVi (As := []) (rest := rest) (K := fun r S' => S' = S ∧ K r) hF (t_J2_size l D dA ad S H.size x0 K h) (by obtain ⟨fs, hg⟩ := hg0; exact s_recvP hK hI hg rfl) (cwV 0 hF.2.2.2.2 (lw_V q1003 q766 q767 q114 q768) rfl rfl rfl (by decide +kernel) ⟨by have h1 := hR.1; have h2 : (rmD 0 0 0).frames = 0 + 1 := rfl; omega, by have h1 := hR.2; have h2 : (rmD 0 0 0).locals = 64 * 0 + 64 := rfl; omega⟩) hK hI rfl hls rfl hW hdg hf (fun r S1 H1 locs1 f hk hI1 => by obtain ⟨rfl, hk⟩ := hk; exact kk r H1 locs1 f hk hI1)
theorem cXX12_23 {p : Program} {l : Launch} {e : Env} {R : Room} {s : State} {m : MethodId} {args : Array Value} {below : List Frame} {meth : Method} {c : Code} {H : Heap} {locs : List Loc} {Q : State → Prop} {cc : ByteArray} {nL pc : Nat} {ls : Array Slot} {rest : List Value} {cells slots : Nat} {D : va_G} {dA : Nat → ClassId} {ad : Nat → Nat} {A : Nat → Prop} {H0 : Heap} {S : St} {dk : Nat} (hF : CallFix p m c cc nL s args lw_all RX12) (hK : gK D dA s) (hI : sI D dA wX ad A H0 S H locs) (hls : ls.size = nL) (hR : R.frames = dk + 1 ∧ R.locals = 64 * dk + 64) (hd : 2 + 1 ≤ dk) (hW : (rest.map fun v => v.category).sum ≤ 8) (hf : cells ≤ R.cells ∧ slots ≤ R.slots) {x0 : Nat} {x1 : Int} {K : Option Nat → Prop} (hg0 : ∃ fs : List PV, gI S x0 = some (.inr (.inl (14, fs)))) (r1 : InR x1) (h : w_J2_get x0 x1 S K) (hdg : decode cc pc = .ok (.invokevirtual 23, 3)) (kk : ∀ (r : Option Nat) (H1 : Heap) (locs1 : List Loc), K r → sI D dA wX ad A H0 S H1 locs1 → W p l e R s m args below meth c H1 locs1 cells slots Q (F0 m (pc + 3) ls (va_rf r :: rest))) : W p l e R s m args below meth c H locs cells slots Q (F0 m (pc) ls (iV x1 :: .ref x0 :: rest)) := s_callVq (As := [iV x1]) (rest := rest) (K := fun r S' => S' = S ∧ K r) hF (t_J2_get l D dA ad S H.size x0 x1 K r1 h) (by obtain ⟨fs, hg⟩ := hg0; exact s_recvP hK hI hg rfl) (cwV 1 hF.2.2.2.2 (lw_V q1004 q770 q771 q114 q772) rfl rfl rfl (by decide +kernel) ⟨by have h1 := hR.1; have h2 : (rmD 2 0 0).frames = 2 + 1 := rfl; omega, by have h1 := hR.2; have h2 : (rmD 2 0 0).locals = 64 * 2 + 64 := rfl; omega⟩) hK hI rfl hls rfl hW hdg hf (fun r S1 H1 locs1 hk hI1 => by obtain ⟨rfl, hk⟩ := hk; exact kk r H1 locs1 hk hI1)
theorem kPX12_27 {p : Program} {l : Launch} {e : Env} {R : Room} {s : State} {m : MethodId} {args : Array Value} {below : List Frame} {meth : Method} {c : Code} {H : Heap} {locs : List Loc} {Q : State → Prop} {cc : ByteArray} {nL pc : Nat} {ls : Array Slot} {rest : List Value} {cells slots : Nat} {w : Wd} {D : va_G} {dA : Nat → ClassId} {ad : Nat → Nat} {A : Nat → Prop} {H0 : Heap} {S : St} {q : Nat} (hF : CallFix p m c cc nL s args lw_all RX12) (hK : gK D dA s) (hI : sI D dA w ad A H0 S H locs) (hc : isAsked S q) (hdg : decode cc pc = .ok (.checkcast 27, 3)) (k : W p l e R s m args below meth c H locs cells slots Q (F0 m (pc + 3) ls (.ref q :: rest))) : W p l e R s m args below meth c H locs cells slots Q (F0 m (pc) ls (.ref q :: rest)) := by
  rcases hc with ⟨fs, hg⟩ | ⟨fs, hg⟩ | ⟨fs, hg⟩
  · exact s_cast hF.1 hF.2.1 hF.2.2.2.1 hF.2.2.2.2 q1005 (nCs_8 hK.2) hK hI hg rfl hdg k
  · exact s_cast hF.1 hF.2.1 hF.2.2.2.1 hF.2.2.2.2 q1005 (nCs_6 hK.2) hK hI hg rfl hdg k
  · exact s_cast hF.1 hF.2.1 hF.2.2.2.1 hF.2.2.2.2 q1005 (nCs_10 hK.2) hK hI hg rfl hdg k
theorem iPX12_29 {p : Program} {l : Launch} {e : Env} {R : Room} {s : State} {m : MethodId} {args : Array Value} {below : List Frame} {meth : Method} {c : Code} {H : Heap} {locs : List Loc} {Q : State → Prop} {cc : ByteArray} {nL pc : Nat} {ls : Array Slot} {rest : List Value} {cells slots : Nat} {D : va_G} {dA : Nat → ClassId} {ad : Nat → Nat} {A : Nat → Prop} {H0 : Heap} {S : St} {dk dd q : Nat} {K : Int → Prop} (hM : IsM l D dA ad dd S H.size q K) (hF : CallFix p m c cc nL s args lw_all RX12) (hK : gK D dA s) (hI : sI D dA wX ad A H0 S H locs) (hls : ls.size = nL) (hR : R.frames = dk + 1 ∧ R.locals = 64 * dk + 64) (hd : dd + 1 ≤ dk) (hW : (rest.map fun v => v.category).sum ≤ 8) (hf : cells ≤ R.cells ∧ slots ≤ R.slots) (hdg : decode cc pc = .ok (.invokeinterface 29 2, 5)) (kk : ∀ (r : Int) (H1 : Heap) (locs1 : List Loc), (r = 0 ∨ r = 1) → K r → sI D dA wX ad A H0 S H1 locs1 → W p l e R s m args below meth c H1 locs1 cells slots Q (F0 m (pc + 5) ls (iV r :: rest))) : W p l e R s m args below meth c H locs cells slots Q (F0 m (pc) ls (.ref (ad 9) :: .ref q :: rest)) := by
  rcases hM with ⟨⟨fs, hg⟩, hM⟩ | ⟨⟨fs, hg⟩, hM⟩ | ⟨⟨fs, hg⟩, hM⟩
  · exact s_callFz (x := (⟨"NineGraves$Asked", "is", "([I)Z"⟩ : MethodName)) (As := [.ref (ad 9)]) (rest := rest) (K := fun r S' => S' = S ∧ K r) (hK.1.1 11 _ rfl).2 hF hM (s_recvP hK hI hg rfl) (va_cwF 1 hF.2.2.2.2 (lw_F q1007 q1009 q1011 q134 q1013) rfl rfl rfl (nFw_4 hK.2) (by decide +kernel) ⟨by have h1 := hR.1; have h2 : (rmD dd 0 0).frames = dd + 1 := rfl; omega, by have h1 := hR.2; have h2 : (rmD dd 0 0).locals = 64 * dd + 64 := rfl; omega⟩) hK hI rfl hls rfl hW hdg hf (fun r S1 H1 locs1 f hk hI1 => by obtain ⟨rfl, hk⟩ := hk; exact kk r H1 locs1 f hk hI1)
  · exact s_callFz (x := (⟨"NineGraves$Asked", "is", "([I)Z"⟩ : MethodName)) (As := [.ref (ad 9)]) (rest := rest) (K := fun r S' => S' = S ∧ K r) (hK.1.1 10 _ rfl).2 hF hM (s_recvP hK hI hg rfl) (va_cwF 1 hF.2.2.2.2 (lw_F q1007 q1017 q1019 q133 q1021) rfl rfl rfl (nFw_5 hK.2) (by decide +kernel) ⟨by have h1 := hR.1; have h2 : (rmD dd 0 0).frames = dd + 1 := rfl; omega, by have h1 := hR.2; have h2 : (rmD dd 0 0).locals = 64 * dd + 64 := rfl; omega⟩) hK hI rfl hls rfl hW hdg hf (fun r S1 H1 locs1 f hk hI1 => by obtain ⟨rfl, hk⟩ := hk; exact kk r H1 locs1 f hk hI1)
  · exact s_callFz (x := (⟨"NineGraves$Asked", "is", "([I)Z"⟩ : MethodName)) (As := [.ref (ad 9)]) (rest := rest) (K := fun r S' => S' = S ∧ K r) (hK.1.1 12 _ rfl).2 hF hM (s_recvP hK hI hg rfl) (va_cwF 1 hF.2.2.2.2 (lw_F q1007 q998 q1000 q136 q1002) rfl rfl rfl (nFw_6 hK.2) (by decide +kernel) ⟨by have h1 := hR.1; have h2 : (rmD dd 0 0).frames = dd + 1 := rfl; omega, by have h1 := hR.2; have h2 : (rmD dd 0 0).locals = 64 * dd + 64 := rfl; omega⟩) hK hI rfl hls rfl hW hdg hf (fun r S1 H1 locs1 f hk hI1 => by obtain ⟨rfl, hk⟩ := hk; exact kk r H1 locs1 f hk hI1)
set_option maxHeartbeats 4000000 in
theorem t_X12_is_9 (l : Launch) (D : va_G) (dA : Nat → ClassId) (ad : Nat → Nat) (d : Nat) (W0 : Nat → St → (Int → Prop) → Prop) (ihd : ∀ (S : St) (sz : Nat) (q : Nat) (K : Int → Prop), W0 q S K → IsM l D dA ad (75 + d) S sz q K) (S : St) (sz : Nat) (x0 : Nat) (K : Int → Prop) (h : b_X12_is_9 W0 x0 S K) : Met l yX12_is (ws_ yX12_is cX12_is 4 (Option.some Jvm.ClassFile.FieldType.boolean)) (rmD (75 + (d + 1)) 0 0) (va_Pc [.ref x0, .ref (ad 9)] (sPre D dA wX ad S sz)) (va_Qi (fun r S' => (r.toInt = 0 ∨ r.toInt = 1) ∧ (S' = S ∧ K r.toInt)) (sPost D dA wX ad (wA wX ad S sz)) (wA wX ad S sz)) 0 0 (wA wX ad S sz) := by
  refine Met.ofW (cc := cX12_is) (maxL := 4) (ret := (Option.some Jvm.ClassFile.FieldType.boolean)) (by decide) rfl ?_
  intro p e s m args below meth c s₁ B hml hv
  obtain ⟨rfl, hsz, hK, hC⟩ := hv
  have hx := B.exec
  have hb := B.bytes
  have hr := B.returns
  have hlocks := B.notSynchronized
  have hts := atoms_spec (ws := (ws_ yX12_is cX12_is 4 (Option.some Jvm.ClassFile.FieldType.boolean))) B.pre
  have hts : ∀ w ∈ lw_all, w.before _ s = true := fun w h => hts w (List.mem_cons_of_mem _ h)
  have hown : s.vm.findClass RX12 = some m.cls := findClass_of_methodNamed B.named
  clear B
  subst hsz
  have hI : sI D dA wX ad (wA wX ad S s.heap.size) s.heap S s.heap [] := hC.start
  clear hC
  generalize wA wX ad S s.heap.size = A at hI ⊢
  have hl := lv_entry ([.ref x0, .ref (ad 9)] : List Value) (n := 4) (Nat.le_of_ble_eq_true rfl)
  rw [lg_entry_eq]
  generalize (lg_sl ([.ref x0, .ref (ad 9)] : List Value) ++ List.replicate (4 - (lg_sl ([.ref x0, .ref (ad 9)] : List Value)).length) Slot.unset).toArray = ls at hl ⊢
  have hl : lv_has ls 4 [(0, .ref x0), (1, .ref (ad 9))] := hl
  have hF : CallFix p m c cX12_is 4 s _ lw_all RX12 := ⟨hx, hb, hml, hown, hts⟩
  have hR : (headSpec (ws_ yX12_is cX12_is 4 (Option.some Jvm.ClassFile.FieldType.boolean)) (rmD (75 + (d + 1)) 0 0)).room.frames = (75 + (d + 1)) + 1 ∧ (headSpec (ws_ yX12_is cX12_is 4 (Option.some Jvm.ClassFile.FieldType.boolean)) (rmD (75 + (d + 1)) 0 0)).room.locals = 64 * (75 + (d + 1)) + 64 := ⟨rfl, rfl⟩
  generalize (headSpec (ws_ yX12_is cX12_is 4 (Option.some Jvm.ClassFile.FieldType.boolean)) (rmD (75 + (d + 1)) 0 0)).room = R at hR ⊢
  generalize ([.ref x0, .ref (ad 9)] : List Value).toArray = args at hts hF ⊢
  generalize hQ : MQ below _ _ _ _ _ _ = Q
  have J49 : ∀ (x0 : Nat) (x2 : Int) (H : Heap) (locs : List Loc) (ls : Array Slot), InR x2 → sI D dA wX ad A s.heap S H locs → lv_has ls 4 [(0, .ref x0), (2, iV x2)] → j_X12_is_9_49 W0 x0 x2 S K → W p l e R s m args below meth c H locs 0 0 Q (F0 m 49 ls []) := by
    intro x0 x2 H locs ls rx2 hI hl h
    unfold j_X12_is_9_49 at h
    refine lv_aload_n hx hb dX12_is_49 rfl (lv_at hl 0 rfl) ?_
    obtain ⟨fs1, v4, hg2, hv3, h⟩ := h
    refine gPX12_7 hF hK hI hg2 hv3 dX12_is_50 (fun f5 => ?_)
    replace h := h f5
    refine nr_if_eq hx hb f5 dX12_is_53 (tgt := 75) (by decide) (fun c6 => ?_) (fun c6 => ?_)
    · replace h := h.1 c6
      refine lv_iload_n hx hb dX12_is_75 rfl (lv_at hl 1 rfl) ?_
      refine nr_if_le hx hb rx2 dX12_is_76 (tgt := 83) (by decide) (fun c7 => ?_) (fun c7 => ?_)
      · replace h := h.1 c7
        refine nr_iconst hx hb dX12_is_83 ?_
        rw [← hQ]; exact s_zret (K := fun r S' => S' = S ∧ K r) hx hb hr hlocks hI (by decide) ⟨rfl, h⟩ dX12_is_84
      · replace h := h.2 c7
        refine nr_iconst hx hb dX12_is_79 ?_
        refine lv_goto (tgt := 84) hx hb dX12_is_80 (by decide) ?_
        rw [← hQ]; exact s_zret (K := fun r S' => S' = S ∧ K r) hx hb hr hlocks hI (by decide) ⟨rfl, h⟩ dX12_is_84
    · replace h := h.2 c6
      refine lv_iload_n hx hb dX12_is_56 rfl (lv_at hl 1 rfl) ?_
      refine lv_aload_n hx hb dX12_is_57 rfl (lv_at hl 0 rfl) ?_
      obtain ⟨fs8, v11, hg9, hv10, h⟩ := h
      refine gPX12_13 (v := some v11) hF hK hI hg9 hv10 dX12_is_58 ?_
      show W p l e R s m args below meth c _ _ _ _ Q (F0 m _ ls [.ref v11, iV x2])
      have hr12 := h.1; replace h := h.2
      refine cXX12_17 hF hK hI hl.1 hR (by omega) (Nat.le_of_ble_eq_true rfl) ⟨Nat.zero_le _, Nat.zero_le _⟩ hr12 h dX12_is_61 (fun r13 H locs fr13 h hI => ?_)
      replace h := h fr13
      refine nr_icmp_ne hx hb rx2 fr13 dX12_is_64 (tgt := 71) (by decide) (fun c15 => ?_) (fun c15 => ?_)
      · replace h := h.1 c15
        refine nr_iconst hx hb dX12_is_71 ?_
        refine lv_goto (tgt := 84) hx hb dX12_is_72 (by decide) ?_
        rw [← hQ]; exact s_zret (K := fun r S' => S' = S ∧ K r) hx hb hr hlocks hI (by decide) ⟨rfl, h⟩ dX12_is_84
      · replace h := h.2 c15
        refine nr_iconst hx hb dX12_is_67 ?_
        refine lv_goto (tgt := 84) hx hb dX12_is_68 (by decide) ?_
        rw [← hQ]; exact s_zret (K := fun r S' => S' = S ∧ K r) hx hb hr hlocks hI (by decide) ⟨rfl, h⟩ dX12_is_84
  have L4 : ∀ (x0 : Nat), ∀ (n4 : Nat) (x2 : Int) (x3 : Int) (H : Heap) (locs : List Loc) (ls : Array Slot), InR x2 → InR x3 → sI D dA wX ad A s.heap S H locs → lv_has ls 4 [(0, .ref x0), (1, .ref (ad 9)), (2, iV x2), (3, iV x3)] → l_X12_is_9_4 W0 x0 S K (fun (z2 : Int) => j_X12_is_9_49 W0 x0 z2 S K) n4 x2 x3 → W p l e R s m args below meth c H locs 0 0 Q (F0 m 4 ls []) := by
    intro x0 n4
    induction n4 with
    | zero => intro x2 x3 H locs ls rx2 rx3 hI hl h; exact False.elim h
    | succ n4 ih4 =>
      intro x2 x3 H locs ls rx2 rx3 hI hl h
      have J41 : ∀ (x3 : Int) (y0 : Int) (y1 : Int) (H : Heap) (locs : List Loc) (ls : Array Slot), InR x3 → InR y0 → InR y1 → sI D dA wX ad A s.heap S H locs → lv_has ls 4 [(0, .ref x0), (1, .ref (ad 9)), (3, iV x3)] → j_X12_is_9_41 W0 x0 x3 y0 y1 S K (fun (z2 : Int) => j_X12_is_9_49 W0 x0 z2 S K) (l_X12_is_9_4 W0 x0 S K (fun (z2 : Int) => j_X12_is_9_49 W0 x0 z2 S K) n4) → W p l e R s m args below meth c H locs 0 0 Q (F0 m 41 ls [iV y1, iV y0]) := by
        intro x3 y0 y1 H locs ls rx3 ry0 ry1 hI hl h
        unfold j_X12_is_9_41 at h
        have f16 := h.1; replace h := h.2
        refine nr_iadd hx hb dX12_is_41 ?_
        refine nr_topi (fun v17 ev17 => ?_)
        have rv17 : InR v17 := by rw [ev17]; exact f16
        replace h := h v17 ev17 rv17
        refine lv_istore_n (lv' := [(2, iV v17), (0, .ref x0), (1, .ref (ad 9)), (3, iV x3)]) hx hb dX12_is_42 rfl hl (by decide) rfl (fun ls hl => ?_)
        have f18 := h.1; replace h := h.2
        refine nr_iinc (lv' := [(3, iV (x3 + 1)), (2, iV v17), (0, .ref x0), (1, .ref (ad 9))]) hx hb dX12_is_43 hl (k := 3) rfl (by decide) rfl (fun ls hl => ?_)
        refine lv_goto (tgt := 4) hx hb dX12_is_46 (by decide) ?_
        exact ih4 v17 (x3 + 1) _ _ _ rv17 f18 hI (lv_sub hl [2, 3, 1, 0] rfl) h
      unfold l_X12_is_9_4 at h
      refine lv_iload_n hx hb dX12_is_4 rfl (lv_at hl 3 rfl) ?_
      refine lv_aload_n hx hb dX12_is_5 rfl (lv_at hl 0 rfl) ?_
      obtain ⟨fs19, v22, hg20, hv21, h⟩ := h
      refine gPX12_13 (v := some v22) hF hK hI hg20 hv21 dX12_is_6 ?_
      show W p l e R s m args below meth c _ _ _ _ Q (F0 m _ ls [.ref v22, iV x3])
      have hr23 := h.1; replace h := h.2
      refine cXX12_17 hF hK hI hl.1 hR (by omega) (Nat.le_of_ble_eq_true rfl) ⟨Nat.zero_le _, Nat.zero_le _⟩ hr23 h dX12_is_9 (fun r24 H locs fr24 h hI => ?_)
      replace h := h fr24
      refine nr_icmp_ge hx hb rx3 fr24 dX12_is_12 (tgt := 49) (by decide) (fun c26 => ?_) (fun c26 => ?_)
      · replace h := h.1 c26
        exact J49 x0 x2 _ _ _ rx2 hI (lv_sub hl [0, 2] rfl) h
      · replace h := h.2 c26
        refine lv_iload_n hx hb dX12_is_15 rfl (lv_at hl 2 rfl) ?_
        refine lv_aload_n hx hb dX12_is_16 rfl (lv_at hl 0 rfl) ?_
        obtain ⟨fs27, v30, hg28, hv29, h⟩ := h
        refine gPX12_13 (v := some v30) hF hK hI hg28 hv29 dX12_is_17 ?_
        show W p l e R s m args below meth c _ _ _ _ Q (F0 m _ ls [.ref v30, iV x2])
        refine lv_iload_n hx hb dX12_is_20 rfl (lv_at hl 3 rfl) ?_
        have hr31 := h.1; replace h := h.2
        refine cXX12_23 hF hK hI hl.1 hR (by omega) (Nat.le_of_ble_eq_true rfl) ⟨Nat.zero_le _, Nat.zero_le _⟩ hr31 rx3 h dX12_is_21 (fun r32 H locs h hI => ?_)
        obtain ⟨q34, e35, h⟩ := h
        rw [e35]
        show W p l e R s m args below meth c _ _ _ _ Q (F0 m _ ls [.ref q34, iV x2])
        have hcst := h.1; replace h := h.2
        refine kPX12_27 hF hK hI hcst dX12_is_24 ?_
        refine lv_aload_n hx hb dX12_is_27 rfl (lv_at hl 1 rfl) ?_
        refine iPX12_29 (ihd _ _ _ _ h) hF hK hI hl.1 hR (by omega) (Nat.le_of_ble_eq_true rfl) ⟨Nat.zero_le _, Nat.zero_le _⟩ dX12_is_28 (fun r36 H locs fr36 h hI => ?_)
        replace h := h fr36
        have gr36 : InR r36 := kdP_R (k := 2) (by decide) fr36
        refine nr_if_eq hx hb gr36 dX12_is_33 (tgt := 40) (by decide) (fun c37 => ?_) (fun c37 => ?_)
        · replace h := h.1 c37
          refine nr_iconst hx hb dX12_is_40 ?_
          exact J41 x3 x2 0 _ _ _ rx3 rx2 (by decide) hI (lv_sub hl [0, 1, 3] rfl) h
        · replace h := h.2 c37
          refine nr_iconst hx hb dX12_is_36 ?_
          refine lv_goto (tgt := 41) hx hb dX12_is_37 (by decide) ?_
          exact J41 x3 x2 1 _ _ _ rx3 rx2 (by decide) hI (lv_sub hl [0, 1, 3] rfl) h
  unfold b_X12_is_9 at h
  refine nr_iconst hx hb dX12_is_0 ?_
  refine lv_istore_n (lv' := [(2, iV 0), (0, .ref x0), (1, .ref (ad 9))]) hx hb dX12_is_1 rfl hl (by decide) rfl (fun ls hl => ?_)
  refine nr_iconst hx hb dX12_is_2 ?_
  refine lv_istore_n (lv' := [(3, iV 0), (2, iV 0), (0, .ref x0), (1, .ref (ad 9))]) hx hb dX12_is_3 rfl hl (by decide) rfl (fun ls hl => ?_)
  obtain ⟨n0, h⟩ := h
  exact L4 x0 n0 0 0 _ _ _ (by decide) (by decide) hI (lv_sub hl [2, 3, 1, 0] rfl) h
theorem t_is (l : Launch) : ∀ (d : Nat) (D : va_G) (dA : Nat → ClassId) (ad : Nat → Nat) (S : St) (sz q : Nat) (K : Int → Prop), w_is d q S K → IsM l D dA ad (75 + d) S sz q K := by
  intro d
  induction d with
  | zero => intro D dA ad S sz q K h; exact False.elim h
  | succ d ih =>
    intro D dA ad S sz q K h
    rcases h with ⟨hg, h⟩ | ⟨hg, h⟩ | ⟨hg, h⟩
    · exact Or.inl ⟨hg, t_X11_is_9 l D dA ad d (w_is d) (ih D dA ad) S sz q K h⟩
    · exact Or.inr (Or.inl ⟨hg, t_X10_is_9 l D dA ad d (w_is d) (ih D dA ad) S sz q K h⟩)
    · exact Or.inr (Or.inr (⟨hg, t_X12_is_9 l D dA ad d (w_is d) (ih D dA ad) S sz q K h⟩))

theorem gPX13_7 {p : Program} {l : Launch} {e : Env} {R : Room} {s : State} {m : MethodId} {args : Array Value} {below : List Frame} {meth : Method} {c : Code} {H : Heap} {locs : List Loc} {Q : State → Prop} {cc : ByteArray} {nL pc : Nat} {ls : Array Slot} {rest : List Value} {cells slots : Nat} {w : Wd} {D : va_G} {dA : Nat → ClassId} {ad : Nat → Nat} {A : Nat → Prop} {H0 : Heap} {S : St} {q : Nat} {fs : List PV} {v : Int} (hF : CallFix p m c cc nL s args lw_all RX13) (hK : gK D dA s) (hI : sI D dA w ad A H0 S H locs) (hg : gI S q = some (.inr (.inl (13, fs)))) (hv : fs[0]? = some (.inl v)) (hdg : decode cc pc = .ok (.getfield 7, 3)) (kk : InR v → W p l e R s m args below meth c H locs cells slots Q (F0 m (pc + 3) ls (iV v :: rest))) : W p l e R s m args below meth c H locs cells slots Q (F0 m (pc) ls (.ref q :: rest)) := s_pgi hF.1 hF.2.1 hF.2.2.2.2 hF.2.2.2.1 hK hI hg rfl in_X13 0 (by decide) q809 rfl hv hdg kk
set_option maxHeartbeats 4000000 in
theorem t_X13_sort (l : Launch) (D : va_G) (dA : Nat → ClassId) (ad : Nat → Nat) (S : St) (sz : Nat) (x0 : Nat) (K : Int → Prop) (h : w_X13_sort x0 S K) : Met l yX13_sort (ws_ yX13_sort cX13_sort 1 (Option.some Jvm.ClassFile.FieldType.int)) (rmD 0 0 0) (va_Pc [.ref x0] (sPre D dA wX ad S sz)) (va_Qi (fun r S' => S' = S ∧ K r.toInt) (sPost D dA wX ad (wA wX ad S sz)) (wA wX ad S sz)) 0 0 (wA wX ad S sz) := by
  refine Met.ofW (cc := cX13_sort) (maxL := 1) (ret := (Option.some Jvm.ClassFile.FieldType.int)) (by decide) rfl ?_
  intro p e s m args below meth c s₁ B hml hv
  obtain ⟨rfl, hsz, hK, hC⟩ := hv
  have hx := B.exec
  have hb := B.bytes
  have hr := B.returns
  have hlocks := B.notSynchronized
  have hts := atoms_spec (ws := (ws_ yX13_sort cX13_sort 1 (Option.some Jvm.ClassFile.FieldType.int))) B.pre
  have hts : ∀ w ∈ lw_all, w.before _ s = true := fun w h => hts w (List.mem_cons_of_mem _ h)
  have hown : s.vm.findClass RX13 = some m.cls := findClass_of_methodNamed B.named
  clear B
  subst hsz
  have hI : sI D dA wX ad (wA wX ad S s.heap.size) s.heap S s.heap [] := hC.start
  clear hC
  generalize wA wX ad S s.heap.size = A at hI ⊢
  have hl := lv_entry ([.ref x0] : List Value) (n := 1) (Nat.le_of_ble_eq_true rfl)
  rw [lg_entry_eq]
  generalize (lg_sl ([.ref x0] : List Value) ++ List.replicate (1 - (lg_sl ([.ref x0] : List Value)).length) Slot.unset).toArray = ls at hl ⊢
  have hl : lv_has ls 1 [(0, .ref x0)] := hl
  have hF : CallFix p m c cX13_sort 1 s _ lw_all RX13 := ⟨hx, hb, hml, hown, hts⟩
  have hR : (headSpec (ws_ yX13_sort cX13_sort 1 (Option.some Jvm.ClassFile.FieldType.int)) (rmD 0 0 0)).room.frames = 0 + 1 ∧ (headSpec (ws_ yX13_sort cX13_sort 1 (Option.some Jvm.ClassFile.FieldType.int)) (rmD 0 0 0)).room.locals = 64 * 0 + 64 := ⟨rfl, rfl⟩
  generalize (headSpec (ws_ yX13_sort cX13_sort 1 (Option.some Jvm.ClassFile.FieldType.int)) (rmD 0 0 0)).room = R at hR ⊢
  generalize ([.ref x0] : List Value).toArray = args at hts hF ⊢
  generalize hQ : MQ below _ _ _ _ _ _ = Q
  unfold w_X13_sort at h
  refine lv_aload_n hx hb dX13_sort_0 rfl (lv_at hl 0 rfl) ?_
  obtain ⟨fs1, v4, hg2, hv3, h⟩ := h
  refine gPX13_7 hF hK hI hg2 hv3 dX13_sort_1 (fun f5 => ?_)
  replace h := h f5
  rw [← hQ]; exact s_iret (K := fun r S' => S' = S ∧ K r) hx hb hr hlocks hI f5 ⟨rfl, h⟩ dX13_sort_4
theorem gPX13_13 {p : Program} {l : Launch} {e : Env} {R : Room} {s : State} {m : MethodId} {args : Array Value} {below : List Frame} {meth : Method} {c : Code} {H : Heap} {locs : List Loc} {Q : State → Prop} {cc : ByteArray} {nL pc : Nat} {ls : Array Slot} {rest : List Value} {cells slots : Nat} {w : Wd} {D : va_G} {dA : Nat → ClassId} {ad : Nat → Nat} {A : Nat → Prop} {H0 : Heap} {S : St} {q : Nat} {fs : List PV} {v : Int} (hF : CallFix p m c cc nL s args lw_all RX13) (hK : gK D dA s) (hI : sI D dA w ad A H0 S H locs) (hg : gI S q = some (.inr (.inl (13, fs)))) (hv : fs[1]? = some (.inl v)) (hdg : decode cc pc = .ok (.getfield 13, 3)) (kk : InR v → W p l e R s m args below meth c H locs cells slots Q (F0 m (pc + 3) ls (iV v :: rest))) : W p l e R s m args below meth c H locs cells slots Q (F0 m (pc) ls (.ref q :: rest)) := s_pgi hF.1 hF.2.1 hF.2.2.2.2 hF.2.2.2.1 hK hI hg rfl in_X13 1 (by decide) q810 rfl hv hdg kk
set_option maxHeartbeats 4000000 in
theorem t_X13_a (l : Launch) (D : va_G) (dA : Nat → ClassId) (ad : Nat → Nat) (S : St) (sz : Nat) (x0 : Nat) (K : Int → Prop) (h : w_X13_a x0 S K) : Met l yX13_a (ws_ yX13_a cX13_a 1 (Option.some Jvm.ClassFile.FieldType.int)) (rmD 0 0 0) (va_Pc [.ref x0] (sPre D dA wX ad S sz)) (va_Qi (fun r S' => S' = S ∧ K r.toInt) (sPost D dA wX ad (wA wX ad S sz)) (wA wX ad S sz)) 0 0 (wA wX ad S sz) := by
  refine Met.ofW (cc := cX13_a) (maxL := 1) (ret := (Option.some Jvm.ClassFile.FieldType.int)) (by decide) rfl ?_
  intro p e s m args below meth c s₁ B hml hv
  obtain ⟨rfl, hsz, hK, hC⟩ := hv
  have hx := B.exec
  have hb := B.bytes
  have hr := B.returns
  have hlocks := B.notSynchronized
  have hts := atoms_spec (ws := (ws_ yX13_a cX13_a 1 (Option.some Jvm.ClassFile.FieldType.int))) B.pre
  have hts : ∀ w ∈ lw_all, w.before _ s = true := fun w h => hts w (List.mem_cons_of_mem _ h)
  have hown : s.vm.findClass RX13 = some m.cls := findClass_of_methodNamed B.named
  clear B
  subst hsz
  have hI : sI D dA wX ad (wA wX ad S s.heap.size) s.heap S s.heap [] := hC.start
  clear hC
  generalize wA wX ad S s.heap.size = A at hI ⊢
  have hl := lv_entry ([.ref x0] : List Value) (n := 1) (Nat.le_of_ble_eq_true rfl)
  rw [lg_entry_eq]
  generalize (lg_sl ([.ref x0] : List Value) ++ List.replicate (1 - (lg_sl ([.ref x0] : List Value)).length) Slot.unset).toArray = ls at hl ⊢
  have hl : lv_has ls 1 [(0, .ref x0)] := hl
  have hF : CallFix p m c cX13_a 1 s _ lw_all RX13 := ⟨hx, hb, hml, hown, hts⟩
  have hR : (headSpec (ws_ yX13_a cX13_a 1 (Option.some Jvm.ClassFile.FieldType.int)) (rmD 0 0 0)).room.frames = 0 + 1 ∧ (headSpec (ws_ yX13_a cX13_a 1 (Option.some Jvm.ClassFile.FieldType.int)) (rmD 0 0 0)).room.locals = 64 * 0 + 64 := ⟨rfl, rfl⟩
  generalize (headSpec (ws_ yX13_a cX13_a 1 (Option.some Jvm.ClassFile.FieldType.int)) (rmD 0 0 0)).room = R at hR ⊢
  generalize ([.ref x0] : List Value).toArray = args at hts hF ⊢
  generalize hQ : MQ below _ _ _ _ _ _ = Q
  unfold w_X13_a at h
  refine lv_aload_n hx hb dX13_a_0 rfl (lv_at hl 0 rfl) ?_
  obtain ⟨fs1, v4, hg2, hv3, h⟩ := h
  refine gPX13_13 hF hK hI hg2 hv3 dX13_a_1 (fun f5 => ?_)
  replace h := h f5
  rw [← hQ]; exact s_iret (K := fun r S' => S' = S ∧ K r) hx hb hr hlocks hI f5 ⟨rfl, h⟩ dX13_a_4
theorem gPX13_16 {p : Program} {l : Launch} {e : Env} {R : Room} {s : State} {m : MethodId} {args : Array Value} {below : List Frame} {meth : Method} {c : Code} {H : Heap} {locs : List Loc} {Q : State → Prop} {cc : ByteArray} {nL pc : Nat} {ls : Array Slot} {rest : List Value} {cells slots : Nat} {w : Wd} {D : va_G} {dA : Nat → ClassId} {ad : Nat → Nat} {A : Nat → Prop} {H0 : Heap} {S : St} {q : Nat} {fs : List PV} {v : Int} (hF : CallFix p m c cc nL s args lw_all RX13) (hK : gK D dA s) (hI : sI D dA w ad A H0 S H locs) (hg : gI S q = some (.inr (.inl (13, fs)))) (hv : fs[2]? = some (.inl v)) (hdg : decode cc pc = .ok (.getfield 16, 3)) (kk : InR v → W p l e R s m args below meth c H locs cells slots Q (F0 m (pc + 3) ls (iV v :: rest))) : W p l e R s m args below meth c H locs cells slots Q (F0 m (pc) ls (.ref q :: rest)) := s_pgi hF.1 hF.2.1 hF.2.2.2.2 hF.2.2.2.1 hK hI hg rfl in_X13 2 (by decide) q811 rfl hv hdg kk
set_option maxHeartbeats 4000000 in
theorem t_X13_b (l : Launch) (D : va_G) (dA : Nat → ClassId) (ad : Nat → Nat) (S : St) (sz : Nat) (x0 : Nat) (K : Int → Prop) (h : w_X13_b x0 S K) : Met l yX13_b (ws_ yX13_b cX13_b 1 (Option.some Jvm.ClassFile.FieldType.int)) (rmD 0 0 0) (va_Pc [.ref x0] (sPre D dA wX ad S sz)) (va_Qi (fun r S' => S' = S ∧ K r.toInt) (sPost D dA wX ad (wA wX ad S sz)) (wA wX ad S sz)) 0 0 (wA wX ad S sz) := by
  refine Met.ofW (cc := cX13_b) (maxL := 1) (ret := (Option.some Jvm.ClassFile.FieldType.int)) (by decide) rfl ?_
  intro p e s m args below meth c s₁ B hml hv
  obtain ⟨rfl, hsz, hK, hC⟩ := hv
  have hx := B.exec
  have hb := B.bytes
  have hr := B.returns
  have hlocks := B.notSynchronized
  have hts := atoms_spec (ws := (ws_ yX13_b cX13_b 1 (Option.some Jvm.ClassFile.FieldType.int))) B.pre
  have hts : ∀ w ∈ lw_all, w.before _ s = true := fun w h => hts w (List.mem_cons_of_mem _ h)
  have hown : s.vm.findClass RX13 = some m.cls := findClass_of_methodNamed B.named
  clear B
  subst hsz
  have hI : sI D dA wX ad (wA wX ad S s.heap.size) s.heap S s.heap [] := hC.start
  clear hC
  generalize wA wX ad S s.heap.size = A at hI ⊢
  have hl := lv_entry ([.ref x0] : List Value) (n := 1) (Nat.le_of_ble_eq_true rfl)
  rw [lg_entry_eq]
  generalize (lg_sl ([.ref x0] : List Value) ++ List.replicate (1 - (lg_sl ([.ref x0] : List Value)).length) Slot.unset).toArray = ls at hl ⊢
  have hl : lv_has ls 1 [(0, .ref x0)] := hl
  have hF : CallFix p m c cX13_b 1 s _ lw_all RX13 := ⟨hx, hb, hml, hown, hts⟩
  have hR : (headSpec (ws_ yX13_b cX13_b 1 (Option.some Jvm.ClassFile.FieldType.int)) (rmD 0 0 0)).room.frames = 0 + 1 ∧ (headSpec (ws_ yX13_b cX13_b 1 (Option.some Jvm.ClassFile.FieldType.int)) (rmD 0 0 0)).room.locals = 64 * 0 + 64 := ⟨rfl, rfl⟩
  generalize (headSpec (ws_ yX13_b cX13_b 1 (Option.some Jvm.ClassFile.FieldType.int)) (rmD 0 0 0)).room = R at hR ⊢
  generalize ([.ref x0] : List Value).toArray = args at hts hF ⊢
  generalize hQ : MQ below _ _ _ _ _ _ = Q
  unfold w_X13_b at h
  refine lv_aload_n hx hb dX13_b_0 rfl (lv_at hl 0 rfl) ?_
  obtain ⟨fs1, v4, hg2, hv3, h⟩ := h
  refine gPX13_16 hF hK hI hg2 hv3 dX13_b_1 (fun f5 => ?_)
  replace h := h f5
  rw [← hQ]; exact s_iret (K := fun r S' => S' = S ∧ K r) hx hb hr hlocks hI f5 ⟨rfl, h⟩ dX13_b_4
theorem gPX13_19 {p : Program} {l : Launch} {e : Env} {R : Room} {s : State} {m : MethodId} {args : Array Value} {below : List Frame} {meth : Method} {c : Code} {H : Heap} {locs : List Loc} {Q : State → Prop} {cc : ByteArray} {nL pc : Nat} {ls : Array Slot} {rest : List Value} {cells slots : Nat} {w : Wd} {D : va_G} {dA : Nat → ClassId} {ad : Nat → Nat} {A : Nat → Prop} {H0 : Heap} {S : St} {q : Nat} {fs : List PV} {v : Int} (hF : CallFix p m c cc nL s args lw_all RX13) (hK : gK D dA s) (hI : sI D dA w ad A H0 S H locs) (hg : gI S q = some (.inr (.inl (13, fs)))) (hv : fs[3]? = some (.inl v)) (hdg : decode cc pc = .ok (.getfield 19, 3)) (kk : InR v → W p l e R s m args below meth c H locs cells slots Q (F0 m (pc + 3) ls (iV v :: rest))) : W p l e R s m args below meth c H locs cells slots Q (F0 m (pc) ls (.ref q :: rest)) := s_pgi hF.1 hF.2.1 hF.2.2.2.2 hF.2.2.2.1 hK hI hg rfl in_X13 3 (by decide) q812 rfl hv hdg kk
set_option maxHeartbeats 4000000 in
theorem t_X13_c (l : Launch) (D : va_G) (dA : Nat → ClassId) (ad : Nat → Nat) (S : St) (sz : Nat) (x0 : Nat) (K : Int → Prop) (h : w_X13_c x0 S K) : Met l yX13_c (ws_ yX13_c cX13_c 1 (Option.some Jvm.ClassFile.FieldType.int)) (rmD 0 0 0) (va_Pc [.ref x0] (sPre D dA wX ad S sz)) (va_Qi (fun r S' => S' = S ∧ K r.toInt) (sPost D dA wX ad (wA wX ad S sz)) (wA wX ad S sz)) 0 0 (wA wX ad S sz) := by
  refine Met.ofW (cc := cX13_c) (maxL := 1) (ret := (Option.some Jvm.ClassFile.FieldType.int)) (by decide) rfl ?_
  intro p e s m args below meth c s₁ B hml hv
  obtain ⟨rfl, hsz, hK, hC⟩ := hv
  have hx := B.exec
  have hb := B.bytes
  have hr := B.returns
  have hlocks := B.notSynchronized
  have hts := atoms_spec (ws := (ws_ yX13_c cX13_c 1 (Option.some Jvm.ClassFile.FieldType.int))) B.pre
  have hts : ∀ w ∈ lw_all, w.before _ s = true := fun w h => hts w (List.mem_cons_of_mem _ h)
  have hown : s.vm.findClass RX13 = some m.cls := findClass_of_methodNamed B.named
  clear B
  subst hsz
  have hI : sI D dA wX ad (wA wX ad S s.heap.size) s.heap S s.heap [] := hC.start
  clear hC
  generalize wA wX ad S s.heap.size = A at hI ⊢
  have hl := lv_entry ([.ref x0] : List Value) (n := 1) (Nat.le_of_ble_eq_true rfl)
  rw [lg_entry_eq]
  generalize (lg_sl ([.ref x0] : List Value) ++ List.replicate (1 - (lg_sl ([.ref x0] : List Value)).length) Slot.unset).toArray = ls at hl ⊢
  have hl : lv_has ls 1 [(0, .ref x0)] := hl
  have hF : CallFix p m c cX13_c 1 s _ lw_all RX13 := ⟨hx, hb, hml, hown, hts⟩
  have hR : (headSpec (ws_ yX13_c cX13_c 1 (Option.some Jvm.ClassFile.FieldType.int)) (rmD 0 0 0)).room.frames = 0 + 1 ∧ (headSpec (ws_ yX13_c cX13_c 1 (Option.some Jvm.ClassFile.FieldType.int)) (rmD 0 0 0)).room.locals = 64 * 0 + 64 := ⟨rfl, rfl⟩
  generalize (headSpec (ws_ yX13_c cX13_c 1 (Option.some Jvm.ClassFile.FieldType.int)) (rmD 0 0 0)).room = R at hR ⊢
  generalize ([.ref x0] : List Value).toArray = args at hts hF ⊢
  generalize hQ : MQ below _ _ _ _ _ _ = Q
  unfold w_X13_c at h
  refine lv_aload_n hx hb dX13_c_0 rfl (lv_at hl 0 rfl) ?_
  obtain ⟨fs1, v4, hg2, hv3, h⟩ := h
  refine gPX13_19 hF hK hI hg2 hv3 dX13_c_1 (fun f5 => ?_)
  replace h := h f5
  rw [← hQ]; exact s_iret (K := fun r S' => S' = S ∧ K r) hx hb hr hlocks hI f5 ⟨rfl, h⟩ dX13_c_4
theorem gPX13_22 {p : Program} {l : Launch} {e : Env} {R : Room} {s : State} {m : MethodId} {args : Array Value} {below : List Frame} {meth : Method} {c : Code} {H : Heap} {locs : List Loc} {Q : State → Prop} {cc : ByteArray} {nL pc : Nat} {ls : Array Slot} {rest : List Value} {cells slots : Nat} {w : Wd} {D : va_G} {dA : Nat → ClassId} {ad : Nat → Nat} {A : Nat → Prop} {H0 : Heap} {S : St} {q : Nat} {fs : List PV} {v : Int} (hF : CallFix p m c cc nL s args lw_all RX13) (hK : gK D dA s) (hI : sI D dA w ad A H0 S H locs) (hg : gI S q = some (.inr (.inl (13, fs)))) (hv : fs[4]? = some (.inl v)) (hdg : decode cc pc = .ok (.getfield 22, 3)) (kk : InR v → W p l e R s m args below meth c H locs cells slots Q (F0 m (pc + 3) ls (iV v :: rest))) : W p l e R s m args below meth c H locs cells slots Q (F0 m (pc) ls (.ref q :: rest)) := s_pgi hF.1 hF.2.1 hF.2.2.2.2 hF.2.2.2.1 hK hI hg rfl in_X13 4 (by decide) q813 rfl hv hdg kk
set_option maxHeartbeats 4000000 in
theorem t_X13_number (l : Launch) (D : va_G) (dA : Nat → ClassId) (ad : Nat → Nat) (S : St) (sz : Nat) (x0 : Nat) (K : Int → Prop) (h : w_X13_number x0 S K) : Met l yX13_number (ws_ yX13_number cX13_number 1 (Option.some Jvm.ClassFile.FieldType.int)) (rmD 0 0 0) (va_Pc [.ref x0] (sPre D dA wX ad S sz)) (va_Qi (fun r S' => S' = S ∧ K r.toInt) (sPost D dA wX ad (wA wX ad S sz)) (wA wX ad S sz)) 0 0 (wA wX ad S sz) := by
  refine Met.ofW (cc := cX13_number) (maxL := 1) (ret := (Option.some Jvm.ClassFile.FieldType.int)) (by decide) rfl ?_
  intro p e s m args below meth c s₁ B hml hv
  obtain ⟨rfl, hsz, hK, hC⟩ := hv
  have hx := B.exec
  have hb := B.bytes
  have hr := B.returns
  have hlocks := B.notSynchronized
  have hts := atoms_spec (ws := (ws_ yX13_number cX13_number 1 (Option.some Jvm.ClassFile.FieldType.int))) B.pre
  have hts : ∀ w ∈ lw_all, w.before _ s = true := fun w h => hts w (List.mem_cons_of_mem _ h)
  have hown : s.vm.findClass RX13 = some m.cls := findClass_of_methodNamed B.named
  clear B
  subst hsz
  have hI : sI D dA wX ad (wA wX ad S s.heap.size) s.heap S s.heap [] := hC.start
  clear hC
  generalize wA wX ad S s.heap.size = A at hI ⊢
  have hl := lv_entry ([.ref x0] : List Value) (n := 1) (Nat.le_of_ble_eq_true rfl)
  rw [lg_entry_eq]
  generalize (lg_sl ([.ref x0] : List Value) ++ List.replicate (1 - (lg_sl ([.ref x0] : List Value)).length) Slot.unset).toArray = ls at hl ⊢
  have hl : lv_has ls 1 [(0, .ref x0)] := hl
  have hF : CallFix p m c cX13_number 1 s _ lw_all RX13 := ⟨hx, hb, hml, hown, hts⟩
  have hR : (headSpec (ws_ yX13_number cX13_number 1 (Option.some Jvm.ClassFile.FieldType.int)) (rmD 0 0 0)).room.frames = 0 + 1 ∧ (headSpec (ws_ yX13_number cX13_number 1 (Option.some Jvm.ClassFile.FieldType.int)) (rmD 0 0 0)).room.locals = 64 * 0 + 64 := ⟨rfl, rfl⟩
  generalize (headSpec (ws_ yX13_number cX13_number 1 (Option.some Jvm.ClassFile.FieldType.int)) (rmD 0 0 0)).room = R at hR ⊢
  generalize ([.ref x0] : List Value).toArray = args at hts hF ⊢
  generalize hQ : MQ below _ _ _ _ _ _ = Q
  unfold w_X13_number at h
  refine lv_aload_n hx hb dX13_number_0 rfl (lv_at hl 0 rfl) ?_
  obtain ⟨fs1, v4, hg2, hv3, h⟩ := h
  refine gPX13_22 hF hK hI hg2 hv3 dX13_number_1 (fun f5 => ?_)
  replace h := h f5
  rw [← hQ]; exact s_iret (K := fun r S' => S' = S ∧ K r) hx hb hr hlocks hI f5 ⟨rfl, h⟩ dX13_number_4
theorem gXX0_127_130 {p : Program} {l : Launch} {e : Env} {R : Room} {s : State} {m : MethodId} {args : Array Value} {below : List Frame} {meth : Method} {c : Code} {H : Heap} {locs : List Loc} {Q : State → Prop} {cc : ByteArray} {nL pc : Nat} {ls : Array Slot} {rest : List Value} {cells slots : Nat} {D : va_G} {dA : Nat → ClassId} {ad : Nat → Nat} {A : Nat → Prop} {H0 : Heap} {S : St} (hF : CallFix p m c cc nL s args lw_all RX0) (hK : gK D dA s) (hI : sI D dA wX ad A H0 S H locs) (hdg : decode cc pc = .ok (.getfield 127, 3)) (kk : W p l e R s m args below meth c H locs cells slots Q (F0 m (pc + 3) ls (.ref (ad 140) :: rest))) : W p l e R s m args below meth c H locs cells slots Q (F0 m (pc) ls (.ref (ad 130) :: rest)) := s_getrN hF.1 hF.2.1 hF.2.2.2.2 hF.2.2.2.1 hK hI 130 (by decide) wX_130 rfl in_X1 6 (by decide) (nFl_6 hK.2) rfl 140 rfl hdg kk
set_option maxHeartbeats 4000000 in
theorem t_X_rules (l : Launch) (D : va_G) (dA : Nat → ClassId) (ad : Nat → Nat) (S : St) (sz : Nat) (K : Option Nat → Prop) (h : w_X_rules S K) : Met l yX0_rules (ws_ yX0_rules cX0_rules 1 (Option.some (Jvm.ClassFile.FieldType.object "NineGraves$Text"))) (rmD 0 0 0) (va_Pc [.ref (ad 129)] (sPre D dA wX ad S sz)) (va_Qq (fun r S' => S' = S ∧ K r) (sPost D dA wX ad (wA wX ad S sz)) (wA wX ad S sz)) 0 0 (wA wX ad S sz) := by
  refine Met.ofW (cc := cX0_rules) (maxL := 1) (ret := (Option.some (Jvm.ClassFile.FieldType.object "NineGraves$Text"))) (by decide) rfl ?_
  intro p e s m args below meth c s₁ B hml hv
  obtain ⟨rfl, hsz, hK, hC⟩ := hv
  have hx := B.exec
  have hb := B.bytes
  have hr := B.returns
  have hlocks := B.notSynchronized
  have hts := atoms_spec (ws := (ws_ yX0_rules cX0_rules 1 (Option.some (Jvm.ClassFile.FieldType.object "NineGraves$Text")))) B.pre
  have hts : ∀ w ∈ lw_all, w.before _ s = true := fun w h => hts w (List.mem_cons_of_mem _ h)
  have hown : s.vm.findClass RX0 = some m.cls := findClass_of_methodNamed B.named
  clear B
  subst hsz
  have hI : sI D dA wX ad (wA wX ad S s.heap.size) s.heap S s.heap [] := hC.start
  clear hC
  generalize wA wX ad S s.heap.size = A at hI ⊢
  have hl := lv_entry ([.ref (ad 129)] : List Value) (n := 1) (Nat.le_of_ble_eq_true rfl)
  rw [lg_entry_eq]
  generalize (lg_sl ([.ref (ad 129)] : List Value) ++ List.replicate (1 - (lg_sl ([.ref (ad 129)] : List Value)).length) Slot.unset).toArray = ls at hl ⊢
  have hl : lv_has ls 1 [(0, .ref (ad 129))] := hl
  have hF : CallFix p m c cX0_rules 1 s _ lw_all RX0 := ⟨hx, hb, hml, hown, hts⟩
  have hR : (headSpec (ws_ yX0_rules cX0_rules 1 (Option.some (Jvm.ClassFile.FieldType.object "NineGraves$Text"))) (rmD 0 0 0)).room.frames = 0 + 1 ∧ (headSpec (ws_ yX0_rules cX0_rules 1 (Option.some (Jvm.ClassFile.FieldType.object "NineGraves$Text"))) (rmD 0 0 0)).room.locals = 64 * 0 + 64 := ⟨rfl, rfl⟩
  generalize (headSpec (ws_ yX0_rules cX0_rules 1 (Option.some (Jvm.ClassFile.FieldType.object "NineGraves$Text"))) (rmD 0 0 0)).room = R at hR ⊢
  generalize ([.ref (ad 129)] : List Value).toArray = args at hts hF ⊢
  generalize hQ : MQ below _ _ _ _ _ _ = Q
  unfold w_X_rules at h
  refine lv_aload_n hx hb dX0_rules_0 rfl (lv_at hl 0 rfl) ?_
  refine gXX0_12_129 hF hK hI dX0_rules_1 ?_
  refine gXX0_71_130 hF hK hI dX0_rules_4 ?_
  refine nr_iconst hx hb dX0_rules_7 ?_
  refine s_iald hx hb hK hI 0 (by decide) wX_0 (by decide) (by decide) dX0_rules_8 (fun f1 => ?_)
  replace h := h f1
  refine nr_iconst hx hb dX0_rules_9 ?_
  refine nr_icmp_ne hx hb f1 (by decide) dX0_rules_10 (tgt := 17) (by decide) (fun c2 => ?_) (fun c2 => ?_)
  · replace h := h.1 c2
    refine lv_aload_n hx hb dX0_rules_17 rfl (lv_at hl 0 rfl) ?_
    refine gXX0_12_129 hF hK hI dX0_rules_18 ?_
    refine gXX0_127_130 hF hK hI dX0_rules_21 ?_
    refine lv_aload_n hx hb dX0_rules_24 rfl (lv_at hl 0 rfl) ?_
    refine gXX0_12_129 hF hK hI dX0_rules_25 ?_
    refine gXX0_71_130 hF hK hI dX0_rules_28 ?_
    refine nr_iconst hx hb dX0_rules_31 ?_
    refine s_iald hx hb hK hI 0 (by decide) wX_0 (by decide) (by decide) dX0_rules_32 (fun f3 => ?_)
    have f4 := h.1; replace h := h.2
    refine s_rald hx hb hK hI 140 (by decide) wX_140 f1 f4 dX0_rules_33 ?_
    rw [← hQ]; exact s_qret (v := rI S 140 (aI S 0 3)) (K := fun r S' => S' = S ∧ K r) hx hb hr (Or.inl ⟨_, rfl⟩) hlocks hI ⟨rfl, h⟩ dX0_rules_34
  · replace h := h.2 c2
    refine lv_null hx hb dX0_rules_13 ?_
    refine lv_goto (tgt := 34) hx hb dX0_rules_14 (by decide) ?_
    rw [← hQ]; exact s_qret (v := none) (K := fun r S' => S' = S ∧ K r) hx hb hr (Or.inl ⟨_, rfl⟩) hlocks hI ⟨rfl, h⟩ dX0_rules_34
theorem cXX0_171 {p : Program} {l : Launch} {e : Env} {R : Room} {s : State} {m : MethodId} {args : Array Value} {below : List Frame} {meth : Method} {c : Code} {H : Heap} {locs : List Loc} {Q : State → Prop} {cc : ByteArray} {nL pc : Nat} {ls : Array Slot} {rest : List Value} {cells slots : Nat} {D : va_G} {dA : Nat → ClassId} {ad : Nat → Nat} {A : Nat → Prop} {H0 : Heap} {S : St} {dk : Nat} (hF : CallFix p m c cc nL s args lw_all RX0) (hK : gK D dA s) (hI : sI D dA wX ad A H0 S H locs) (hls : ls.size = nL) (hR : R.frames = dk + 1 ∧ R.locals = 64 * dk + 64) (hd : 0 + 1 ≤ dk) (hW : (rest.map fun v => v.category).sum ≤ 8) (hf : cells ≤ R.cells ∧ slots ≤ R.slots) {K : Option Nat → Prop} (h : w_X_rules S K) (hdg : decode cc pc = .ok (.invokevirtual 171, 3)) (kk : ∀ (r : Option Nat) (H1 : Heap) (locs1 : List Loc), K r → sI D dA wX ad A H0 S H1 locs1 → W p l e R s m args below meth c H1 locs1 cells slots Q (F0 m (pc + 3) ls (va_rf r :: rest))) : W p l e R s m args below meth c H locs cells slots Q (F0 m (pc) ls (.ref (ad 129) :: rest)) := s_callVq (As := []) (rest := rest) (K := fun r S' => S' = S ∧ K r) hF (t_X_rules l D dA ad S H.size K h) (s_recv hK hI 129 (by decide) wX_129 rfl) (cwV 0 hF.2.2.2.2 (lw_V q883 q885 qs30 q106 q886) rfl rfl rfl (by decide +kernel) ⟨by have h1 := hR.1; have h2 : (rmD 0 0 0).frames = 0 + 1 := rfl; omega, by have h1 := hR.2; have h2 : (rmD 0 0 0).locals = 64 * 0 + 64 := rfl; omega⟩) hK hI rfl hls rfl hW hdg hf (fun r S1 H1 locs1 hk hI1 => by obtain ⟨rfl, hk⟩ := hk; exact kk r H1 locs1 hk hI1)
theorem gPX0_174 {p : Program} {l : Launch} {e : Env} {R : Room} {s : State} {m : MethodId} {args : Array Value} {below : List Frame} {meth : Method} {c : Code} {H : Heap} {locs : List Loc} {Q : State → Prop} {cc : ByteArray} {nL pc : Nat} {ls : Array Slot} {rest : List Value} {cells slots : Nat} {w : Wd} {D : va_G} {dA : Nat → ClassId} {ad : Nat → Nat} {A : Nat → Prop} {H0 : Heap} {S : St} {q : Nat} {fs : List PV} {v : Option Nat} (hF : CallFix p m c cc nL s args lw_all RX0) (hK : gK D dA s) (hI : sI D dA w ad A H0 S H locs) (hg : gI S q = some (.inr (.inl (4, fs)))) (hv : fs[0]? = some (.inr (.inr v))) (hdg : decode cc pc = .ok (.getfield 174, 3)) (kk : W p l e R s m args below meth c H locs cells slots Q (F0 m (pc + 3) ls (va_rf v :: rest))) : W p l e R s m args below meth c H locs cells slots Q (F0 m (pc) ls (.ref q :: rest)) := s_pgrN hF.1 hF.2.1 hF.2.2.2.2 hF.2.2.2.1 hK hI hg rfl in_X4 0 (by decide) (nFl_7 hK.2) rfl hv hdg kk
theorem cXX0_180 {p : Program} {l : Launch} {e : Env} {R : Room} {s : State} {m : MethodId} {args : Array Value} {below : List Frame} {meth : Method} {c : Code} {H : Heap} {locs : List Loc} {Q : State → Prop} {cc : ByteArray} {nL pc : Nat} {ls : Array Slot} {rest : List Value} {cells slots : Nat} {D : va_G} {dA : Nat → ClassId} {ad : Nat → Nat} {A : Nat → Prop} {H0 : Heap} {S : St} {dk : Nat} (hF : CallFix p m c cc nL s args lw_all RX0) (hK : gK D dA s) (hI : sI D dA wX ad A H0 S H locs) (hls : ls.size = nL) (hR : R.frames = dk + 1 ∧ R.locals = 64 * dk + 64) (hd : 2 + 1 ≤ dk) (hW : (rest.map fun v => v.category).sum ≤ 8) (hf : cells ≤ R.cells ∧ slots ≤ R.slots) {x1 : Int} {K : St → Prop} (r1 : InR x1) (h : w_X_names x1 S K) (hdg : decode cc pc = .ok (.invokevirtual 180, 3)) (kk : ∀ (S1 : St) (H1 : Heap) (locs1 : List Loc), K S1 → sI D dA wX ad A H0 S1 H1 locs1 → W p l e R s m args below meth c H1 locs1 cells slots Q (F0 m (pc + 3) ls (rest))) : W p l e R s m args below meth c H locs cells slots Q (F0 m (pc) ls (iV x1 :: .ref (ad 129) :: rest)) := s_callVv (As := [iV x1]) (rest := rest) (K := K) hF (t_X_names l D dA ad S H.size x1 K r1 h) (s_recv hK hI 129 (by decide) wX_129 rfl) (cwV 1 hF.2.2.2.2 (lw_V q887 q889 qs31 q106 q890) rfl rfl rfl (by decide +kernel) ⟨by have h1 := hR.1; have h2 : (rmD 2 0 0).frames = 2 + 1 := rfl; omega, by have h1 := hR.2; have h2 : (rmD 2 0 0).locals = 64 * 2 + 64 := rfl; omega⟩) hK hI rfl hls rfl hW hdg hf kk
theorem iPX0_182 {p : Program} {l : Launch} {e : Env} {R : Room} {s : State} {m : MethodId} {args : Array Value} {below : List Frame} {meth : Method} {c : Code} {H : Heap} {locs : List Loc} {Q : State → Prop} {cc : ByteArray} {nL pc : Nat} {ls : Array Slot} {rest : List Value} {cells slots : Nat} {D : va_G} {dA : Nat → ClassId} {ad : Nat → Nat} {A : Nat → Prop} {H0 : Heap} {S : St} {dk dd q : Nat} {K : Int → Prop} (hM : OfM l D dA ad dd S H.size q K) (hF : CallFix p m c cc nL s args lw_all RX0) (hK : gK D dA s) (hI : sI D dA wX ad A H0 S H locs) (hls : ls.size = nL) (hR : R.frames = dk + 1 ∧ R.locals = 64 * dk + 64) (hd : dd + 1 ≤ dk) (hW : (rest.map fun v => v.category).sum ≤ 8) (hf : cells ≤ R.cells ∧ slots ≤ R.slots) (hdg : decode cc pc = .ok (.invokeinterface 182 2, 5)) (kk : ∀ (r : Int) (H1 : Heap) (locs1 : List Loc), InL r → K r → sI D dA wX ad A H0 S H1 locs1 → W p l e R s m args below meth c H1 locs1 cells slots Q (F0 m (pc + 5) ls (jV r :: rest))) : W p l e R s m args below meth c H locs cells slots Q (F0 m (pc) ls (.ref (ad 9) :: .ref q :: rest)) := by
  rcases hM with ⟨⟨fs, hg⟩, hM⟩ | ⟨⟨fs, hg⟩, hM⟩ | ⟨⟨fs, hg⟩, hM⟩ | ⟨⟨fs, hg⟩, hM⟩
  · exact s_callFl (x := (⟨"NineGraves$Sum", "of", "([I)J"⟩ : MethodName)) (As := [.ref (ad 9)]) (rest := rest) (K := fun r S' => S' = S ∧ K r) (hK.1.1 7 _ rfl).2 hF hM (s_recvP hK hI hg rfl) (va_cwF 1 hF.2.2.2.2 (lw_F q896 q922 q924 q125 q926) rfl rfl rfl (nFw_0 hK.2) (by decide +kernel) ⟨by have h1 := hR.1; have h2 : (rmD dd 0 0).frames = dd + 1 := rfl; omega, by have h1 := hR.2; have h2 : (rmD dd 0 0).locals = 64 * dd + 64 := rfl; omega⟩) hK hI rfl hls rfl hW hdg hf (fun r S1 H1 locs1 f hk hI1 => by obtain ⟨rfl, hk⟩ := hk; exact kk r H1 locs1 f hk hI1)
  · exact s_callFl (x := (⟨"NineGraves$Sum", "of", "([I)J"⟩ : MethodName)) (As := [.ref (ad 9)]) (rest := rest) (K := fun r S' => S' = S ∧ K r) (hK.1.1 8 _ rfl).2 hF hM (s_recvP hK hI hg rfl) (va_cwF 1 hF.2.2.2.2 (lw_F q896 q916 q918 q126 q920) rfl rfl rfl (nFw_1 hK.2) (by decide +kernel) ⟨by have h1 := hR.1; have h2 : (rmD dd 0 0).frames = dd + 1 := rfl; omega, by have h1 := hR.2; have h2 : (rmD dd 0 0).locals = 64 * dd + 64 := rfl; omega⟩) hK hI rfl hls rfl hW hdg hf (fun r S1 H1 locs1 f hk hI1 => by obtain ⟨rfl, hk⟩ := hk; exact kk r H1 locs1 f hk hI1)
  · exact s_callFl (x := (⟨"NineGraves$Sum", "of", "([I)J"⟩ : MethodName)) (As := [.ref (ad 9)]) (rest := rest) (K := fun r S' => S' = S ∧ K r) (hK.1.1 9 _ rfl).2 hF hM (s_recvP hK hI hg rfl) (va_cwF 1 hF.2.2.2.2 (lw_F q896 q908 q910 q127 q912) rfl rfl rfl (nFw_2 hK.2) (by decide +kernel) ⟨by have h1 := hR.1; have h2 : (rmD dd 0 0).frames = dd + 1 := rfl; omega, by have h1 := hR.2; have h2 : (rmD dd 0 0).locals = 64 * dd + 64 := rfl; omega⟩) hK hI rfl hls rfl hW hdg hf (fun r S1 H1 locs1 f hk hI1 => by obtain ⟨rfl, hk⟩ := hk; exact kk r H1 locs1 f hk hI1)
  · exact s_callFl (x := (⟨"NineGraves$Sum", "of", "([I)J"⟩ : MethodName)) (As := [.ref (ad 9)]) (rest := rest) (K := fun r S' => S' = S ∧ K r) (hK.1.1 6 _ rfl).2 hF hM (s_recvP hK hI hg rfl) (va_cwF 1 hF.2.2.2.2 (lw_F q896 q900 q902 q123 q904) rfl rfl rfl (nFw_3 hK.2) (by decide +kernel) ⟨by have h1 := hR.1; have h2 : (rmD dd 0 0).frames = dd + 1 := rfl; omega, by have h1 := hR.2; have h2 : (rmD dd 0 0).locals = 64 * dd + 64 := rfl; omega⟩) hK hI rfl hls rfl hW hdg hf (fun r S1 H1 locs1 f hk hI1 => by obtain ⟨rfl, hk⟩ := hk; exact kk r H1 locs1 f hk hI1)
set_option maxHeartbeats 4000000 in
theorem t_X_worn (l : Launch) (D : va_G) (dA : Nat → ClassId) (ad : Nat → Nat) (S : St) (sz : Nat) (x1 : Int) (K : Int → St → Prop) (rx1 : InR x1) (h : w_X_worn x1 S K) : Met l yX0_worn (ws_ yX0_worn cX0_worn 3 (Option.some Jvm.ClassFile.FieldType.int)) (rmD 74 0 0) (va_Pc [.ref (ad 129), iV x1] (sPre D dA wX ad S sz)) (va_Qi (fun r S' => K r.toInt S') (sPost D dA wX ad (wA wX ad S sz)) (wA wX ad S sz)) 0 0 (wA wX ad S sz) := by
  refine Met.ofW (cc := cX0_worn) (maxL := 3) (ret := (Option.some Jvm.ClassFile.FieldType.int)) (by decide) rfl ?_
  intro p e s m args below meth c s₁ B hml hv
  obtain ⟨rfl, hsz, hK, hC⟩ := hv
  have hx := B.exec
  have hb := B.bytes
  have hr := B.returns
  have hlocks := B.notSynchronized
  have hts := atoms_spec (ws := (ws_ yX0_worn cX0_worn 3 (Option.some Jvm.ClassFile.FieldType.int))) B.pre
  have hts : ∀ w ∈ lw_all, w.before _ s = true := fun w h => hts w (List.mem_cons_of_mem _ h)
  have hown : s.vm.findClass RX0 = some m.cls := findClass_of_methodNamed B.named
  clear B
  subst hsz
  have hI : sI D dA wX ad (wA wX ad S s.heap.size) s.heap S s.heap [] := hC.start
  clear hC
  generalize wA wX ad S s.heap.size = A at hI ⊢
  have hl := lv_entry ([.ref (ad 129), iV x1] : List Value) (n := 3) (Nat.le_of_ble_eq_true rfl)
  rw [lg_entry_eq]
  generalize (lg_sl ([.ref (ad 129), iV x1] : List Value) ++ List.replicate (3 - (lg_sl ([.ref (ad 129), iV x1] : List Value)).length) Slot.unset).toArray = ls at hl ⊢
  have hl : lv_has ls 3 [(0, .ref (ad 129)), (1, iV x1)] := hl
  have hF : CallFix p m c cX0_worn 3 s _ lw_all RX0 := ⟨hx, hb, hml, hown, hts⟩
  have hR : (headSpec (ws_ yX0_worn cX0_worn 3 (Option.some Jvm.ClassFile.FieldType.int)) (rmD 74 0 0)).room.frames = 74 + 1 ∧ (headSpec (ws_ yX0_worn cX0_worn 3 (Option.some Jvm.ClassFile.FieldType.int)) (rmD 74 0 0)).room.locals = 64 * 74 + 64 := ⟨rfl, rfl⟩
  generalize (headSpec (ws_ yX0_worn cX0_worn 3 (Option.some Jvm.ClassFile.FieldType.int)) (rmD 74 0 0)).room = R at hR ⊢
  generalize ([.ref (ad 129), iV x1] : List Value).toArray = args at hts hF ⊢
  generalize hQ : MQ below _ _ _ _ _ _ = Q
  unfold w_X_worn at h
  refine lv_aload_n hx hb dX0_worn_0 rfl (lv_at hl 0 rfl) ?_
  refine cXX0_171 hF hK hI hl.1 hR (by decide) (Nat.le_of_ble_eq_true rfl) ⟨Nat.zero_le _, Nat.zero_le _⟩ h dX0_worn_1 (fun r1 H locs h hI => ?_)
  refine nr_astoreO_n (lv' := [(2, va_rf r1), (0, .ref (ad 129)), (1, iV x1)]) hx hb dX0_worn_4 rfl hl (by decide) rfl (fun ls hl => ?_)
  refine nr_aloadO_n hx hb dX0_worn_5 rfl (lv_at hl 0 rfl) ?_
  refine nr_ifnullO hx hb dX0_worn_6 (tgt := 16) (by decide) (fun c3 => ?_) (fun q4 c3 => ?_)
  · replace h := h.1 c3
    refine nr_iconst hx hb dX0_worn_16 ?_
    rw [← hQ]; exact s_iret (K := K) hx hb hr hlocks hI (by decide) h dX0_worn_17
  · replace h := h.2 q4 c3
    subst c3
    refine lv_aload_n hx hb dX0_worn_9 rfl (lv_at hl 0 rfl) ?_
    obtain ⟨fs5, v8, hg6, hv7, h⟩ := h
    refine gPX0_174 hF hK hI hg6 hv7 dX0_worn_10 ?_
    refine nr_ifnonnullO hx hb dX0_worn_13 (tgt := 18) (by decide) (fun q10 c9 => ?_) (fun c9 => ?_)
    · replace h := h.2 q10 c9
      subst c9
      refine lv_aload_n hx hb dX0_worn_18 rfl (lv_at hl 1 rfl) ?_
      refine lv_iload_n hx hb dX0_worn_19 rfl (lv_at hl 2 rfl) ?_
      refine cXX0_180 hF hK hI hl.1 hR (by decide) (Nat.le_of_ble_eq_true rfl) ⟨Nat.zero_le _, Nat.zero_le _⟩ rx1 h dX0_worn_20 (fun S12 H locs h hI => ?_)
      refine nr_lconst (v := 0) hx hb dX0_worn_23 rfl ?_
      refine lv_aload_n hx hb dX0_worn_24 rfl (lv_at hl 0 rfl) ?_
      obtain ⟨fs13, v16, hg14, hv15, h⟩ := h
      refine gPX0_174 hF hK hI hg14 hv15 dX0_worn_25 ?_
      refine lv_aload_n hx hb dX0_worn_28 rfl (lv_at hl 1 rfl) ?_
      refine gXX0_30_129 hF hK hI dX0_worn_29 ?_
      obtain ⟨q17, e18, h⟩ := h
      rw [e18]
      show W p l e R s m args below meth c _ _ _ _ Q (F0 m _ ls [.ref (ad 9), .ref q17, jV 0])
      obtain ⟨d20, hd20, h⟩ := h
      refine iPX0_182 (t_of l d20 D dA ad S12 _ _ _ h) hF hK hI hl.1 hR (by omega) (Nat.le_of_ble_eq_true rfl) ⟨Nat.zero_le _, Nat.zero_le _⟩ dX0_worn_32 (fun r19 H locs fr19 h hI => ?_)
      replace h := h fr19
      refine s_maxl hx hb (hl.1.trans hml.symm) hown hts q943 q941 q119 q942 (by have h1 := hR.1; have h2 := hR.2; omega) ⟨Nat.zero_le _, Nat.zero_le _⟩ (Nat.le_of_ble_eq_true rfl) (by decide) fr19 dX0_worn_37 ?_
      have f21 : InL (max 0 r19) := nr_mxRL (by decide) fr19
      have f22 := h.1; replace h := h.2
      refine nr_l2i hx hb dX0_worn_40 ?_
      rw [← hQ]; exact s_iret (K := K) hx hb hr hlocks hI f22 h dX0_worn_41
    · replace h := h.1 c9
      refine nr_iconst hx hb dX0_worn_16 ?_
      rw [← hQ]; exact s_iret (K := K) hx hb hr hlocks hI (by decide) h dX0_worn_17
theorem gPX0_246 {p : Program} {l : Launch} {e : Env} {R : Room} {s : State} {m : MethodId} {args : Array Value} {below : List Frame} {meth : Method} {c : Code} {H : Heap} {locs : List Loc} {Q : State → Prop} {cc : ByteArray} {nL pc : Nat} {ls : Array Slot} {rest : List Value} {cells slots : Nat} {w : Wd} {D : va_G} {dA : Nat → ClassId} {ad : Nat → Nat} {A : Nat → Prop} {H0 : Heap} {S : St} {q : Nat} {fs : List PV} {v : Option Nat} (hF : CallFix p m c cc nL s args lw_all RX0) (hK : gK D dA s) (hI : sI D dA w ad A H0 S H locs) (hg : gI S q = some (.inr (.inl (4, fs)))) (hv : fs[1]? = some (.inr (.inr v))) (hdg : decode cc pc = .ok (.getfield 246, 3)) (kk : W p l e R s m args below meth c H locs cells slots Q (F0 m (pc + 3) ls (va_rf v :: rest))) : W p l e R s m args below meth c H locs cells slots Q (F0 m (pc) ls (.ref q :: rest)) := s_pgrN hF.1 hF.2.1 hF.2.2.2.2 hF.2.2.2.1 hK hI hg rfl in_X4 1 (by decide) (nFl_8 hK.2) rfl hv hdg kk
theorem iPX0_250 {p : Program} {l : Launch} {e : Env} {R : Room} {s : State} {m : MethodId} {args : Array Value} {below : List Frame} {meth : Method} {c : Code} {H : Heap} {locs : List Loc} {Q : State → Prop} {cc : ByteArray} {nL pc : Nat} {ls : Array Slot} {rest : List Value} {cells slots : Nat} {D : va_G} {dA : Nat → ClassId} {ad : Nat → Nat} {A : Nat → Prop} {H0 : Heap} {S : St} {dk dd q : Nat} {K : Int → Prop} (hM : IsM l D dA ad dd S H.size q K) (hF : CallFix p m c cc nL s args lw_all RX0) (hK : gK D dA s) (hI : sI D dA wX ad A H0 S H locs) (hls : ls.size = nL) (hR : R.frames = dk + 1 ∧ R.locals = 64 * dk + 64) (hd : dd + 1 ≤ dk) (hW : (rest.map fun v => v.category).sum ≤ 8) (hf : cells ≤ R.cells ∧ slots ≤ R.slots) (hdg : decode cc pc = .ok (.invokeinterface 250 2, 5)) (kk : ∀ (r : Int) (H1 : Heap) (locs1 : List Loc), (r = 0 ∨ r = 1) → K r → sI D dA wX ad A H0 S H1 locs1 → W p l e R s m args below meth c H1 locs1 cells slots Q (F0 m (pc + 5) ls (iV r :: rest))) : W p l e R s m args below meth c H locs cells slots Q (F0 m (pc) ls (.ref (ad 9) :: .ref q :: rest)) := by
  rcases hM with ⟨⟨fs, hg⟩, hM⟩ | ⟨⟨fs, hg⟩, hM⟩ | ⟨⟨fs, hg⟩, hM⟩
  · exact s_callFz (x := (⟨"NineGraves$Asked", "is", "([I)Z"⟩ : MethodName)) (As := [.ref (ad 9)]) (rest := rest) (K := fun r S' => S' = S ∧ K r) (hK.1.1 11 _ rfl).2 hF hM (s_recvP hK hI hg rfl) (va_cwF 1 hF.2.2.2.2 (lw_F q994 q1009 q1011 q134 q1013) rfl rfl rfl (nFw_4 hK.2) (by decide +kernel) ⟨by have h1 := hR.1; have h2 : (rmD dd 0 0).frames = dd + 1 := rfl; omega, by have h1 := hR.2; have h2 : (rmD dd 0 0).locals = 64 * dd + 64 := rfl; omega⟩) hK hI rfl hls rfl hW hdg hf (fun r S1 H1 locs1 f hk hI1 => by obtain ⟨rfl, hk⟩ := hk; exact kk r H1 locs1 f hk hI1)
  · exact s_callFz (x := (⟨"NineGraves$Asked", "is", "([I)Z"⟩ : MethodName)) (As := [.ref (ad 9)]) (rest := rest) (K := fun r S' => S' = S ∧ K r) (hK.1.1 10 _ rfl).2 hF hM (s_recvP hK hI hg rfl) (va_cwF 1 hF.2.2.2.2 (lw_F q994 q1017 q1019 q133 q1021) rfl rfl rfl (nFw_5 hK.2) (by decide +kernel) ⟨by have h1 := hR.1; have h2 : (rmD dd 0 0).frames = dd + 1 := rfl; omega, by have h1 := hR.2; have h2 : (rmD dd 0 0).locals = 64 * dd + 64 := rfl; omega⟩) hK hI rfl hls rfl hW hdg hf (fun r S1 H1 locs1 f hk hI1 => by obtain ⟨rfl, hk⟩ := hk; exact kk r H1 locs1 f hk hI1)
  · exact s_callFz (x := (⟨"NineGraves$Asked", "is", "([I)Z"⟩ : MethodName)) (As := [.ref (ad 9)]) (rest := rest) (K := fun r S' => S' = S ∧ K r) (hK.1.1 12 _ rfl).2 hF hM (s_recvP hK hI hg rfl) (va_cwF 1 hF.2.2.2.2 (lw_F q994 q998 q1000 q136 q1002) rfl rfl rfl (nFw_6 hK.2) (by decide +kernel) ⟨by have h1 := hR.1; have h2 : (rmD dd 0 0).frames = dd + 1 := rfl; omega, by have h1 := hR.2; have h2 : (rmD dd 0 0).locals = 64 * dd + 64 := rfl; omega⟩) hK hI rfl hls rfl hW hdg hf (fun r S1 H1 locs1 f hk hI1 => by obtain ⟨rfl, hk⟩ := hk; exact kk r H1 locs1 f hk hI1)
set_option maxHeartbeats 4000000 in
theorem t_X_isHoly (l : Launch) (D : va_G) (dA : Nat → ClassId) (ad : Nat → Nat) (S : St) (sz : Nat) (x1 : Int) (K : Int → St → Prop) (rx1 : InR x1) (h : w_X_isHoly x1 S K) : Met l yX0_isHoly (ws_ yX0_isHoly cX0_isHoly 3 (Option.some Jvm.ClassFile.FieldType.boolean)) (rmD 116 0 0) (va_Pc [.ref (ad 129), iV x1] (sPre D dA wX ad S sz)) (va_Qi (fun r S' => (r.toInt = 0 ∨ r.toInt = 1) ∧ (K r.toInt S')) (sPost D dA wX ad (wA wX ad S sz)) (wA wX ad S sz)) 0 0 (wA wX ad S sz) := by
  refine Met.ofW (cc := cX0_isHoly) (maxL := 3) (ret := (Option.some Jvm.ClassFile.FieldType.boolean)) (by decide) rfl ?_
  intro p e s m args below meth c s₁ B hml hv
  obtain ⟨rfl, hsz, hK, hC⟩ := hv
  have hx := B.exec
  have hb := B.bytes
  have hr := B.returns
  have hlocks := B.notSynchronized
  have hts := atoms_spec (ws := (ws_ yX0_isHoly cX0_isHoly 3 (Option.some Jvm.ClassFile.FieldType.boolean))) B.pre
  have hts : ∀ w ∈ lw_all, w.before _ s = true := fun w h => hts w (List.mem_cons_of_mem _ h)
  have hown : s.vm.findClass RX0 = some m.cls := findClass_of_methodNamed B.named
  clear B
  subst hsz
  have hI : sI D dA wX ad (wA wX ad S s.heap.size) s.heap S s.heap [] := hC.start
  clear hC
  generalize wA wX ad S s.heap.size = A at hI ⊢
  have hl := lv_entry ([.ref (ad 129), iV x1] : List Value) (n := 3) (Nat.le_of_ble_eq_true rfl)
  rw [lg_entry_eq]
  generalize (lg_sl ([.ref (ad 129), iV x1] : List Value) ++ List.replicate (3 - (lg_sl ([.ref (ad 129), iV x1] : List Value)).length) Slot.unset).toArray = ls at hl ⊢
  have hl : lv_has ls 3 [(0, .ref (ad 129)), (1, iV x1)] := hl
  have hF : CallFix p m c cX0_isHoly 3 s _ lw_all RX0 := ⟨hx, hb, hml, hown, hts⟩
  have hR : (headSpec (ws_ yX0_isHoly cX0_isHoly 3 (Option.some Jvm.ClassFile.FieldType.boolean)) (rmD 116 0 0)).room.frames = 116 + 1 ∧ (headSpec (ws_ yX0_isHoly cX0_isHoly 3 (Option.some Jvm.ClassFile.FieldType.boolean)) (rmD 116 0 0)).room.locals = 64 * 116 + 64 := ⟨rfl, rfl⟩
  generalize (headSpec (ws_ yX0_isHoly cX0_isHoly 3 (Option.some Jvm.ClassFile.FieldType.boolean)) (rmD 116 0 0)).room = R at hR ⊢
  generalize ([.ref (ad 129), iV x1] : List Value).toArray = args at hts hF ⊢
  generalize hQ : MQ below _ _ _ _ _ _ = Q
  unfold w_X_isHoly at h
  refine lv_aload_n hx hb dX0_isHoly_0 rfl (lv_at hl 0 rfl) ?_
  refine cXX0_171 hF hK hI hl.1 hR (by decide) (Nat.le_of_ble_eq_true rfl) ⟨Nat.zero_le _, Nat.zero_le _⟩ h dX0_isHoly_1 (fun r1 H locs h hI => ?_)
  refine nr_astoreO_n (lv' := [(2, va_rf r1), (0, .ref (ad 129)), (1, iV x1)]) hx hb dX0_isHoly_4 rfl hl (by decide) rfl (fun ls hl => ?_)
  refine nr_aloadO_n hx hb dX0_isHoly_5 rfl (lv_at hl 0 rfl) ?_
  refine nr_ifnullO hx hb dX0_isHoly_6 (tgt := 16) (by decide) (fun c3 => ?_) (fun q4 c3 => ?_)
  · replace h := h.1 c3
    refine nr_iconst hx hb dX0_isHoly_16 ?_
    rw [← hQ]; exact s_zret (K := K) hx hb hr hlocks hI (by decide) h dX0_isHoly_17
  · replace h := h.2 q4 c3
    subst c3
    refine lv_aload_n hx hb dX0_isHoly_9 rfl (lv_at hl 0 rfl) ?_
    obtain ⟨fs5, v8, hg6, hv7, h⟩ := h
    refine gPX0_246 hF hK hI hg6 hv7 dX0_isHoly_10 ?_
    refine nr_ifnonnullO hx hb dX0_isHoly_13 (tgt := 18) (by decide) (fun q10 c9 => ?_) (fun c9 => ?_)
    · replace h := h.2 q10 c9
      subst c9
      refine lv_aload_n hx hb dX0_isHoly_18 rfl (lv_at hl 1 rfl) ?_
      refine lv_iload_n hx hb dX0_isHoly_19 rfl (lv_at hl 2 rfl) ?_
      refine cXX0_180 hF hK hI hl.1 hR (by decide) (Nat.le_of_ble_eq_true rfl) ⟨Nat.zero_le _, Nat.zero_le _⟩ rx1 h dX0_isHoly_20 (fun S12 H locs h hI => ?_)
      refine lv_aload_n hx hb dX0_isHoly_23 rfl (lv_at hl 0 rfl) ?_
      obtain ⟨fs13, v16, hg14, hv15, h⟩ := h
      refine gPX0_246 hF hK hI hg14 hv15 dX0_isHoly_24 ?_
      refine lv_aload_n hx hb dX0_isHoly_27 rfl (lv_at hl 1 rfl) ?_
      refine gXX0_30_129 hF hK hI dX0_isHoly_28 ?_
      obtain ⟨q17, e18, h⟩ := h
      rw [e18]
      show W p l e R s m args below meth c _ _ _ _ Q (F0 m _ ls [.ref (ad 9), .ref q17])
      obtain ⟨d20, hd20, h⟩ := h
      refine iPX0_250 (t_is l d20 D dA ad S12 _ _ _ h) hF hK hI hl.1 hR (by omega) (Nat.le_of_ble_eq_true rfl) ⟨Nat.zero_le _, Nat.zero_le _⟩ dX0_isHoly_31 (fun r19 H locs fr19 h hI => ?_)
      replace h := h fr19
      have gr19 : InR r19 := kdP_R (k := 2) (by decide) fr19
      rw [← hQ]; exact s_zret (K := K) hx hb hr hlocks hI fr19 h dX0_isHoly_36
    · replace h := h.1 c9
      refine nr_iconst hx hb dX0_isHoly_16 ?_
      rw [← hQ]; exact s_zret (K := K) hx hb hr hlocks hI (by decide) h dX0_isHoly_17
theorem gPX0_262 {p : Program} {l : Launch} {e : Env} {R : Room} {s : State} {m : MethodId} {args : Array Value} {below : List Frame} {meth : Method} {c : Code} {H : Heap} {locs : List Loc} {Q : State → Prop} {cc : ByteArray} {nL pc : Nat} {ls : Array Slot} {rest : List Value} {cells slots : Nat} {w : Wd} {D : va_G} {dA : Nat → ClassId} {ad : Nat → Nat} {A : Nat → Prop} {H0 : Heap} {S : St} {q : Nat} {fs : List PV} {v : Option Nat} (hF : CallFix p m c cc nL s args lw_all RX0) (hK : gK D dA s) (hI : sI D dA w ad A H0 S H locs) (hg : gI S q = some (.inr (.inl (4, fs)))) (hv : fs[3]? = some (.inr (.inr v))) (hdg : decode cc pc = .ok (.getfield 262, 3)) (kk : W p l e R s m args below meth c H locs cells slots Q (F0 m (pc + 3) ls (va_rf v :: rest))) : W p l e R s m args below meth c H locs cells slots Q (F0 m (pc) ls (.ref q :: rest)) := s_pgrN hF.1 hF.2.1 hF.2.2.2.2 hF.2.2.2.1 hK hI hg rfl in_X4 3 (by decide) (nFl_10 hK.2) rfl hv hdg kk
set_option maxHeartbeats 4000000 in
theorem t_X_manyOf (l : Launch) (D : va_G) (dA : Nat → ClassId) (ad : Nat → Nat) (S : St) (sz : Nat) (x1 : Int) (K : Int → Prop) (rx1 : InR x1) (h : w_X_manyOf x1 S K) : Met l yX0_manyOf (ws_ yX0_manyOf cX0_manyOf 3 (Option.some Jvm.ClassFile.FieldType.int)) (rmD 1 0 0) (va_Pc [.ref (ad 129), iV x1] (sPre D dA wX ad S sz)) (va_Qi (fun r S' => S' = S ∧ K r.toInt) (sPost D dA wX ad (wA wX ad S sz)) (wA wX ad S sz)) 0 0 (wA wX ad S sz) := by
  refine Met.ofW (cc := cX0_manyOf) (maxL := 3) (ret := (Option.some Jvm.ClassFile.FieldType.int)) (by decide) rfl ?_
  intro p e s m args below meth c s₁ B hml hv
  obtain ⟨rfl, hsz, hK, hC⟩ := hv
  have hx := B.exec
  have hb := B.bytes
  have hr := B.returns
  have hlocks := B.notSynchronized
  have hts := atoms_spec (ws := (ws_ yX0_manyOf cX0_manyOf 3 (Option.some Jvm.ClassFile.FieldType.int))) B.pre
  have hts : ∀ w ∈ lw_all, w.before _ s = true := fun w h => hts w (List.mem_cons_of_mem _ h)
  have hown : s.vm.findClass RX0 = some m.cls := findClass_of_methodNamed B.named
  clear B
  subst hsz
  have hI : sI D dA wX ad (wA wX ad S s.heap.size) s.heap S s.heap [] := hC.start
  clear hC
  generalize wA wX ad S s.heap.size = A at hI ⊢
  have hl := lv_entry ([.ref (ad 129), iV x1] : List Value) (n := 3) (Nat.le_of_ble_eq_true rfl)
  rw [lg_entry_eq]
  generalize (lg_sl ([.ref (ad 129), iV x1] : List Value) ++ List.replicate (3 - (lg_sl ([.ref (ad 129), iV x1] : List Value)).length) Slot.unset).toArray = ls at hl ⊢
  have hl : lv_has ls 3 [(0, .ref (ad 129)), (1, iV x1)] := hl
  have hF : CallFix p m c cX0_manyOf 3 s _ lw_all RX0 := ⟨hx, hb, hml, hown, hts⟩
  have hR : (headSpec (ws_ yX0_manyOf cX0_manyOf 3 (Option.some Jvm.ClassFile.FieldType.int)) (rmD 1 0 0)).room.frames = 1 + 1 ∧ (headSpec (ws_ yX0_manyOf cX0_manyOf 3 (Option.some Jvm.ClassFile.FieldType.int)) (rmD 1 0 0)).room.locals = 64 * 1 + 64 := ⟨rfl, rfl⟩
  generalize (headSpec (ws_ yX0_manyOf cX0_manyOf 3 (Option.some Jvm.ClassFile.FieldType.int)) (rmD 1 0 0)).room = R at hR ⊢
  generalize ([.ref (ad 129), iV x1] : List Value).toArray = args at hts hF ⊢
  generalize hQ : MQ below _ _ _ _ _ _ = Q
  unfold w_X_manyOf at h
  refine lv_aload_n hx hb dX0_manyOf_0 rfl (lv_at hl 0 rfl) ?_
  refine cXX0_171 hF hK hI hl.1 hR (by decide) (Nat.le_of_ble_eq_true rfl) ⟨Nat.zero_le _, Nat.zero_le _⟩ h dX0_manyOf_1 (fun r1 H locs h hI => ?_)
  refine nr_astoreO_n (lv' := [(2, va_rf r1), (0, .ref (ad 129)), (1, iV x1)]) hx hb dX0_manyOf_4 rfl hl (by decide) rfl (fun ls hl => ?_)
  refine nr_aloadO_n hx hb dX0_manyOf_5 rfl (lv_at hl 0 rfl) ?_
  refine nr_ifnullO hx hb dX0_manyOf_6 (tgt := 18) (by decide) (fun c3 => ?_) (fun q4 c3 => ?_)
  · replace h := h.1 c3
    refine nr_iconst hx hb dX0_manyOf_18 ?_
    refine lv_goto (tgt := 28) hx hb dX0_manyOf_19 (by decide) ?_
    rw [← hQ]; exact s_iret (K := fun r S' => S' = S ∧ K r) hx hb hr hlocks hI (by decide) ⟨rfl, h⟩ dX0_manyOf_28
  · replace h := h.2 q4 c3
    subst c3
    refine lv_aload_n hx hb dX0_manyOf_9 rfl (lv_at hl 0 rfl) ?_
    obtain ⟨fs5, v8, hg6, hv7, h⟩ := h
    refine gPX0_262 (v := some v8) hF hK hI hg6 hv7 dX0_manyOf_10 ?_
    show W p l e R s m args below meth c _ _ _ _ Q (F0 m _ ls [.ref v8])
    refine lv_iload_n hx hb dX0_manyOf_13 rfl (lv_at hl 2 rfl) ?_
    obtain ⟨pn9, pf10, hp11, h⟩ := h
    have f12 := h.1; replace h := h.2
    refine s_pald hx hb hK hI hp11 rx1 f12 dX0_manyOf_14 (fun f13 => ?_)
    replace h := h f13
    refine nr_if_ne hx hb f13 dX0_manyOf_15 (tgt := 22) (by decide) (fun c14 => ?_) (fun c14 => ?_)
    · replace h := h.1 c14
      refine lv_aload_n hx hb dX0_manyOf_22 rfl (lv_at hl 0 rfl) ?_
      obtain ⟨fs15, v18, hg16, hv17, h⟩ := h
      refine gPX0_262 (v := some v18) hF hK hI hg16 hv17 dX0_manyOf_23 ?_
      show W p l e R s m args below meth c _ _ _ _ Q (F0 m _ ls [.ref v18])
      refine lv_iload_n hx hb dX0_manyOf_26 rfl (lv_at hl 2 rfl) ?_
      obtain ⟨pn19, pf20, hp21, h⟩ := h
      have f22 := h.1; replace h := h.2
      refine s_pald hx hb hK hI hp21 rx1 f22 dX0_manyOf_27 (fun f23 => ?_)
      replace h := h f23
      rw [← hQ]; exact s_iret (K := fun r S' => S' = S ∧ K r) hx hb hr hlocks hI f23 ⟨rfl, h⟩ dX0_manyOf_28
    · replace h := h.2 c14
      refine nr_iconst hx hb dX0_manyOf_18 ?_
      refine lv_goto (tgt := 28) hx hb dX0_manyOf_19 (by decide) ?_
      rw [← hQ]; exact s_iret (K := fun r S' => S' = S ∧ K r) hx hb hr hlocks hI (by decide) ⟨rfl, h⟩ dX0_manyOf_28
theorem gPX0_259 {p : Program} {l : Launch} {e : Env} {R : Room} {s : State} {m : MethodId} {args : Array Value} {below : List Frame} {meth : Method} {c : Code} {H : Heap} {locs : List Loc} {Q : State → Prop} {cc : ByteArray} {nL pc : Nat} {ls : Array Slot} {rest : List Value} {cells slots : Nat} {w : Wd} {D : va_G} {dA : Nat → ClassId} {ad : Nat → Nat} {A : Nat → Prop} {H0 : Heap} {S : St} {q : Nat} {fs : List PV} {v : Option Nat} (hF : CallFix p m c cc nL s args lw_all RX0) (hK : gK D dA s) (hI : sI D dA w ad A H0 S H locs) (hg : gI S q = some (.inr (.inl (4, fs)))) (hv : fs[2]? = some (.inr (.inr v))) (hdg : decode cc pc = .ok (.getfield 259, 3)) (kk : W p l e R s m args below meth c H locs cells slots Q (F0 m (pc + 3) ls (va_rf v :: rest))) : W p l e R s m args below meth c H locs cells slots Q (F0 m (pc) ls (.ref q :: rest)) := s_pgrN hF.1 hF.2.1 hF.2.2.2.2 hF.2.2.2.1 hK hI hg rfl in_X4 2 (by decide) (nFl_9 hK.2) rfl hv hdg kk
set_option maxHeartbeats 4000000 in
theorem t_X_areUnlike (l : Launch) (D : va_G) (dA : Nat → ClassId) (ad : Nat → Nat) (S : St) (sz : Nat) (x1 : Int) (x2 : Int) (K : Int → St → Prop) (rx1 : InR x1) (rx2 : InR x2) (h : w_X_areUnlike x1 x2 S K) : Met l yX0_areUnlike (ws_ yX0_areUnlike cX0_areUnlike 4 (Option.some Jvm.ClassFile.FieldType.boolean)) (rmD 116 0 0) (va_Pc [.ref (ad 129), iV x1, iV x2] (sPre D dA wX ad S sz)) (va_Qi (fun r S' => (r.toInt = 0 ∨ r.toInt = 1) ∧ (K r.toInt S')) (sPost D dA wX ad (wA wX ad S sz)) (wA wX ad S sz)) 0 0 (wA wX ad S sz) := by
  refine Met.ofW (cc := cX0_areUnlike) (maxL := 4) (ret := (Option.some Jvm.ClassFile.FieldType.boolean)) (by decide) rfl ?_
  intro p e s m args below meth c s₁ B hml hv
  obtain ⟨rfl, hsz, hK, hC⟩ := hv
  have hx := B.exec
  have hb := B.bytes
  have hr := B.returns
  have hlocks := B.notSynchronized
  have hts := atoms_spec (ws := (ws_ yX0_areUnlike cX0_areUnlike 4 (Option.some Jvm.ClassFile.FieldType.boolean))) B.pre
  have hts : ∀ w ∈ lw_all, w.before _ s = true := fun w h => hts w (List.mem_cons_of_mem _ h)
  have hown : s.vm.findClass RX0 = some m.cls := findClass_of_methodNamed B.named
  clear B
  subst hsz
  have hI : sI D dA wX ad (wA wX ad S s.heap.size) s.heap S s.heap [] := hC.start
  clear hC
  generalize wA wX ad S s.heap.size = A at hI ⊢
  have hl := lv_entry ([.ref (ad 129), iV x1, iV x2] : List Value) (n := 4) (Nat.le_of_ble_eq_true rfl)
  rw [lg_entry_eq]
  generalize (lg_sl ([.ref (ad 129), iV x1, iV x2] : List Value) ++ List.replicate (4 - (lg_sl ([.ref (ad 129), iV x1, iV x2] : List Value)).length) Slot.unset).toArray = ls at hl ⊢
  have hl : lv_has ls 4 [(0, .ref (ad 129)), (1, iV x1), (2, iV x2)] := hl
  have hF : CallFix p m c cX0_areUnlike 4 s _ lw_all RX0 := ⟨hx, hb, hml, hown, hts⟩
  have hR : (headSpec (ws_ yX0_areUnlike cX0_areUnlike 4 (Option.some Jvm.ClassFile.FieldType.boolean)) (rmD 116 0 0)).room.frames = 116 + 1 ∧ (headSpec (ws_ yX0_areUnlike cX0_areUnlike 4 (Option.some Jvm.ClassFile.FieldType.boolean)) (rmD 116 0 0)).room.locals = 64 * 116 + 64 := ⟨rfl, rfl⟩
  generalize (headSpec (ws_ yX0_areUnlike cX0_areUnlike 4 (Option.some Jvm.ClassFile.FieldType.boolean)) (rmD 116 0 0)).room = R at hR ⊢
  generalize ([.ref (ad 129), iV x1, iV x2] : List Value).toArray = args at hts hF ⊢
  generalize hQ : MQ below _ _ _ _ _ _ = Q
  unfold w_X_areUnlike at h
  refine lv_aload_n hx hb dX0_areUnlike_0 rfl (lv_at hl 0 rfl) ?_
  refine cXX0_171 hF hK hI hl.1 hR (by decide) (Nat.le_of_ble_eq_true rfl) ⟨Nat.zero_le _, Nat.zero_le _⟩ h dX0_areUnlike_1 (fun r1 H locs h hI => ?_)
  refine nr_astoreO_n (lv' := [(3, va_rf r1), (0, .ref (ad 129)), (1, iV x1), (2, iV x2)]) hx hb dX0_areUnlike_4 rfl hl (by decide) rfl (fun ls hl => ?_)
  refine nr_aloadO_n hx hb dX0_areUnlike_5 rfl (lv_at hl 0 rfl) ?_
  refine nr_ifnullO hx hb dX0_areUnlike_6 (tgt := 16) (by decide) (fun c3 => ?_) (fun q4 c3 => ?_)
  · replace h := h.1 c3
    refine nr_iconst hx hb dX0_areUnlike_16 ?_
    rw [← hQ]; exact s_zret (K := K) hx hb hr hlocks hI (by decide) h dX0_areUnlike_17
  · replace h := h.2 q4 c3
    subst c3
    refine lv_aload_n hx hb dX0_areUnlike_9 rfl (lv_at hl 0 rfl) ?_
    obtain ⟨fs5, v8, hg6, hv7, h⟩ := h
    refine gPX0_259 hF hK hI hg6 hv7 dX0_areUnlike_10 ?_
    refine nr_ifnonnullO hx hb dX0_areUnlike_13 (tgt := 18) (by decide) (fun q10 c9 => ?_) (fun c9 => ?_)
    · replace h := h.2 q10 c9
      subst c9
      refine lv_aload_n hx hb dX0_areUnlike_18 rfl (lv_at hl 1 rfl) ?_
      refine lv_iload_n hx hb dX0_areUnlike_19 rfl (lv_at hl 2 rfl) ?_
      refine cXX0_180 hF hK hI hl.1 hR (by decide) (Nat.le_of_ble_eq_true rfl) ⟨Nat.zero_le _, Nat.zero_le _⟩ rx1 h dX0_areUnlike_20 (fun S12 H locs h hI => ?_)
      refine lv_aload_n hx hb dX0_areUnlike_23 rfl (lv_at hl 1 rfl) ?_
      refine gXX0_30_129 hF hK hI dX0_areUnlike_24 ?_
      refine nr_iconst hx hb dX0_areUnlike_27 ?_
      refine lv_aload_n hx hb dX0_areUnlike_28 rfl (lv_at hl 1 rfl) ?_
      refine lv_iload_n hx hb dX0_areUnlike_29 rfl (lv_at hl 3 rfl) ?_
      refine nr_iconst hx hb dX0_areUnlike_30 ?_
      refine cXX0_149 hF hK hI hl.1 hR (by decide) (Nat.le_of_ble_eq_true rfl) ⟨Nat.zero_le _, Nat.zero_le _⟩ rx2 (by decide) h dX0_areUnlike_31 (fun r13 H locs fr13 h hI => ?_)
      replace h := h fr13
      refine s_iast hx hb hK hI 9 (by decide) wX_9 (by decide) (by decide) fr13 dX0_areUnlike_34 (fun S15 H locs eS15 hI => ?_)
      replace h := h S15 eS15
      refine lv_aload_n hx hb dX0_areUnlike_35 rfl (lv_at hl 1 rfl) ?_
      refine gXX0_30_129 hF hK hI dX0_areUnlike_36 ?_
      refine nr_bipush hx hb dX0_areUnlike_39 (by decide) ?_
      refine lv_aload_n hx hb dX0_areUnlike_41 rfl (lv_at hl 1 rfl) ?_
      refine lv_iload_n hx hb dX0_areUnlike_42 rfl (lv_at hl 3 rfl) ?_
      refine nr_iconst hx hb dX0_areUnlike_43 ?_
      refine cXX0_149 hF hK hI hl.1 hR (by decide) (Nat.le_of_ble_eq_true rfl) ⟨Nat.zero_le _, Nat.zero_le _⟩ rx2 (by decide) h dX0_areUnlike_44 (fun r16 H locs fr16 h hI => ?_)
      replace h := h fr16
      refine s_iast hx hb hK hI 9 (by decide) wX_9 (by decide) (by decide) fr16 dX0_areUnlike_47 (fun S18 H locs eS18 hI => ?_)
      replace h := h S18 eS18
      refine lv_aload_n hx hb dX0_areUnlike_48 rfl (lv_at hl 1 rfl) ?_
      refine gXX0_30_129 hF hK hI dX0_areUnlike_49 ?_
      refine nr_bipush hx hb dX0_areUnlike_52 (by decide) ?_
      refine lv_aload_n hx hb dX0_areUnlike_54 rfl (lv_at hl 1 rfl) ?_
      refine lv_iload_n hx hb dX0_areUnlike_55 rfl (lv_at hl 3 rfl) ?_
      refine nr_iconst hx hb dX0_areUnlike_56 ?_
      refine cXX0_149 hF hK hI hl.1 hR (by decide) (Nat.le_of_ble_eq_true rfl) ⟨Nat.zero_le _, Nat.zero_le _⟩ rx2 (by decide) h dX0_areUnlike_57 (fun r19 H locs fr19 h hI => ?_)
      replace h := h fr19
      refine s_iast hx hb hK hI 9 (by decide) wX_9 (by decide) (by decide) fr19 dX0_areUnlike_60 (fun S21 H locs eS21 hI => ?_)
      replace h := h S21 eS21
      refine lv_aload_n hx hb dX0_areUnlike_61 rfl (lv_at hl 0 rfl) ?_
      obtain ⟨fs22, v25, hg23, hv24, h⟩ := h
      refine gPX0_259 hF hK hI hg23 hv24 dX0_areUnlike_62 ?_
      refine lv_aload_n hx hb dX0_areUnlike_65 rfl (lv_at hl 1 rfl) ?_
      refine gXX0_30_129 hF hK hI dX0_areUnlike_66 ?_
      obtain ⟨q26, e27, h⟩ := h
      rw [e27]
      show W p l e R s m args below meth c _ _ _ _ Q (F0 m _ ls [.ref (ad 9), .ref q26])
      obtain ⟨d29, hd29, h⟩ := h
      refine iPX0_250 (t_is l d29 D dA ad S21 _ _ _ h) hF hK hI hl.1 hR (by omega) (Nat.le_of_ble_eq_true rfl) ⟨Nat.zero_le _, Nat.zero_le _⟩ dX0_areUnlike_69 (fun r28 H locs fr28 h hI => ?_)
      replace h := h fr28
      have gr28 : InR r28 := kdP_R (k := 2) (by decide) fr28
      rw [← hQ]; exact s_zret (K := K) hx hb hr hlocks hI fr28 h dX0_areUnlike_74
    · replace h := h.1 c9
      refine nr_iconst hx hb dX0_areUnlike_16 ?_
      rw [← hQ]; exact s_zret (K := K) hx hb hr hlocks hI (by decide) h dX0_areUnlike_17
theorem cXX0_192 {p : Program} {l : Launch} {e : Env} {R : Room} {s : State} {m : MethodId} {args : Array Value} {below : List Frame} {meth : Method} {c : Code} {H : Heap} {locs : List Loc} {Q : State → Prop} {cc : ByteArray} {nL pc : Nat} {ls : Array Slot} {rest : List Value} {cells slots : Nat} {D : va_G} {dA : Nat → ClassId} {ad : Nat → Nat} {A : Nat → Prop} {H0 : Heap} {S : St} {dk : Nat} (hF : CallFix p m c cc nL s args lw_all RX0) (hK : gK D dA s) (hI : sI D dA wX ad A H0 S H locs) (hls : ls.size = nL) (hR : R.frames = dk + 1 ∧ R.locals = 64 * dk + 64) (hd : 74 + 1 ≤ dk) (hW : (rest.map fun v => v.category).sum ≤ 8) (hf : cells ≤ R.cells ∧ slots ≤ R.slots) {x1 : Int} {K : Int → St → Prop} (r1 : InR x1) (h : w_X_worn x1 S K) (hdg : decode cc pc = .ok (.invokevirtual 192, 3)) (kk : ∀ (r : Int) (S1 : St) (H1 : Heap) (locs1 : List Loc), InR r → K r S1 → sI D dA wX ad A H0 S1 H1 locs1 → W p l e R s m args below meth c H1 locs1 cells slots Q (F0 m (pc + 3) ls (iV r :: rest))) : W p l e R s m args below meth c H locs cells slots Q (F0 m (pc) ls (iV x1 :: .ref (ad 129) :: rest)) := s_callVi (As := [iV x1]) (rest := rest) (K := K) hF (t_X_worn l D dA ad S H.size x1 K r1 h) (s_recv hK hI 129 (by decide) wX_129 rfl) (cwV 1 hF.2.2.2.2 (lw_V q879 q881 qs29 q106 q882) rfl rfl rfl (by decide +kernel) ⟨by have h1 := hR.1; have h2 : (rmD 74 0 0).frames = 74 + 1 := rfl; omega, by have h1 := hR.2; have h2 : (rmD 74 0 0).locals = 64 * 74 + 64 := rfl; omega⟩) hK hI rfl hls rfl hW hdg hf kk
set_option maxHeartbeats 4000000 in
theorem t_X_pass (l : Launch) (D : va_G) (dA : Nat → ClassId) (ad : Nat → Nat) (S : St) (sz : Nat) (x1 : Int) (K : Int → St → Prop) (rx1 : InR x1) (h : w_X_pass x1 S K) : Met l yX0_pass (ws_ yX0_pass cX0_pass 4 (Option.some Jvm.ClassFile.FieldType.int)) (rmD 75 0 0) (va_Pc [.ref (ad 129), iV x1] (sPre D dA wX ad S sz)) (va_Qi (fun r S' => K r.toInt S') (sPost D dA wX ad (wA wX ad S sz)) (wA wX ad S sz)) 0 0 (wA wX ad S sz) := by
  refine Met.ofW (cc := cX0_pass) (maxL := 4) (ret := (Option.some Jvm.ClassFile.FieldType.int)) (by decide) rfl ?_
  intro p e s m args below meth c s₁ B hml hv
  obtain ⟨rfl, hsz, hK, hC⟩ := hv
  have hx := B.exec
  have hb := B.bytes
  have hr := B.returns
  have hlocks := B.notSynchronized
  have hts := atoms_spec (ws := (ws_ yX0_pass cX0_pass 4 (Option.some Jvm.ClassFile.FieldType.int))) B.pre
  have hts : ∀ w ∈ lw_all, w.before _ s = true := fun w h => hts w (List.mem_cons_of_mem _ h)
  have hown : s.vm.findClass RX0 = some m.cls := findClass_of_methodNamed B.named
  clear B
  subst hsz
  have hI : sI D dA wX ad (wA wX ad S s.heap.size) s.heap S s.heap [] := hC.start
  clear hC
  generalize wA wX ad S s.heap.size = A at hI ⊢
  have hl := lv_entry ([.ref (ad 129), iV x1] : List Value) (n := 4) (Nat.le_of_ble_eq_true rfl)
  rw [lg_entry_eq]
  generalize (lg_sl ([.ref (ad 129), iV x1] : List Value) ++ List.replicate (4 - (lg_sl ([.ref (ad 129), iV x1] : List Value)).length) Slot.unset).toArray = ls at hl ⊢
  have hl : lv_has ls 4 [(0, .ref (ad 129)), (1, iV x1)] := hl
  have hF : CallFix p m c cX0_pass 4 s _ lw_all RX0 := ⟨hx, hb, hml, hown, hts⟩
  have hR : (headSpec (ws_ yX0_pass cX0_pass 4 (Option.some Jvm.ClassFile.FieldType.int)) (rmD 75 0 0)).room.frames = 75 + 1 ∧ (headSpec (ws_ yX0_pass cX0_pass 4 (Option.some Jvm.ClassFile.FieldType.int)) (rmD 75 0 0)).room.locals = 64 * 75 + 64 := ⟨rfl, rfl⟩
  generalize (headSpec (ws_ yX0_pass cX0_pass 4 (Option.some Jvm.ClassFile.FieldType.int)) (rmD 75 0 0)).room = R at hR ⊢
  generalize ([.ref (ad 129), iV x1] : List Value).toArray = args at hts hF ⊢
  generalize hQ : MQ below _ _ _ _ _ _ = Q
  have L33 : ∀ (x1 : Int), InR x1 → ∀ (n33 : Nat) (x2 : Int) (S : St) (H : Heap) (locs : List Loc) (ls : Array Slot), InR x2 → sI D dA wX ad A s.heap S H locs → lv_has ls 4 [(0, .ref (ad 129)), (1, iV x1), (2, iV x2)] → l_X_pass_33 x1 K n33 x2 S → W p l e R s m args below meth c H locs 0 0 Q (F0 m 33 ls []) := by
    intro x1 rx1 n33
    induction n33 with
    | zero => intro x2 S H locs ls rx2 hI hl h; exact False.elim h
    | succ n33 ih33 =>
      intro x2 S H locs ls rx2 hI hl h
      have J130 : ∀ (x2 : Int) (S : St) (H : Heap) (locs : List Loc) (ls : Array Slot), InR x2 → sI D dA wX ad A s.heap S H locs → lv_has ls 4 [(0, .ref (ad 129)), (1, iV x1), (2, iV x2)] → j_X_pass_130 x1 x2 S K (l_X_pass_33 x1 K n33) → W p l e R s m args below meth c H locs 0 0 Q (F0 m 130 ls []) := by
        intro x2 S H locs ls rx2 hI hl h
        unfold j_X_pass_130 at h
        have f1 := h.1; replace h := h.2
        refine nr_iinc (lv' := [(2, iV (x2 + 1)), (0, .ref (ad 129)), (1, iV x1)]) hx hb dX0_pass_130 hl (k := 2) rfl (by decide) rfl (fun ls hl => ?_)
        refine lv_goto (tgt := 33) hx hb dX0_pass_133 (by decide) ?_
        exact ih33 (x2 + 1) S _ _ _ f1 hI (lv_sub hl [1, 2, 0] rfl) h
      have L54 : ∀ (x2 : Int), InR x2 → ∀ (n54 : Nat) (x3 : Int) (S : St) (H : Heap) (locs : List Loc) (ls : Array Slot), InR x3 → sI D dA wX ad A s.heap S H locs → lv_has ls 4 [(0, .ref (ad 129)), (1, iV x1), (2, iV x2), (3, iV x3)] → l_X_pass_54 x1 x2 K (fun (zS : St) => j_X_pass_130 x1 x2 zS K (l_X_pass_33 x1 K n33)) n54 x3 S → W p l e R s m args below meth c H locs 0 0 Q (F0 m 54 ls []) := by
        intro x2 rx2 n54
        induction n54 with
        | zero => intro x3 S H locs ls rx3 hI hl h; exact False.elim h
        | succ n54 ih54 =>
          intro x3 S H locs ls rx3 hI hl h
          have J124 : ∀ (x3 : Int) (S : St) (H : Heap) (locs : List Loc) (ls : Array Slot), InR x3 → sI D dA wX ad A s.heap S H locs → lv_has ls 4 [(0, .ref (ad 129)), (1, iV x1), (2, iV x2), (3, iV x3)] → j_X_pass_124 x1 x2 x3 S K (fun (zS : St) => j_X_pass_130 x1 x2 zS K (l_X_pass_33 x1 K n33)) (l_X_pass_54 x1 x2 K (fun (zS : St) => j_X_pass_130 x1 x2 zS K (l_X_pass_33 x1 K n33)) n54) → W p l e R s m args below meth c H locs 0 0 Q (F0 m 124 ls []) := by
            intro x3 S H locs ls rx3 hI hl h
            unfold j_X_pass_124 at h
            have f2 := h.1; replace h := h.2
            refine nr_iinc (lv' := [(3, iV (x3 + 1)), (0, .ref (ad 129)), (1, iV x1), (2, iV x2)]) hx hb dX0_pass_124 hl (k := 3) rfl (by decide) rfl (fun ls hl => ?_)
            refine lv_goto (tgt := 54) hx hb dX0_pass_127 (by decide) ?_
            exact ih54 (x3 + 1) S _ _ _ f2 hI (lv_sub hl [1, 2, 3, 0] rfl) h
          unfold l_X_pass_54 at h
          refine lv_iload_n hx hb dX0_pass_54 rfl (lv_at hl 3 rfl) ?_
          refine lv_aload_n hx hb dX0_pass_55 rfl (lv_at hl 0 rfl) ?_
          refine gXX0_12_129 hF hK hI dX0_pass_56 ?_
          refine gXX0_71_130 hF hK hI dX0_pass_59 ?_
          refine nr_iconst hx hb dX0_pass_62 ?_
          refine s_iald hx hb hK hI 0 (by decide) wX_0 (by decide) (by decide) dX0_pass_63 (fun f3 => ?_)
          replace h := h f3
          refine nr_icmp_ge hx hb rx3 f3 dX0_pass_64 (tgt := 130) (by decide) (fun c4 => ?_) (fun c4 => ?_)
          · replace h := h.1 c4
            exact J130 x2 S _ _ _ rx2 hI (lv_sub hl [0, 1, 2] rfl) h
          · replace h := h.2 c4
            refine lv_aload_n hx hb dX0_pass_67 rfl (lv_at hl 0 rfl) ?_
            refine lv_iload_n hx hb dX0_pass_68 rfl (lv_at hl 3 rfl) ?_
            refine nr_iconst hx hb dX0_pass_69 ?_
            refine nr_iconst hx hb dX0_pass_70 ?_
            refine lv_aload_n hx hb dX0_pass_71 rfl (lv_at hl 0 rfl) ?_
            refine lv_iload_n hx hb dX0_pass_72 rfl (lv_at hl 3 rfl) ?_
            refine nr_iconst hx hb dX0_pass_73 ?_
            refine cXX0_149 hF hK hI hl.1 hR (by decide) (Nat.le_of_ble_eq_true rfl) ⟨Nat.zero_le _, Nat.zero_le _⟩ rx3 (by decide) h dX0_pass_74 (fun r5 H locs fr5 h hI => ?_)
            replace h := h fr5
            refine lv_aload_n hx hb dX0_pass_77 rfl (lv_at hl 0 rfl) ?_
            refine lv_iload_n hx hb dX0_pass_78 rfl (lv_at hl 3 rfl) ?_
            refine cXX0_192 hF hK hI hl.1 hR (by decide) (Nat.le_of_ble_eq_true rfl) ⟨Nat.zero_le _, Nat.zero_le _⟩ rx3 h dX0_pass_79 (fun r7 S8 H locs fr7 h hI => ?_)
            replace h := h fr7
            have f9 := h.1; replace h := h.2
            refine nr_isub hx hb dX0_pass_82 ?_
            refine s_max hx hb (hl.1.trans hml.symm) hown hts q944 q677 q119 q678 (by have h1 := hR.1; have h2 := hR.2; omega) ⟨Nat.zero_le _, Nat.zero_le _⟩ (Nat.le_of_ble_eq_true rfl) (by decide) f9 dX0_pass_83 ?_
            have f10 : InR (max 1 (r5 - r7)) := nr_mxR (by decide) f9
            refine cXX0_97 hF hK hI hl.1 hR (by decide) (Nat.le_of_ble_eq_true rfl) ⟨Nat.zero_le _, Nat.zero_le _⟩ rx3 (by decide) f10 h dX0_pass_86 (fun S12 H locs h hI => ?_)
            refine lv_aload_n hx hb dX0_pass_89 rfl (lv_at hl 0 rfl) ?_
            refine lv_iload_n hx hb dX0_pass_90 rfl (lv_at hl 3 rfl) ?_
            refine nr_iconst hx hb dX0_pass_91 ?_
            refine cXX0_149 hF hK hI hl.1 hR (by decide) (Nat.le_of_ble_eq_true rfl) ⟨Nat.zero_le _, Nat.zero_le _⟩ rx3 (by decide) h dX0_pass_92 (fun r13 H locs fr13 h hI => ?_)
            replace h := h fr13
            refine lv_aload_n hx hb dX0_pass_95 rfl (lv_at hl 0 rfl) ?_
            refine cXX0_156 hF hK hI hl.1 hR (by decide) (Nat.le_of_ble_eq_true rfl) ⟨Nat.zero_le _, Nat.zero_le _⟩ h dX0_pass_96 (fun r15 H locs fr15 h hI => ?_)
            replace h := h fr15
            refine nr_icmp_eq hx hb fr13 fr15 dX0_pass_99 (tgt := 105) (by decide) (fun c17 => ?_) (fun c17 => ?_)
            · replace h := h.1 c17
              refine lv_aload_n hx hb dX0_pass_105 rfl (lv_at hl 0 rfl) ?_
              refine lv_iload_n hx hb dX0_pass_106 rfl (lv_at hl 3 rfl) ?_
              refine nr_iconst hx hb dX0_pass_107 ?_
              refine lv_aload_n hx hb dX0_pass_108 rfl (lv_at hl 0 rfl) ?_
              refine lv_iload_n hx hb dX0_pass_109 rfl (lv_at hl 3 rfl) ?_
              refine nr_iconst hx hb dX0_pass_110 ?_
              refine cXX0_149 hF hK hI hl.1 hR (by decide) (Nat.le_of_ble_eq_true rfl) ⟨Nat.zero_le _, Nat.zero_le _⟩ rx3 (by decide) h dX0_pass_111 (fun r18 H locs fr18 h hI => ?_)
              replace h := h fr18
              refine cXX0_97 hF hK hI hl.1 hR (by decide) (Nat.le_of_ble_eq_true rfl) ⟨Nat.zero_le _, Nat.zero_le _⟩ rx3 (by decide) fr18 h dX0_pass_114 (fun S21 H locs h hI => ?_)
              refine lv_aload_n hx hb dX0_pass_117 rfl (lv_at hl 0 rfl) ?_
              refine lv_iload_n hx hb dX0_pass_118 rfl (lv_at hl 3 rfl) ?_
              refine nr_iconst hx hb dX0_pass_119 ?_
              refine nr_iconst hx hb dX0_pass_120 ?_
              refine cXX0_97 hF hK hI hl.1 hR (by decide) (Nat.le_of_ble_eq_true rfl) ⟨Nat.zero_le _, Nat.zero_le _⟩ rx3 (by decide) (by decide) h dX0_pass_121 (fun S23 H locs h hI => ?_)
              exact J124 x3 S23 _ _ _ rx3 hI (lv_sub hl [0, 1, 2, 3] rfl) h
            · replace h := h.2 c17
              refine lv_goto (tgt := 124) hx hb dX0_pass_102 (by decide) ?_
              exact J124 x3 S12 _ _ _ rx3 hI (lv_sub hl [0, 1, 2, 3] rfl) h
      unfold l_X_pass_33 at h
      refine lv_iload_n hx hb dX0_pass_33 rfl (lv_at hl 2 rfl) ?_
      refine lv_iload_n hx hb dX0_pass_34 rfl (lv_at hl 1 rfl) ?_
      refine nr_icmp_ge hx hb rx2 rx1 dX0_pass_35 (tgt := 136) (by decide) (fun c24 => ?_) (fun c24 => ?_)
      · replace h := h.1 c24
        refine lv_aload_n hx hb dX0_pass_136 rfl (lv_at hl 0 rfl) ?_
        refine cXX0_156 hF hK hI hl.1 hR (by decide) (Nat.le_of_ble_eq_true rfl) ⟨Nat.zero_le _, Nat.zero_le _⟩ h dX0_pass_137 (fun r25 H locs fr25 h hI => ?_)
        replace h := h fr25
        rw [← hQ]; exact s_iret (K := K) hx hb hr hlocks hI fr25 h dX0_pass_140
      · replace h := h.2 c24
        refine lv_aload_n hx hb dX0_pass_38 rfl (lv_at hl 0 rfl) ?_
        refine gXX0_12_129 hF hK hI dX0_pass_39 ?_
        refine gXX0_78_130 hF hK hI dX0_pass_42 ?_
        refine nr_bipush hx hb dX0_pass_45 (by decide) ?_
        refine lv_dup2_11 hx hb dX0_pass_47 rfl rfl ?_
        refine s_iald hx hb hK hI 3 (by decide) wX_3 (by decide) (by decide) dX0_pass_48 (fun f27 => ?_)
        replace h := h f27
        refine nr_iconst hx hb dX0_pass_49 ?_
        have f28 := h.1; replace h := h.2
        refine nr_iadd hx hb dX0_pass_50 ?_
        refine s_iast hx hb hK hI 3 (by decide) wX_3 (by decide) (by decide) f28 dX0_pass_51 (fun S29 H locs eS29 hI => ?_)
        replace h := h S29 eS29
        refine nr_iconst hx hb dX0_pass_52 ?_
        refine lv_istore_n (lv' := [(3, iV 0), (0, .ref (ad 129)), (1, iV x1), (2, iV x2)]) hx hb dX0_pass_53 rfl hl (by decide) rfl (fun ls hl => ?_)
        obtain ⟨n0, h⟩ := h
        exact L54 x2 rx2 n0 0 S29 _ _ _ (by decide) hI (lv_sub hl [1, 2, 3, 0] rfl) h
  unfold w_X_pass at h
  refine lv_iload_n hx hb dX0_pass_0 rfl (lv_at hl 1 rfl) ?_
  refine nr_iconst hx hb dX0_pass_1 ?_
  refine nr_bipush hx hb dX0_pass_2 (by decide) ?_
  refine cXX0_74 hF hK hI hl.1 hR (by decide) (Nat.le_of_ble_eq_true rfl) ⟨Nat.zero_le _, Nat.zero_le _⟩ rx1 (by decide) (by decide) h dX0_pass_4 (fun r30 H locs fr30 h hI => ?_)
  replace h := h fr30
  have gr30 : InR r30 := kdP_R (k := 2) (by decide) fr30
  refine nr_if_eq hx hb gr30 dX0_pass_7 (tgt := 22) (by decide) (fun c32 => ?_) (fun c32 => ?_)
  · replace h := h.1 c32
    refine nr_iconst hx hb dX0_pass_22 ?_
    rw [← hQ]; exact s_iret (K := K) hx hb hr hlocks hI (by decide) h dX0_pass_23
  · replace h := h.2 c32
    refine lv_aload_n hx hb dX0_pass_10 rfl (lv_at hl 0 rfl) ?_
    refine cXX0_156 hF hK hI hl.1 hR (by decide) (Nat.le_of_ble_eq_true rfl) ⟨Nat.zero_le _, Nat.zero_le _⟩ h dX0_pass_11 (fun r33 H locs fr33 h hI => ?_)
    replace h := h fr33
    refine lv_iload_n hx hb dX0_pass_14 rfl (lv_at hl 1 rfl) ?_
    have f35 := h.1; replace h := h.2
    refine nr_iadd hx hb dX0_pass_15 ?_
    refine nr_sipush hx hb dX0_pass_16 (by decide) ?_
    refine nr_icmp_le hx hb f35 (by decide) dX0_pass_19 (tgt := 24) (by decide) (fun c36 => ?_) (fun c36 => ?_)
    · replace h := h.1 c36
      refine lv_aload_n hx hb dX0_pass_24 rfl (lv_at hl 0 rfl) ?_
      refine gXX0_12_129 hF hK hI dX0_pass_25 ?_
      refine cXX0_117 hF hK hI hl.1 hR (by decide) (Nat.le_of_ble_eq_true rfl) ⟨Nat.zero_le _, Nat.zero_le _⟩ h dX0_pass_28 (fun S38 H locs h hI => ?_)
      refine nr_iconst hx hb dX0_pass_31 ?_
      refine lv_istore_n (lv' := [(2, iV 0), (0, .ref (ad 129)), (1, iV x1)]) hx hb dX0_pass_32 rfl hl (by decide) rfl (fun ls hl => ?_)
      obtain ⟨n0, h⟩ := h
      exact L33 x1 rx1 n0 0 S38 _ _ _ (by decide) hI (lv_sub hl [1, 2, 0] rfl) h
    · replace h := h.2 c36
      refine nr_iconst hx hb dX0_pass_22 ?_
      rw [← hQ]; exact s_iret (K := K) hx hb hr hlocks hI (by decide) h dX0_pass_23
theorem cXX0_196 {p : Program} {l : Launch} {e : Env} {R : Room} {s : State} {m : MethodId} {args : Array Value} {below : List Frame} {meth : Method} {c : Code} {H : Heap} {locs : List Loc} {Q : State → Prop} {cc : ByteArray} {nL pc : Nat} {ls : Array Slot} {rest : List Value} {cells slots : Nat} {D : va_G} {dA : Nat → ClassId} {ad : Nat → Nat} {A : Nat → Prop} {H0 : Heap} {S : St} {dk : Nat} (hF : CallFix p m c cc nL s args lw_all RX0) (hK : gK D dA s) (hI : sI D dA wX ad A H0 S H locs) (hls : ls.size = nL) (hR : R.frames = dk + 1 ∧ R.locals = 64 * dk + 64) (hd : 0 + 1 ≤ dk) (hW : (rest.map fun v => v.category).sum ≤ 8) (hf : cells ≤ R.cells ∧ slots ≤ R.slots) {x0 : Nat} {K : Int → Prop} (hg0 : ∃ fs : List PV, gI S x0 = some (.inr (.inl (13, fs)))) (h : w_X13_sort x0 S K) (hdg : decode cc pc = .ok (.invokevirtual 196, 3)) (kk : ∀ (r : Int) (H1 : Heap) (locs1 : List Loc), InR r → K r → sI D dA wX ad A H0 S H1 locs1 → W p l e R s m args below meth c H1 locs1 cells slots Q (F0 m (pc + 3) ls (iV r :: rest))) : W p l e R s m args below meth c H locs cells slots Q (F0 m (pc) ls (.ref x0 :: rest)) := s_callVi (As := []) (rest := rest) (K := fun r S' => S' = S ∧ K r) hF (t_X13_sort l D dA ad S H.size x0 K h) (by obtain ⟨fs, hg⟩ := hg0; exact s_recvP hK hI hg rfl) (cwV 0 hF.2.2.2.2 (lw_V q956 q957 q958 q137 q959) rfl rfl rfl (by decide +kernel) ⟨by have h1 := hR.1; have h2 : (rmD 0 0 0).frames = 0 + 1 := rfl; omega, by have h1 := hR.2; have h2 : (rmD 0 0 0).locals = 64 * 0 + 64 := rfl; omega⟩) hK hI rfl hls rfl hW hdg hf (fun r S1 H1 locs1 f hk hI1 => by obtain ⟨rfl, hk⟩ := hk; exact kk r H1 locs1 f hk hI1)
theorem cXX0_201 {p : Program} {l : Launch} {e : Env} {R : Room} {s : State} {m : MethodId} {args : Array Value} {below : List Frame} {meth : Method} {c : Code} {H : Heap} {locs : List Loc} {Q : State → Prop} {cc : ByteArray} {nL pc : Nat} {ls : Array Slot} {rest : List Value} {cells slots : Nat} {D : va_G} {dA : Nat → ClassId} {ad : Nat → Nat} {A : Nat → Prop} {H0 : Heap} {S : St} {dk : Nat} (hF : CallFix p m c cc nL s args lw_all RX0) (hK : gK D dA s) (hI : sI D dA wX ad A H0 S H locs) (hls : ls.size = nL) (hR : R.frames = dk + 1 ∧ R.locals = 64 * dk + 64) (hd : 0 + 1 ≤ dk) (hW : (rest.map fun v => v.category).sum ≤ 8) (hf : cells ≤ R.cells ∧ slots ≤ R.slots) {x0 : Nat} {K : Int → Prop} (hg0 : ∃ fs : List PV, gI S x0 = some (.inr (.inl (13, fs)))) (h : w_X13_a x0 S K) (hdg : decode cc pc = .ok (.invokevirtual 201, 3)) (kk : ∀ (r : Int) (H1 : Heap) (locs1 : List Loc), InR r → K r → sI D dA wX ad A H0 S H1 locs1 → W p l e R s m args below meth c H1 locs1 cells slots Q (F0 m (pc + 3) ls (iV r :: rest))) : W p l e R s m args below meth c H locs cells slots Q (F0 m (pc) ls (.ref x0 :: rest)) := s_callVi (As := []) (rest := rest) (K := fun r S' => S' = S ∧ K r) hF (t_X13_a l D dA ad S H.size x0 K h) (by obtain ⟨fs, hg⟩ := hg0; exact s_recvP hK hI hg rfl) (cwV 0 hF.2.2.2.2 (lw_V q960 q961 q962 q137 q963) rfl rfl rfl (by decide +kernel) ⟨by have h1 := hR.1; have h2 : (rmD 0 0 0).frames = 0 + 1 := rfl; omega, by have h1 := hR.2; have h2 : (rmD 0 0 0).locals = 64 * 0 + 64 := rfl; omega⟩) hK hI rfl hls rfl hW hdg hf (fun r S1 H1 locs1 f hk hI1 => by obtain ⟨rfl, hk⟩ := hk; exact kk r H1 locs1 f hk hI1)
theorem cXX0_204 {p : Program} {l : Launch} {e : Env} {R : Room} {s : State} {m : MethodId} {args : Array Value} {below : List Frame} {meth : Method} {c : Code} {H : Heap} {locs : List Loc} {Q : State → Prop} {cc : ByteArray} {nL pc : Nat} {ls : Array Slot} {rest : List Value} {cells slots : Nat} {D : va_G} {dA : Nat → ClassId} {ad : Nat → Nat} {A : Nat → Prop} {H0 : Heap} {S : St} {dk : Nat} (hF : CallFix p m c cc nL s args lw_all RX0) (hK : gK D dA s) (hI : sI D dA wX ad A H0 S H locs) (hls : ls.size = nL) (hR : R.frames = dk + 1 ∧ R.locals = 64 * dk + 64) (hd : 0 + 1 ≤ dk) (hW : (rest.map fun v => v.category).sum ≤ 8) (hf : cells ≤ R.cells ∧ slots ≤ R.slots) {x0 : Nat} {K : Int → Prop} (hg0 : ∃ fs : List PV, gI S x0 = some (.inr (.inl (13, fs)))) (h : w_X13_b x0 S K) (hdg : decode cc pc = .ok (.invokevirtual 204, 3)) (kk : ∀ (r : Int) (H1 : Heap) (locs1 : List Loc), InR r → K r → sI D dA wX ad A H0 S H1 locs1 → W p l e R s m args below meth c H1 locs1 cells slots Q (F0 m (pc + 3) ls (iV r :: rest))) : W p l e R s m args below meth c H locs cells slots Q (F0 m (pc) ls (.ref x0 :: rest)) := s_callVi (As := []) (rest := rest) (K := fun r S' => S' = S ∧ K r) hF (t_X13_b l D dA ad S H.size x0 K h) (by obtain ⟨fs, hg⟩ := hg0; exact s_recvP hK hI hg rfl) (cwV 0 hF.2.2.2.2 (lw_V q964 q965 q966 q137 q967) rfl rfl rfl (by decide +kernel) ⟨by have h1 := hR.1; have h2 : (rmD 0 0 0).frames = 0 + 1 := rfl; omega, by have h1 := hR.2; have h2 : (rmD 0 0 0).locals = 64 * 0 + 64 := rfl; omega⟩) hK hI rfl hls rfl hW hdg hf (fun r S1 H1 locs1 f hk hI1 => by obtain ⟨rfl, hk⟩ := hk; exact kk r H1 locs1 f hk hI1)
theorem cXX0_207 {p : Program} {l : Launch} {e : Env} {R : Room} {s : State} {m : MethodId} {args : Array Value} {below : List Frame} {meth : Method} {c : Code} {H : Heap} {locs : List Loc} {Q : State → Prop} {cc : ByteArray} {nL pc : Nat} {ls : Array Slot} {rest : List Value} {cells slots : Nat} {D : va_G} {dA : Nat → ClassId} {ad : Nat → Nat} {A : Nat → Prop} {H0 : Heap} {S : St} {dk : Nat} (hF : CallFix p m c cc nL s args lw_all RX0) (hK : gK D dA s) (hI : sI D dA wX ad A H0 S H locs) (hls : ls.size = nL) (hR : R.frames = dk + 1 ∧ R.locals = 64 * dk + 64) (hd : 0 + 1 ≤ dk) (hW : (rest.map fun v => v.category).sum ≤ 8) (hf : cells ≤ R.cells ∧ slots ≤ R.slots) {x0 : Nat} {K : Int → Prop} (hg0 : ∃ fs : List PV, gI S x0 = some (.inr (.inl (13, fs)))) (h : w_X13_c x0 S K) (hdg : decode cc pc = .ok (.invokevirtual 207, 3)) (kk : ∀ (r : Int) (H1 : Heap) (locs1 : List Loc), InR r → K r → sI D dA wX ad A H0 S H1 locs1 → W p l e R s m args below meth c H1 locs1 cells slots Q (F0 m (pc + 3) ls (iV r :: rest))) : W p l e R s m args below meth c H locs cells slots Q (F0 m (pc) ls (.ref x0 :: rest)) := s_callVi (As := []) (rest := rest) (K := fun r S' => S' = S ∧ K r) hF (t_X13_c l D dA ad S H.size x0 K h) (by obtain ⟨fs, hg⟩ := hg0; exact s_recvP hK hI hg rfl) (cwV 0 hF.2.2.2.2 (lw_V q968 q969 q970 q137 q971) rfl rfl rfl (by decide +kernel) ⟨by have h1 := hR.1; have h2 : (rmD 0 0 0).frames = 0 + 1 := rfl; omega, by have h1 := hR.2; have h2 : (rmD 0 0 0).locals = 64 * 0 + 64 := rfl; omega⟩) hK hI rfl hls rfl hW hdg hf (fun r S1 H1 locs1 f hk hI1 => by obtain ⟨rfl, hk⟩ := hk; exact kk r H1 locs1 f hk hI1)
theorem cXX0_210 {p : Program} {l : Launch} {e : Env} {R : Room} {s : State} {m : MethodId} {args : Array Value} {below : List Frame} {meth : Method} {c : Code} {H : Heap} {locs : List Loc} {Q : State → Prop} {cc : ByteArray} {nL pc : Nat} {ls : Array Slot} {rest : List Value} {cells slots : Nat} {D : va_G} {dA : Nat → ClassId} {ad : Nat → Nat} {A : Nat → Prop} {H0 : Heap} {S : St} {dk : Nat} (hF : CallFix p m c cc nL s args lw_all RX0) (hK : gK D dA s) (hI : sI D dA wX ad A H0 S H locs) (hls : ls.size = nL) (hR : R.frames = dk + 1 ∧ R.locals = 64 * dk + 64) (hd : 3 + 1 ≤ dk) (hW : (rest.map fun v => v.category).sum ≤ 8) (hf : cells ≤ R.cells ∧ slots ≤ R.slots) {x1 : Int} {x2 : Int} {K : Int → St → Prop} (r1 : InR x1) (r2 : InR x2) (h : w_X_swap x1 x2 S K) (hdg : decode cc pc = .ok (.invokevirtual 210, 3)) (kk : ∀ (r : Int) (S1 : St) (H1 : Heap) (locs1 : List Loc), (r = 0 ∨ r = 1) → K r S1 → sI D dA wX ad A H0 S1 H1 locs1 → W p l e R s m args below meth c H1 locs1 cells slots Q (F0 m (pc + 3) ls (iV r :: rest))) : W p l e R s m args below meth c H locs cells slots Q (F0 m (pc) ls (iV x2 :: iV x1 :: .ref (ad 129) :: rest)) := s_callVz (As := [iV x1, iV x2]) (rest := rest) (K := K) hF (t_X_swap l D dA ad S H.size x1 x2 K r1 r2 h) (s_recv hK hI 129 (by decide) wX_129 rfl) (cwV 2 hF.2.2.2.2 (lw_V q972 q858 q859 q106 q860) rfl rfl rfl (by decide +kernel) ⟨by have h1 := hR.1; have h2 : (rmD 3 0 0).frames = 3 + 1 := rfl; omega, by have h1 := hR.2; have h2 : (rmD 3 0 0).locals = 64 * 3 + 64 := rfl; omega⟩) hK hI rfl hls rfl hW hdg hf kk
theorem cXX0_213 {p : Program} {l : Launch} {e : Env} {R : Room} {s : State} {m : MethodId} {args : Array Value} {below : List Frame} {meth : Method} {c : Code} {H : Heap} {locs : List Loc} {Q : State → Prop} {cc : ByteArray} {nL pc : Nat} {ls : Array Slot} {rest : List Value} {cells slots : Nat} {D : va_G} {dA : Nat → ClassId} {ad : Nat → Nat} {A : Nat → Prop} {H0 : Heap} {S : St} {dk : Nat} (hF : CallFix p m c cc nL s args lw_all RX0) (hK : gK D dA s) (hI : sI D dA wX ad A H0 S H locs) (hls : ls.size = nL) (hR : R.frames = dk + 1 ∧ R.locals = 64 * dk + 64) (hd : 3 + 1 ≤ dk) (hW : (rest.map fun v => v.category).sum ≤ 8) (hf : cells ≤ R.cells ∧ slots ≤ R.slots) {x1 : Int} {x2 : Int} {K : Int → St → Prop} (r1 : InR x1) (r2 : InR x2) (h : w_X_steal x1 x2 S K) (hdg : decode cc pc = .ok (.invokevirtual 213, 3)) (kk : ∀ (r : Int) (S1 : St) (H1 : Heap) (locs1 : List Loc), (r = 0 ∨ r = 1) → K r S1 → sI D dA wX ad A H0 S1 H1 locs1 → W p l e R s m args below meth c H1 locs1 cells slots Q (F0 m (pc + 3) ls (iV r :: rest))) : W p l e R s m args below meth c H locs cells slots Q (F0 m (pc) ls (iV x2 :: iV x1 :: .ref (ad 129) :: rest)) := s_callVz (As := [iV x1, iV x2]) (rest := rest) (K := K) hF (t_X_steal l D dA ad S H.size x1 x2 K r1 r2 h) (s_recv hK hI 129 (by decide) wX_129 rfl) (cwV 2 hF.2.2.2.2 (lw_V q973 q862 q863 q106 q864) rfl rfl rfl (by decide +kernel) ⟨by have h1 := hR.1; have h2 : (rmD 3 0 0).frames = 3 + 1 := rfl; omega, by have h1 := hR.2; have h2 : (rmD 3 0 0).locals = 64 * 3 + 64 := rfl; omega⟩) hK hI rfl hls rfl hW hdg hf kk
theorem cXX0_216 {p : Program} {l : Launch} {e : Env} {R : Room} {s : State} {m : MethodId} {args : Array Value} {below : List Frame} {meth : Method} {c : Code} {H : Heap} {locs : List Loc} {Q : State → Prop} {cc : ByteArray} {nL pc : Nat} {ls : Array Slot} {rest : List Value} {cells slots : Nat} {D : va_G} {dA : Nat → ClassId} {ad : Nat → Nat} {A : Nat → Prop} {H0 : Heap} {S : St} {dk : Nat} (hF : CallFix p m c cc nL s args lw_all RX0) (hK : gK D dA s) (hI : sI D dA wX ad A H0 S H locs) (hls : ls.size = nL) (hR : R.frames = dk + 1 ∧ R.locals = 64 * dk + 64) (hd : 3 + 1 ≤ dk) (hW : (rest.map fun v => v.category).sum ≤ 8) (hf : cells ≤ R.cells ∧ slots ≤ R.slots) {x1 : Int} {K : Int → St → Prop} (r1 : InR x1) (h : w_X_burn x1 S K) (hdg : decode cc pc = .ok (.invokevirtual 216, 3)) (kk : ∀ (r : Int) (S1 : St) (H1 : Heap) (locs1 : List Loc), InR r → K r S1 → sI D dA wX ad A H0 S1 H1 locs1 → W p l e R s m args below meth c H1 locs1 cells slots Q (F0 m (pc + 3) ls (iV r :: rest))) : W p l e R s m args below meth c H locs cells slots Q (F0 m (pc) ls (iV x1 :: .ref (ad 129) :: rest)) := s_callVi (As := [iV x1]) (rest := rest) (K := K) hF (t_X_burn l D dA ad S H.size x1 K r1 h) (s_recv hK hI 129 (by decide) wX_129 rfl) (cwV 1 hF.2.2.2.2 (lw_V q974 q866 q867 q106 q868) rfl rfl rfl (by decide +kernel) ⟨by have h1 := hR.1; have h2 : (rmD 3 0 0).frames = 3 + 1 := rfl; omega, by have h1 := hR.2; have h2 : (rmD 3 0 0).locals = 64 * 3 + 64 := rfl; omega⟩) hK hI rfl hls rfl hW hdg hf kk
theorem cXX0_219 {p : Program} {l : Launch} {e : Env} {R : Room} {s : State} {m : MethodId} {args : Array Value} {below : List Frame} {meth : Method} {c : Code} {H : Heap} {locs : List Loc} {Q : State → Prop} {cc : ByteArray} {nL pc : Nat} {ls : Array Slot} {rest : List Value} {cells slots : Nat} {D : va_G} {dA : Nat → ClassId} {ad : Nat → Nat} {A : Nat → Prop} {H0 : Heap} {S : St} {dk : Nat} (hF : CallFix p m c cc nL s args lw_all RX0) (hK : gK D dA s) (hI : sI D dA wX ad A H0 S H locs) (hls : ls.size = nL) (hR : R.frames = dk + 1 ∧ R.locals = 64 * dk + 64) (hd : 75 + 1 ≤ dk) (hW : (rest.map fun v => v.category).sum ≤ 8) (hf : cells ≤ R.cells ∧ slots ≤ R.slots) {x1 : Int} {K : Int → St → Prop} (r1 : InR x1) (h : w_X_pass x1 S K) (hdg : decode cc pc = .ok (.invokevirtual 219, 3)) (kk : ∀ (r : Int) (S1 : St) (H1 : Heap) (locs1 : List Loc), InR r → K r S1 → sI D dA wX ad A H0 S1 H1 locs1 → W p l e R s m args below meth c H1 locs1 cells slots Q (F0 m (pc + 3) ls (iV r :: rest))) : W p l e R s m args below meth c H locs cells slots Q (F0 m (pc) ls (iV x1 :: .ref (ad 129) :: rest)) := s_callVi (As := [iV x1]) (rest := rest) (K := K) hF (t_X_pass l D dA ad S H.size x1 K r1 h) (s_recv hK hI 129 (by decide) wX_129 rfl) (cwV 1 hF.2.2.2.2 (lw_V q975 q876 q877 q106 q878) rfl rfl rfl (by decide +kernel) ⟨by have h1 := hR.1; have h2 : (rmD 75 0 0).frames = 75 + 1 := rfl; omega, by have h1 := hR.2; have h2 : (rmD 75 0 0).locals = 64 * 75 + 64 := rfl; omega⟩) hK hI rfl hls rfl hW hdg hf kk
set_option maxHeartbeats 4000000 in
theorem t_X_does (l : Launch) (D : va_G) (dA : Nat → ClassId) (ad : Nat → Nat) (S : St) (sz : Nat) (x1 : Nat) (K : Int → St → Prop) (h : w_X_does x1 S K) : Met l yX0_does (ws_ yX0_does cX0_does 2 (Option.some Jvm.ClassFile.FieldType.boolean)) (rmD 76 0 0) (va_Pc [.ref (ad 129), .ref x1] (sPre D dA wX ad S sz)) (va_Qi (fun r S' => (r.toInt = 0 ∨ r.toInt = 1) ∧ (K r.toInt S')) (sPost D dA wX ad (wA wX ad S sz)) (wA wX ad S sz)) 0 0 (wA wX ad S sz) := by
  refine Met.ofW (cc := cX0_does) (maxL := 2) (ret := (Option.some Jvm.ClassFile.FieldType.boolean)) (by decide) rfl ?_
  intro p e s m args below meth c s₁ B hml hv
  obtain ⟨rfl, hsz, hK, hC⟩ := hv
  have hx := B.exec
  have hb := B.bytes
  have hr := B.returns
  have hlocks := B.notSynchronized
  have hts := atoms_spec (ws := (ws_ yX0_does cX0_does 2 (Option.some Jvm.ClassFile.FieldType.boolean))) B.pre
  have hts : ∀ w ∈ lw_all, w.before _ s = true := fun w h => hts w (List.mem_cons_of_mem _ h)
  have hown : s.vm.findClass RX0 = some m.cls := findClass_of_methodNamed B.named
  clear B
  subst hsz
  have hI : sI D dA wX ad (wA wX ad S s.heap.size) s.heap S s.heap [] := hC.start
  clear hC
  generalize wA wX ad S s.heap.size = A at hI ⊢
  have hl := lv_entry ([.ref (ad 129), .ref x1] : List Value) (n := 2) (Nat.le_of_ble_eq_true rfl)
  rw [lg_entry_eq]
  generalize (lg_sl ([.ref (ad 129), .ref x1] : List Value) ++ List.replicate (2 - (lg_sl ([.ref (ad 129), .ref x1] : List Value)).length) Slot.unset).toArray = ls at hl ⊢
  have hl : lv_has ls 2 [(0, .ref (ad 129)), (1, .ref x1)] := hl
  have hF : CallFix p m c cX0_does 2 s _ lw_all RX0 := ⟨hx, hb, hml, hown, hts⟩
  have hR : (headSpec (ws_ yX0_does cX0_does 2 (Option.some Jvm.ClassFile.FieldType.boolean)) (rmD 76 0 0)).room.frames = 76 + 1 ∧ (headSpec (ws_ yX0_does cX0_does 2 (Option.some Jvm.ClassFile.FieldType.boolean)) (rmD 76 0 0)).room.locals = 64 * 76 + 64 := ⟨rfl, rfl⟩
  generalize (headSpec (ws_ yX0_does cX0_does 2 (Option.some Jvm.ClassFile.FieldType.boolean)) (rmD 76 0 0)).room = R at hR ⊢
  generalize ([.ref (ad 129), .ref x1] : List Value).toArray = args at hts hF ⊢
  generalize hQ : MQ below _ _ _ _ _ _ = Q
  unfold w_X_does at h
  refine lv_aload_n hx hb dX0_does_0 rfl (lv_at hl 1 rfl) ?_
  have hr1 := h.1; replace h := h.2
  refine cXX0_196 hF hK hI hl.1 hR (by decide) (Nat.le_of_ble_eq_true rfl) ⟨Nat.zero_le _, Nat.zero_le _⟩ hr1 h dX0_does_1 (fun r2 H locs fr2 h hI => ?_)
  replace h := h fr2
  have hcs : r2 = 204 ∨ r2 = 205 ∨ r2 = 206 ∨ r2 = 207 ∨ ¬ (204 ≤ r2 ∧ r2 ≤ 207) := by omega
  rcases hcs with c4 | c4 | c4 | c4 | c4
  · replace h := h.1 c4
    refine nr_tableIn hx hb 204 c4 (by decide) dX0_does_4 (by decide) rfl (tgt := 36) (by decide) ?_
    refine lv_aload_n hx hb dX0_does_36 rfl (lv_at hl 0 rfl) ?_
    refine lv_aload_n hx hb dX0_does_37 rfl (lv_at hl 1 rfl) ?_
    have hr5 := h.1; replace h := h.2
    refine cXX0_201 hF hK hI hl.1 hR (by decide) (Nat.le_of_ble_eq_true rfl) ⟨Nat.zero_le _, Nat.zero_le _⟩ hr5 h dX0_does_38 (fun r6 H locs fr6 h hI => ?_)
    replace h := h fr6
    refine lv_aload_n hx hb dX0_does_41 rfl (lv_at hl 1 rfl) ?_
    have hr8 := h.1; replace h := h.2
    refine cXX0_204 hF hK hI hl.1 hR (by decide) (Nat.le_of_ble_eq_true rfl) ⟨Nat.zero_le _, Nat.zero_le _⟩ hr8 h dX0_does_42 (fun r9 H locs fr9 h hI => ?_)
    replace h := h fr9
    refine lv_aload_n hx hb dX0_does_45 rfl (lv_at hl 1 rfl) ?_
    have hr11 := h.1; replace h := h.2
    refine cXX0_207 hF hK hI hl.1 hR (by decide) (Nat.le_of_ble_eq_true rfl) ⟨Nat.zero_le _, Nat.zero_le _⟩ hr11 h dX0_does_46 (fun r12 H locs fr12 h hI => ?_)
    replace h := h fr12
    refine cXX0_163 hF hK hI hl.1 hR (by decide) (Nat.le_of_ble_eq_true rfl) ⟨Nat.zero_le _, Nat.zero_le _⟩ fr6 fr9 fr12 h dX0_does_49 (fun r14 S15 H locs fr14 h hI => ?_)
    replace h := h fr14
    have gr14 : InR r14 := kdP_R (k := 2) (by decide) fr14
    rw [← hQ]; exact s_zret (K := K) hx hb hr hlocks hI fr14 h dX0_does_52
  · replace h := h.2.1 c4
    refine nr_tableIn hx hb 205 c4 (by decide) dX0_does_4 (by decide) rfl (tgt := 53) (by decide) ?_
    refine lv_aload_n hx hb dX0_does_53 rfl (lv_at hl 0 rfl) ?_
    refine lv_aload_n hx hb dX0_does_54 rfl (lv_at hl 1 rfl) ?_
    have hr16 := h.1; replace h := h.2
    refine cXX0_201 hF hK hI hl.1 hR (by decide) (Nat.le_of_ble_eq_true rfl) ⟨Nat.zero_le _, Nat.zero_le _⟩ hr16 h dX0_does_55 (fun r17 H locs fr17 h hI => ?_)
    replace h := h fr17
    refine lv_aload_n hx hb dX0_does_58 rfl (lv_at hl 1 rfl) ?_
    have hr19 := h.1; replace h := h.2
    refine cXX0_204 hF hK hI hl.1 hR (by decide) (Nat.le_of_ble_eq_true rfl) ⟨Nat.zero_le _, Nat.zero_le _⟩ hr19 h dX0_does_59 (fun r20 H locs fr20 h hI => ?_)
    replace h := h fr20
    refine cXX0_210 hF hK hI hl.1 hR (by decide) (Nat.le_of_ble_eq_true rfl) ⟨Nat.zero_le _, Nat.zero_le _⟩ fr17 fr20 h dX0_does_62 (fun r22 S23 H locs fr22 h hI => ?_)
    replace h := h fr22
    have gr22 : InR r22 := kdP_R (k := 2) (by decide) fr22
    rw [← hQ]; exact s_zret (K := K) hx hb hr hlocks hI fr22 h dX0_does_65
  · replace h := h.2.2.1 c4
    refine nr_tableIn hx hb 206 c4 (by decide) dX0_does_4 (by decide) rfl (tgt := 66) (by decide) ?_
    refine lv_aload_n hx hb dX0_does_66 rfl (lv_at hl 0 rfl) ?_
    refine lv_aload_n hx hb dX0_does_67 rfl (lv_at hl 1 rfl) ?_
    have hr24 := h.1; replace h := h.2
    refine cXX0_201 hF hK hI hl.1 hR (by decide) (Nat.le_of_ble_eq_true rfl) ⟨Nat.zero_le _, Nat.zero_le _⟩ hr24 h dX0_does_68 (fun r25 H locs fr25 h hI => ?_)
    replace h := h fr25
    refine lv_aload_n hx hb dX0_does_71 rfl (lv_at hl 1 rfl) ?_
    have hr27 := h.1; replace h := h.2
    refine cXX0_204 hF hK hI hl.1 hR (by decide) (Nat.le_of_ble_eq_true rfl) ⟨Nat.zero_le _, Nat.zero_le _⟩ hr27 h dX0_does_72 (fun r28 H locs fr28 h hI => ?_)
    replace h := h fr28
    refine cXX0_213 hF hK hI hl.1 hR (by decide) (Nat.le_of_ble_eq_true rfl) ⟨Nat.zero_le _, Nat.zero_le _⟩ fr25 fr28 h dX0_does_75 (fun r30 S31 H locs fr30 h hI => ?_)
    replace h := h fr30
    have gr30 : InR r30 := kdP_R (k := 2) (by decide) fr30
    rw [← hQ]; exact s_zret (K := K) hx hb hr hlocks hI fr30 h dX0_does_78
  · replace h := h.2.2.2.1 c4
    refine nr_tableIn hx hb 207 c4 (by decide) dX0_does_4 (by decide) rfl (tgt := 79) (by decide) ?_
    refine lv_aload_n hx hb dX0_does_79 rfl (lv_at hl 0 rfl) ?_
    refine lv_aload_n hx hb dX0_does_80 rfl (lv_at hl 1 rfl) ?_
    have hr32 := h.1; replace h := h.2
    refine cXX0_201 hF hK hI hl.1 hR (by decide) (Nat.le_of_ble_eq_true rfl) ⟨Nat.zero_le _, Nat.zero_le _⟩ hr32 h dX0_does_81 (fun r33 H locs fr33 h hI => ?_)
    replace h := h fr33
    refine cXX0_216 hF hK hI hl.1 hR (by decide) (Nat.le_of_ble_eq_true rfl) ⟨Nat.zero_le _, Nat.zero_le _⟩ fr33 h dX0_does_84 (fun r35 S36 H locs fr35 h hI => ?_)
    replace h := h fr35
    refine nr_iconst hx hb dX0_does_87 ?_
    refine nr_icmp_eq hx hb fr35 (by decide) dX0_does_88 (tgt := 95) (by decide) (fun c37 => ?_) (fun c37 => ?_)
    · replace h := h.1 c37
      refine nr_iconst hx hb dX0_does_95 ?_
      rw [← hQ]; exact s_zret (K := K) hx hb hr hlocks hI (by decide) h dX0_does_96
    · replace h := h.2 c37
      refine nr_iconst hx hb dX0_does_91 ?_
      refine lv_goto (tgt := 96) hx hb dX0_does_92 (by decide) ?_
      rw [← hQ]; exact s_zret (K := K) hx hb hr hlocks hI (by decide) h dX0_does_96
  · replace h := h.2.2.2.2 c4
    refine nr_tableOut hx hb fr2 dX0_does_4 c4 (tgt := 97) (by decide) ?_
    refine lv_aload_n hx hb dX0_does_97 rfl (lv_at hl 0 rfl) ?_
    refine lv_aload_n hx hb dX0_does_98 rfl (lv_at hl 1 rfl) ?_
    have hr38 := h.1; replace h := h.2
    refine cXX0_201 hF hK hI hl.1 hR (by decide) (Nat.le_of_ble_eq_true rfl) ⟨Nat.zero_le _, Nat.zero_le _⟩ hr38 h dX0_does_99 (fun r39 H locs fr39 h hI => ?_)
    replace h := h fr39
    refine cXX0_219 hF hK hI hl.1 hR (by decide) (Nat.le_of_ble_eq_true rfl) ⟨Nat.zero_le _, Nat.zero_le _⟩ fr39 h dX0_does_102 (fun r41 S42 H locs fr41 h hI => ?_)
    replace h := h fr41
    refine nr_iconst hx hb dX0_does_105 ?_
    refine nr_icmp_eq hx hb fr41 (by decide) dX0_does_106 (tgt := 113) (by decide) (fun c43 => ?_) (fun c43 => ?_)
    · replace h := h.1 c43
      refine nr_iconst hx hb dX0_does_113 ?_
      rw [← hQ]; exact s_zret (K := K) hx hb hr hlocks hI (by decide) h dX0_does_114
    · replace h := h.2 c43
      refine nr_iconst hx hb dX0_does_109 ?_
      refine lv_goto (tgt := 114) hx hb dX0_does_110 (by decide) ?_
      rw [← hQ]; exact s_zret (K := K) hx hb hr hlocks hI (by decide) h dX0_does_114
theorem cXX0_226 {p : Program} {l : Launch} {e : Env} {R : Room} {s : State} {m : MethodId} {args : Array Value} {below : List Frame} {meth : Method} {c : Code} {H : Heap} {locs : List Loc} {Q : State → Prop} {cc : ByteArray} {nL pc : Nat} {ls : Array Slot} {rest : List Value} {cells slots : Nat} {D : va_G} {dA : Nat → ClassId} {ad : Nat → Nat} {A : Nat → Prop} {H0 : Heap} {S : St} {dk : Nat} (hF : CallFix p m c cc nL s args lw_all RX0) (hK : gK D dA s) (hI : sI D dA wX ad A H0 S H locs) (hls : ls.size = nL) (hR : R.frames = dk + 1 ∧ R.locals = 64 * dk + 64) (hd : 0 + 1 ≤ dk) (hW : (rest.map fun v => v.category).sum ≤ 8) (hf : cells ≤ R.cells ∧ slots ≤ R.slots) {x0 : Nat} {K : Int → Prop} (hg0 : ∃ fs : List PV, gI S x0 = some (.inr (.inl (14, fs)))) (h : w_J2_size x0 S K) (hdg : decode cc pc = .ok (.invokevirtual 226, 3)) (kk : ∀ (r : Int) (H1 : Heap) (locs1 : List Loc), InR r → K r → sI D dA wX ad A H0 S H1 locs1 → W p l e R s m args below meth c H1 locs1 cells slots Q (F0 m (pc + 3) ls (iV r :: rest))) : W p l e R s m args below meth c H locs cells slots Q (F0 m (pc) ls (.ref x0 :: rest)) := s_callVi (As := []) (rest := rest) (K := fun r S' => S' = S ∧ K r) hF (t_J2_size l D dA ad S H.size x0 K h) (by obtain ⟨fs, hg⟩ := hg0; exact s_recvP hK hI hg rfl) (cwV 0 hF.2.2.2.2 (lw_V q949 q766 q767 q114 q768) rfl rfl rfl (by decide +kernel) ⟨by have h1 := hR.1; have h2 : (rmD 0 0 0).frames = 0 + 1 := rfl; omega, by have h1 := hR.2; have h2 : (rmD 0 0 0).locals = 64 * 0 + 64 := rfl; omega⟩) hK hI rfl hls rfl hW hdg hf (fun r S1 H1 locs1 f hk hI1 => by obtain ⟨rfl, hk⟩ := hk; exact kk r H1 locs1 f hk hI1)
theorem cXX0_231 {p : Program} {l : Launch} {e : Env} {R : Room} {s : State} {m : MethodId} {args : Array Value} {below : List Frame} {meth : Method} {c : Code} {H : Heap} {locs : List Loc} {Q : State → Prop} {cc : ByteArray} {nL pc : Nat} {ls : Array Slot} {rest : List Value} {cells slots : Nat} {D : va_G} {dA : Nat → ClassId} {ad : Nat → Nat} {A : Nat → Prop} {H0 : Heap} {S : St} {dk : Nat} (hF : CallFix p m c cc nL s args lw_all RX0) (hK : gK D dA s) (hI : sI D dA wX ad A H0 S H locs) (hls : ls.size = nL) (hR : R.frames = dk + 1 ∧ R.locals = 64 * dk + 64) (hd : 2 + 1 ≤ dk) (hW : (rest.map fun v => v.category).sum ≤ 8) (hf : cells ≤ R.cells ∧ slots ≤ R.slots) {x0 : Nat} {x1 : Int} {K : Option Nat → Prop} (hg0 : ∃ fs : List PV, gI S x0 = some (.inr (.inl (14, fs)))) (r1 : InR x1) (h : w_J2_get x0 x1 S K) (hdg : decode cc pc = .ok (.invokevirtual 231, 3)) (kk : ∀ (r : Option Nat) (H1 : Heap) (locs1 : List Loc), K r → sI D dA wX ad A H0 S H1 locs1 → W p l e R s m args below meth c H1 locs1 cells slots Q (F0 m (pc + 3) ls (va_rf r :: rest))) : W p l e R s m args below meth c H locs cells slots Q (F0 m (pc) ls (iV x1 :: .ref x0 :: rest)) := s_callVq (As := [iV x1]) (rest := rest) (K := fun r S' => S' = S ∧ K r) hF (t_J2_get l D dA ad S H.size x0 x1 K r1 h) (by obtain ⟨fs, hg⟩ := hg0; exact s_recvP hK hI hg rfl) (cwV 1 hF.2.2.2.2 (lw_V q950 q770 q771 q114 q772) rfl rfl rfl (by decide +kernel) ⟨by have h1 := hR.1; have h2 : (rmD 2 0 0).frames = 2 + 1 := rfl; omega, by have h1 := hR.2; have h2 : (rmD 2 0 0).locals = 64 * 2 + 64 := rfl; omega⟩) hK hI rfl hls rfl hW hdg hf (fun r S1 H1 locs1 hk hI1 => by obtain ⟨rfl, hk⟩ := hk; exact kk r H1 locs1 hk hI1)
theorem kPX0_197 {p : Program} {l : Launch} {e : Env} {R : Room} {s : State} {m : MethodId} {args : Array Value} {below : List Frame} {meth : Method} {c : Code} {H : Heap} {locs : List Loc} {Q : State → Prop} {cc : ByteArray} {nL pc : Nat} {ls : Array Slot} {rest : List Value} {cells slots : Nat} {w : Wd} {D : va_G} {dA : Nat → ClassId} {ad : Nat → Nat} {A : Nat → Prop} {H0 : Heap} {S : St} {q : Nat} (hF : CallFix p m c cc nL s args lw_all RX0) (hK : gK D dA s) (hI : sI D dA w ad A H0 S H locs) (hc : ∃ fs : List PV, gI S q = some (.inr (.inl (13, fs)))) (hdg : decode cc pc = .ok (.checkcast 197, 3)) (k : W p l e R s m args below meth c H locs cells slots Q (F0 m (pc + 3) ls (.ref q :: rest))) : W p l e R s m args below meth c H locs cells slots Q (F0 m (pc) ls (.ref q :: rest)) := by
  obtain ⟨fs, hg⟩ := hc
  exact s_castS (C := RX13) (T := TX13) hF.1 hF.2.1 hF.2.2.2.1 hF.2.2.2.2 q951 hK hI hg rfl hdg k
theorem cXX0_235 {p : Program} {l : Launch} {e : Env} {R : Room} {s : State} {m : MethodId} {args : Array Value} {below : List Frame} {meth : Method} {c : Code} {H : Heap} {locs : List Loc} {Q : State → Prop} {cc : ByteArray} {nL pc : Nat} {ls : Array Slot} {rest : List Value} {cells slots : Nat} {D : va_G} {dA : Nat → ClassId} {ad : Nat → Nat} {A : Nat → Prop} {H0 : Heap} {S : St} {dk : Nat} (hF : CallFix p m c cc nL s args lw_all RX0) (hK : gK D dA s) (hI : sI D dA wX ad A H0 S H locs) (hls : ls.size = nL) (hR : R.frames = dk + 1 ∧ R.locals = 64 * dk + 64) (hd : 76 + 1 ≤ dk) (hW : (rest.map fun v => v.category).sum ≤ 8) (hf : cells ≤ R.cells ∧ slots ≤ R.slots) {x1 : Nat} {K : Int → St → Prop} (h : w_X_does x1 S K) (hdg : decode cc pc = .ok (.invokevirtual 235, 3)) (kk : ∀ (r : Int) (S1 : St) (H1 : Heap) (locs1 : List Loc), (r = 0 ∨ r = 1) → K r S1 → sI D dA wX ad A H0 S1 H1 locs1 → W p l e R s m args below meth c H1 locs1 cells slots Q (F0 m (pc + 3) ls (iV r :: rest))) : W p l e R s m args below meth c H locs cells slots Q (F0 m (pc) ls (.ref x1 :: .ref (ad 129) :: rest)) := s_callVz (As := [.ref x1]) (rest := rest) (K := K) hF (t_X_does l D dA ad S H.size x1 K h) (s_recv hK hI 129 (by decide) wX_129 rfl) (cwV 1 hF.2.2.2.2 (lw_V q952 q954 qs33 q106 q955) rfl rfl rfl (by decide +kernel) ⟨by have h1 := hR.1; have h2 : (rmD 76 0 0).frames = 76 + 1 := rfl; omega, by have h1 := hR.2; have h2 : (rmD 76 0 0).locals = 64 * 76 + 64 := rfl; omega⟩) hK hI rfl hls rfl hW hdg hf kk
theorem cXX0_239 {p : Program} {l : Launch} {e : Env} {R : Room} {s : State} {m : MethodId} {args : Array Value} {below : List Frame} {meth : Method} {c : Code} {H : Heap} {locs : List Loc} {Q : State → Prop} {cc : ByteArray} {nL pc : Nat} {ls : Array Slot} {rest : List Value} {cells slots : Nat} {D : va_G} {dA : Nat → ClassId} {ad : Nat → Nat} {A : Nat → Prop} {H0 : Heap} {S : St} {dk : Nat} (hF : CallFix p m c cc nL s args lw_all RX0) (hK : gK D dA s) (hI : sI D dA wX ad A H0 S H locs) (hls : ls.size = nL) (hR : R.frames = dk + 1 ∧ R.locals = 64 * dk + 64) (hd : 0 + 1 ≤ dk) (hW : (rest.map fun v => v.category).sum ≤ 8) (hf : cells ≤ R.cells ∧ slots ≤ R.slots) {x0 : Nat} {K : Int → Prop} (hg0 : ∃ fs : List PV, gI S x0 = some (.inr (.inl (13, fs)))) (h : w_X13_number x0 S K) (hdg : decode cc pc = .ok (.invokevirtual 239, 3)) (kk : ∀ (r : Int) (H1 : Heap) (locs1 : List Loc), InR r → K r → sI D dA wX ad A H0 S H1 locs1 → W p l e R s m args below meth c H1 locs1 cells slots Q (F0 m (pc + 3) ls (iV r :: rest))) : W p l e R s m args below meth c H locs cells slots Q (F0 m (pc) ls (.ref x0 :: rest)) := s_callVi (As := []) (rest := rest) (K := fun r S' => S' = S ∧ K r) hF (t_X13_number l D dA ad S H.size x0 K h) (by obtain ⟨fs, hg⟩ := hg0; exact s_recvP hK hI hg rfl) (cwV 0 hF.2.2.2.2 (lw_V q976 q977 q978 q137 q979) rfl rfl rfl (by decide +kernel) ⟨by have h1 := hR.1; have h2 : (rmD 0 0 0).frames = 0 + 1 := rfl; omega, by have h1 := hR.2; have h2 : (rmD 0 0 0).locals = 64 * 0 + 64 := rfl; omega⟩) hK hI rfl hls rfl hW hdg hf (fun r S1 H1 locs1 f hk hI1 => by obtain ⟨rfl, hk⟩ := hk; exact kk r H1 locs1 f hk hI1)
theorem gPX0_222 {p : Program} {l : Launch} {e : Env} {R : Room} {s : State} {m : MethodId} {args : Array Value} {below : List Frame} {meth : Method} {c : Code} {H : Heap} {locs : List Loc} {Q : State → Prop} {cc : ByteArray} {nL pc : Nat} {ls : Array Slot} {rest : List Value} {cells slots : Nat} {w : Wd} {D : va_G} {dA : Nat → ClassId} {ad : Nat → Nat} {A : Nat → Prop} {H0 : Heap} {S : St} {q : Nat} {fs : List PV} {v : Option Nat} (hF : CallFix p m c cc nL s args lw_all RX0) (hK : gK D dA s) (hI : sI D dA w ad A H0 S H locs) (hg : gI S q = some (.inr (.inl (4, fs)))) (hv : fs[4]? = some (.inr (.inr v))) (hdg : decode cc pc = .ok (.getfield 222, 3)) (kk : W p l e R s m args below meth c H locs cells slots Q (F0 m (pc + 3) ls (va_rf v :: rest))) : W p l e R s m args below meth c H locs cells slots Q (F0 m (pc) ls (.ref q :: rest)) := s_pgrN hF.1 hF.2.1 hF.2.2.2.2 hF.2.2.2.1 hK hI hg rfl in_X4 4 (by decide) (nFl_11 hK.2) rfl hv hdg kk
set_option maxHeartbeats 4000000 in
theorem t_X_played (l : Launch) (D : va_G) (dA : Nat → ClassId) (ad : Nat → Nat) (S : St) (sz : Nat) (x1 : Int) (K : Int → St → Prop) (rx1 : InR x1) (h : w_X_played x1 S K) : Met l yX0_played (ws_ yX0_played cX0_played 4 (Option.some Jvm.ClassFile.FieldType.int)) (rmD 77 0 0) (va_Pc [.ref (ad 129), iV x1] (sPre D dA wX ad S sz)) (va_Qi (fun r S' => K r.toInt S') (sPost D dA wX ad (wA wX ad S sz)) (wA wX ad S sz)) 0 0 (wA wX ad S sz) := by
  refine Met.ofW (cc := cX0_played) (maxL := 4) (ret := (Option.some Jvm.ClassFile.FieldType.int)) (by decide) rfl ?_
  intro p e s m args below meth c s₁ B hml hv
  obtain ⟨rfl, hsz, hK, hC⟩ := hv
  have hx := B.exec
  have hb := B.bytes
  have hr := B.returns
  have hlocks := B.notSynchronized
  have hts := atoms_spec (ws := (ws_ yX0_played cX0_played 4 (Option.some Jvm.ClassFile.FieldType.int))) B.pre
  have hts : ∀ w ∈ lw_all, w.before _ s = true := fun w h => hts w (List.mem_cons_of_mem _ h)
  have hown : s.vm.findClass RX0 = some m.cls := findClass_of_methodNamed B.named
  clear B
  subst hsz
  have hI : sI D dA wX ad (wA wX ad S s.heap.size) s.heap S s.heap [] := hC.start
  clear hC
  generalize wA wX ad S s.heap.size = A at hI ⊢
  have hl := lv_entry ([.ref (ad 129), iV x1] : List Value) (n := 4) (Nat.le_of_ble_eq_true rfl)
  rw [lg_entry_eq]
  generalize (lg_sl ([.ref (ad 129), iV x1] : List Value) ++ List.replicate (4 - (lg_sl ([.ref (ad 129), iV x1] : List Value)).length) Slot.unset).toArray = ls at hl ⊢
  have hl : lv_has ls 4 [(0, .ref (ad 129)), (1, iV x1)] := hl
  have hF : CallFix p m c cX0_played 4 s _ lw_all RX0 := ⟨hx, hb, hml, hown, hts⟩
  have hR : (headSpec (ws_ yX0_played cX0_played 4 (Option.some Jvm.ClassFile.FieldType.int)) (rmD 77 0 0)).room.frames = 77 + 1 ∧ (headSpec (ws_ yX0_played cX0_played 4 (Option.some Jvm.ClassFile.FieldType.int)) (rmD 77 0 0)).room.locals = 64 * 77 + 64 := ⟨rfl, rfl⟩
  generalize (headSpec (ws_ yX0_played cX0_played 4 (Option.some Jvm.ClassFile.FieldType.int)) (rmD 77 0 0)).room = R at hR ⊢
  generalize ([.ref (ad 129), iV x1] : List Value).toArray = args at hts hF ⊢
  generalize hQ : MQ below _ _ _ _ _ _ = Q
  have L26 : ∀ (x2 : Nat), ∀ (n26 : Nat) (x3 : Int) (S : St) (H : Heap) (locs : List Loc) (ls : Array Slot), InR x3 → sI D dA wX ad A s.heap S H locs → lv_has ls 4 [(0, .ref (ad 129)), (2, .ref x2), (3, iV x3)] → l_X_played_26 x2 K n26 x3 S → W p l e R s m args below meth c H locs 0 0 Q (F0 m 26 ls []) := by
    intro x2 n26
    induction n26 with
    | zero => intro x3 S H locs ls rx3 hI hl h; exact False.elim h
    | succ n26 ih26 =>
      intro x3 S H locs ls rx3 hI hl h
      unfold l_X_played_26 at h
      refine lv_iload_n hx hb dX0_played_26 rfl (lv_at hl 2 rfl) ?_
      refine lv_aload_n hx hb dX0_played_27 rfl (lv_at hl 1 rfl) ?_
      have hr1 := h.1; replace h := h.2
      refine cXX0_226 hF hK hI hl.1 hR (by decide) (Nat.le_of_ble_eq_true rfl) ⟨Nat.zero_le _, Nat.zero_le _⟩ hr1 h dX0_played_28 (fun r2 H locs fr2 h hI => ?_)
      replace h := h fr2
      refine nr_icmp_ge hx hb rx3 fr2 dX0_played_31 (tgt := 67) (by decide) (fun c4 => ?_) (fun c4 => ?_)
      · replace h := h.1 c4
        refine nr_iconst hx hb dX0_played_67 ?_
        rw [← hQ]; exact s_iret (K := K) hx hb hr hlocks hI (by decide) h dX0_played_68
      · replace h := h.2 c4
        refine lv_aload_n hx hb dX0_played_34 rfl (lv_at hl 0 rfl) ?_
        refine lv_aload_n hx hb dX0_played_35 rfl (lv_at hl 1 rfl) ?_
        refine lv_iload_n hx hb dX0_played_36 rfl (lv_at hl 2 rfl) ?_
        have hr5 := h.1; replace h := h.2
        refine cXX0_231 hF hK hI hl.1 hR (by decide) (Nat.le_of_ble_eq_true rfl) ⟨Nat.zero_le _, Nat.zero_le _⟩ hr5 rx3 h dX0_played_37 (fun r6 H locs h hI => ?_)
        obtain ⟨q8, e9, h⟩ := h
        rw [e9]
        show W p l e R s m args below meth c _ _ _ _ Q (F0 m _ ls [.ref q8, .ref (ad 129)])
        have hcst := h.1; replace h := h.2
        refine kPX0_197 hF hK hI hcst dX0_played_40 ?_
        refine cXX0_235 hF hK hI hl.1 hR (by decide) (Nat.le_of_ble_eq_true rfl) ⟨Nat.zero_le _, Nat.zero_le _⟩ h dX0_played_43 (fun r10 S11 H locs fr10 h hI => ?_)
        replace h := h fr10
        have gr10 : InR r10 := kdP_R (k := 2) (by decide) fr10
        refine nr_if_ne hx hb gr10 dX0_played_46 (tgt := 61) (by decide) (fun c12 => ?_) (fun c12 => ?_)
        · replace h := h.1 c12
          have f13 := h.1; replace h := h.2
          refine nr_iinc (lv' := [(3, iV (x3 + 1)), (0, .ref (ad 129)), (2, .ref x2)]) hx hb dX0_played_61 hl (k := 2) rfl (by decide) rfl (fun ls hl => ?_)
          refine lv_goto (tgt := 26) hx hb dX0_played_64 (by decide) ?_
          exact ih26 (x3 + 1) S11 _ _ _ f13 hI (lv_sub hl [1, 2, 0] rfl) h
        · replace h := h.2 c12
          refine lv_aload_n hx hb dX0_played_49 rfl (lv_at hl 1 rfl) ?_
          refine lv_iload_n hx hb dX0_played_50 rfl (lv_at hl 2 rfl) ?_
          have hr14 := h.1; replace h := h.2
          refine cXX0_231 hF hK hI hl.1 hR (by decide) (Nat.le_of_ble_eq_true rfl) ⟨Nat.zero_le _, Nat.zero_le _⟩ hr14 rx3 h dX0_played_51 (fun r15 H locs h hI => ?_)
          obtain ⟨q17, e18, h⟩ := h
          rw [e18]
          show W p l e R s m args below meth c _ _ _ _ Q (F0 m _ ls [.ref q17])
          have hcst := h.1; replace h := h.2
          refine kPX0_197 hF hK hI hcst dX0_played_54 ?_
          have hr19 := h.1; replace h := h.2
          refine cXX0_239 hF hK hI hl.1 hR (by decide) (Nat.le_of_ble_eq_true rfl) ⟨Nat.zero_le _, Nat.zero_le _⟩ hr19 h dX0_played_57 (fun r20 H locs fr20 h hI => ?_)
          replace h := h fr20
          rw [← hQ]; exact s_iret (K := K) hx hb hr hlocks hI fr20 h dX0_played_60
  unfold w_X_played at h
  refine lv_aload_n hx hb dX0_played_0 rfl (lv_at hl 0 rfl) ?_
  refine lv_iload_n hx hb dX0_played_1 rfl (lv_at hl 1 rfl) ?_
  refine cXX0_146 hF hK hI hl.1 hR (by decide) (Nat.le_of_ble_eq_true rfl) ⟨Nat.zero_le _, Nat.zero_le _⟩ rx1 h dX0_played_2 (fun r22 H locs fr22 h hI => ?_)
  replace h := h fr22
  have gr22 : InR r22 := kdP_R (k := 2) (by decide) fr22
  refine nr_if_ne hx hb gr22 dX0_played_5 (tgt := 11) (by decide) (fun c24 => ?_) (fun c24 => ?_)
  · replace h := h.1 c24
    refine lv_aload_n hx hb dX0_played_11 rfl (lv_at hl 0 rfl) ?_
    refine gXX0_12_129 hF hK hI dX0_played_12 ?_
    refine gXX0_127_130 hF hK hI dX0_played_15 ?_
    refine lv_iload_n hx hb dX0_played_18 rfl (lv_at hl 1 rfl) ?_
    have f25 := h.1; replace h := h.2
    refine s_rald hx hb hK hI 140 (by decide) wX_140 rx1 f25 dX0_played_19 ?_
    obtain ⟨q26, e27, h⟩ := h
    rw [e27]
    show W p l e R s m args below meth c _ _ _ _ Q (F0 m _ ls [.ref q26])
    obtain ⟨fs28, v31, hg29, hv30, h⟩ := h
    refine gPX0_222 (v := some v31) hF hK hI hg29 hv30 dX0_played_20 ?_
    show W p l e R s m args below meth c _ _ _ _ Q (F0 m _ ls [.ref v31])
    refine lv_astore_n (lv' := [(2, .ref v31), (0, .ref (ad 129)), (1, iV x1)]) hx hb dX0_played_23 rfl hl (by decide) rfl (fun ls hl => ?_)
    refine nr_iconst hx hb dX0_played_24 ?_
    refine lv_istore_n (lv' := [(3, iV 0), (2, .ref v31), (0, .ref (ad 129)), (1, iV x1)]) hx hb dX0_played_25 rfl hl (by decide) rfl (fun ls hl => ?_)
    obtain ⟨n0, h⟩ := h
    exact L26 v31 n0 0 S _ _ _ (by decide) hI (lv_sub hl [2, 1, 0] rfl) h
  · replace h := h.2 c24
    refine nr_bipush hx hb dX0_played_8 (by decide) ?_
    rw [← hQ]; exact s_iret (K := K) hx hb hr hlocks hI (by decide) h dX0_played_10
theorem cXX0_256 {p : Program} {l : Launch} {e : Env} {R : Room} {s : State} {m : MethodId} {args : Array Value} {below : List Frame} {meth : Method} {c : Code} {H : Heap} {locs : List Loc} {Q : State → Prop} {cc : ByteArray} {nL pc : Nat} {ls : Array Slot} {rest : List Value} {cells slots : Nat} {D : va_G} {dA : Nat → ClassId} {ad : Nat → Nat} {A : Nat → Prop} {H0 : Heap} {S : St} {dk : Nat} (hF : CallFix p m c cc nL s args lw_all RX0) (hK : gK D dA s) (hI : sI D dA wX ad A H0 S H locs) (hls : ls.size = nL) (hR : R.frames = dk + 1 ∧ R.locals = 64 * dk + 64) (hd : 116 + 1 ≤ dk) (hW : (rest.map fun v => v.category).sum ≤ 8) (hf : cells ≤ R.cells ∧ slots ≤ R.slots) {x1 : Int} {K : Int → St → Prop} (r1 : InR x1) (h : w_X_isHoly x1 S K) (hdg : decode cc pc = .ok (.invokevirtual 256, 3)) (kk : ∀ (r : Int) (S1 : St) (H1 : Heap) (locs1 : List Loc), (r = 0 ∨ r = 1) → K r S1 → sI D dA wX ad A H0 S1 H1 locs1 → W p l e R s m args below meth c H1 locs1 cells slots Q (F0 m (pc + 3) ls (iV r :: rest))) : W p l e R s m args below meth c H locs cells slots Q (F0 m (pc) ls (iV x1 :: .ref (ad 129) :: rest)) := s_callVz (As := [iV x1]) (rest := rest) (K := K) hF (t_X_isHoly l D dA ad S H.size x1 K r1 h) (s_recv hK hI 129 (by decide) wX_129 rfl) (cwV 1 hF.2.2.2.2 (lw_V q989 q991 qs34 q106 q992) rfl rfl rfl (by decide +kernel) ⟨by have h1 := hR.1; have h2 : (rmD 116 0 0).frames = 116 + 1 := rfl; omega, by have h1 := hR.2; have h2 : (rmD 116 0 0).locals = 64 * 116 + 64 := rfl; omega⟩) hK hI rfl hls rfl hW hdg hf kk
set_option maxHeartbeats 4000000 in
theorem t_X_of (l : Launch) (D : va_G) (dA : Nat → ClassId) (ad : Nat → Nat) (S : St) (sz : Nat) (x1 : Int) (x2 : Int) (K : Int → St → Prop) (rx1 : InR x1) (rx2 : InR x2) (h : w_X_of x1 x2 S K) : Met l yX0_of (ws_ yX0_of cX0_of 3 (Option.some Jvm.ClassFile.FieldType.int)) (rmD 117 0 0) (va_Pc [.ref (ad 129), iV x1, iV x2] (sPre D dA wX ad S sz)) (va_Qi (fun r S' => K r.toInt S') (sPost D dA wX ad (wA wX ad S sz)) (wA wX ad S sz)) 0 0 (wA wX ad S sz) := by
  refine Met.ofW (cc := cX0_of) (maxL := 3) (ret := (Option.some Jvm.ClassFile.FieldType.int)) (by decide) rfl ?_
  intro p e s m args below meth c s₁ B hml hv
  obtain ⟨rfl, hsz, hK, hC⟩ := hv
  have hx := B.exec
  have hb := B.bytes
  have hr := B.returns
  have hlocks := B.notSynchronized
  have hts := atoms_spec (ws := (ws_ yX0_of cX0_of 3 (Option.some Jvm.ClassFile.FieldType.int))) B.pre
  have hts : ∀ w ∈ lw_all, w.before _ s = true := fun w h => hts w (List.mem_cons_of_mem _ h)
  have hown : s.vm.findClass RX0 = some m.cls := findClass_of_methodNamed B.named
  clear B
  subst hsz
  have hI : sI D dA wX ad (wA wX ad S s.heap.size) s.heap S s.heap [] := hC.start
  clear hC
  generalize wA wX ad S s.heap.size = A at hI ⊢
  have hl := lv_entry ([.ref (ad 129), iV x1, iV x2] : List Value) (n := 3) (Nat.le_of_ble_eq_true rfl)
  rw [lg_entry_eq]
  generalize (lg_sl ([.ref (ad 129), iV x1, iV x2] : List Value) ++ List.replicate (3 - (lg_sl ([.ref (ad 129), iV x1, iV x2] : List Value)).length) Slot.unset).toArray = ls at hl ⊢
  have hl : lv_has ls 3 [(0, .ref (ad 129)), (1, iV x1), (2, iV x2)] := hl
  have hF : CallFix p m c cX0_of 3 s _ lw_all RX0 := ⟨hx, hb, hml, hown, hts⟩
  have hR : (headSpec (ws_ yX0_of cX0_of 3 (Option.some Jvm.ClassFile.FieldType.int)) (rmD 117 0 0)).room.frames = 117 + 1 ∧ (headSpec (ws_ yX0_of cX0_of 3 (Option.some Jvm.ClassFile.FieldType.int)) (rmD 117 0 0)).room.locals = 64 * 117 + 64 := ⟨rfl, rfl⟩
  generalize (headSpec (ws_ yX0_of cX0_of 3 (Option.some Jvm.ClassFile.FieldType.int)) (rmD 117 0 0)).room = R at hR ⊢
  generalize ([.ref (ad 129), iV x1, iV x2] : List Value).toArray = args at hts hF ⊢
  generalize hQ : MQ below _ _ _ _ _ _ = Q
  unfold w_X_of at h
  refine lv_aload_n hx hb dX0_of_0 rfl (lv_at hl 0 rfl) ?_
  refine lv_iload_n hx hb dX0_of_1 rfl (lv_at hl 1 rfl) ?_
  refine cXX0_110 hF hK hI hl.1 hR (by decide) (Nat.le_of_ble_eq_true rfl) ⟨Nat.zero_le _, Nat.zero_le _⟩ rx1 h dX0_of_2 (fun r1 H locs fr1 h hI => ?_)
  replace h := h fr1
  have gr1 : InR r1 := kdP_R (k := 2) (by decide) fr1
  refine nr_if_eq hx hb gr1 dX0_of_5 (tgt := 18) (by decide) (fun c3 => ?_) (fun c3 => ?_)
  · replace h := h.1 c3
    refine nr_bipush hx hb dX0_of_18 (by decide) ?_
    rw [← hQ]; exact s_iret (K := K) hx hb hr hlocks hI (by decide) h dX0_of_20
  · replace h := h.2 c3
    refine lv_iload_n hx hb dX0_of_8 rfl (lv_at hl 2 rfl) ?_
    refine nr_iconst hx hb dX0_of_9 ?_
    refine nr_bipush hx hb dX0_of_10 (by decide) ?_
    refine cXX0_74 hF hK hI hl.1 hR (by decide) (Nat.le_of_ble_eq_true rfl) ⟨Nat.zero_le _, Nat.zero_le _⟩ rx2 (by decide) (by decide) h dX0_of_12 (fun r4 H locs fr4 h hI => ?_)
    replace h := h fr4
    have gr4 : InR r4 := kdP_R (k := 2) (by decide) fr4
    refine nr_if_ne hx hb gr4 dX0_of_15 (tgt := 21) (by decide) (fun c6 => ?_) (fun c6 => ?_)
    · replace h := h.1 c6
      refine lv_iload_n hx hb dX0_of_21 rfl (lv_at hl 2 rfl) ?_
      refine nr_iconst hx hb dX0_of_22 ?_
      refine nr_icmp_ge hx hb rx2 (by decide) dX0_of_23 (tgt := 35) (by decide) (fun c7 => ?_) (fun c7 => ?_)
      · replace h := h.1 c7
        refine lv_iload_n hx hb dX0_of_35 rfl (lv_at hl 2 rfl) ?_
        refine nr_iconst hx hb dX0_of_36 ?_
        refine nr_icmp_ne hx hb rx2 (by decide) dX0_of_37 (tgt := 48) (by decide) (fun c8 => ?_) (fun c8 => ?_)
        · replace h := h.1 c8
          refine lv_aload_n hx hb dX0_of_48 rfl (lv_at hl 0 rfl) ?_
          refine lv_iload_n hx hb dX0_of_49 rfl (lv_at hl 1 rfl) ?_
          refine cXX0_256 hF hK hI hl.1 hR (by decide) (Nat.le_of_ble_eq_true rfl) ⟨Nat.zero_le _, Nat.zero_le _⟩ rx1 h dX0_of_50 (fun r9 S10 H locs fr9 h hI => ?_)
          replace h := h fr9
          have gr9 : InR r9 := kdP_R (k := 2) (by decide) fr9
          refine nr_if_eq hx hb gr9 dX0_of_53 (tgt := 60) (by decide) (fun c11 => ?_) (fun c11 => ?_)
          · replace h := h.1 c11
            refine nr_iconst hx hb dX0_of_60 ?_
            rw [← hQ]; exact s_iret (K := K) hx hb hr hlocks hI (by decide) h dX0_of_61
          · replace h := h.2 c11
            refine nr_iconst hx hb dX0_of_56 ?_
            refine lv_goto (tgt := 61) hx hb dX0_of_57 (by decide) ?_
            rw [← hQ]; exact s_iret (K := K) hx hb hr hlocks hI (by decide) h dX0_of_61
        · replace h := h.2 c8
          refine lv_aload_n hx hb dX0_of_40 rfl (lv_at hl 0 rfl) ?_
          refine lv_iload_n hx hb dX0_of_41 rfl (lv_at hl 1 rfl) ?_
          refine cXX0_153 hF hK hI hl.1 hR (by decide) (Nat.le_of_ble_eq_true rfl) ⟨Nat.zero_le _, Nat.zero_le _⟩ rx1 h dX0_of_42 (fun r12 H locs fr12 h hI => ?_)
          replace h := h fr12
          refine lv_goto (tgt := 61) hx hb dX0_of_45 (by decide) ?_
          rw [← hQ]; exact s_iret (K := K) hx hb hr hlocks hI fr12 h dX0_of_61
      · replace h := h.2 c7
        refine lv_aload_n hx hb dX0_of_26 rfl (lv_at hl 0 rfl) ?_
        refine lv_iload_n hx hb dX0_of_27 rfl (lv_at hl 1 rfl) ?_
        refine lv_iload_n hx hb dX0_of_28 rfl (lv_at hl 2 rfl) ?_
        refine cXX0_149 hF hK hI hl.1 hR (by decide) (Nat.le_of_ble_eq_true rfl) ⟨Nat.zero_le _, Nat.zero_le _⟩ rx1 rx2 h dX0_of_29 (fun r14 H locs fr14 h hI => ?_)
        replace h := h fr14
        refine lv_goto (tgt := 61) hx hb dX0_of_32 (by decide) ?_
        rw [← hQ]; exact s_iret (K := K) hx hb hr hlocks hI fr14 h dX0_of_61
    · replace h := h.2 c6
      refine nr_bipush hx hb dX0_of_18 (by decide) ?_
      rw [← hQ]; exact s_iret (K := K) hx hb hr hlocks hI (by decide) h dX0_of_20
theorem gXX0_37_129 {p : Program} {l : Launch} {e : Env} {R : Room} {s : State} {m : MethodId} {args : Array Value} {below : List Frame} {meth : Method} {c : Code} {H : Heap} {locs : List Loc} {Q : State → Prop} {cc : ByteArray} {nL pc : Nat} {ls : Array Slot} {rest : List Value} {cells slots : Nat} {D : va_G} {dA : Nat → ClassId} {ad : Nat → Nat} {A : Nat → Prop} {H0 : Heap} {S : St} (hF : CallFix p m c cc nL s args lw_all RX0) (hK : gK D dA s) (hI : sI D dA wX ad A H0 S H locs) (hdg : decode cc pc = .ok (.getfield 37, 3)) (kk : W p l e R s m args below meth c H locs cells slots Q (F0 m (pc + 3) ls (.ref (ad 11) :: rest))) : W p l e R s m args below meth c H locs cells slots Q (F0 m (pc) ls (.ref (ad 129) :: rest)) := s_getr hF.1 hF.2.1 hF.2.2.2.2 hF.2.2.2.1 hK hI 129 (by decide) wX_129 rfl in_X0 8 (by decide) q212 rfl 11 rfl hdg kk
theorem gXX0_42_129 {p : Program} {l : Launch} {e : Env} {R : Room} {s : State} {m : MethodId} {args : Array Value} {below : List Frame} {meth : Method} {c : Code} {H : Heap} {locs : List Loc} {Q : State → Prop} {cc : ByteArray} {nL pc : Nat} {ls : Array Slot} {rest : List Value} {cells slots : Nat} {D : va_G} {dA : Nat → ClassId} {ad : Nat → Nat} {A : Nat → Prop} {H0 : Heap} {S : St} (hF : CallFix p m c cc nL s args lw_all RX0) (hK : gK D dA s) (hI : sI D dA wX ad A H0 S H locs) (hdg : decode cc pc = .ok (.getfield 42, 3)) (kk : W p l e R s m args below meth c H locs cells slots Q (F0 m (pc + 3) ls (.ref (ad 136) :: rest))) : W p l e R s m args below meth c H locs cells slots Q (F0 m (pc) ls (.ref (ad 129) :: rest)) := s_getr hF.1 hF.2.1 hF.2.2.2.2 hF.2.2.2.1 hK hI 129 (by decide) wX_129 rfl in_X0 9 (by decide) q213 rfl 136 rfl hdg kk
theorem cXX0_274_r {p : Program} {l : Launch} {e : Env} {R : Room} {s : State} {m : MethodId} {args : Array Value} {below : List Frame} {meth : Method} {c : Code} {H : Heap} {locs : List Loc} {Q : State → Prop} {cc : ByteArray} {nL pc : Nat} {ls : Array Slot} {rest : List Value} {cells slots : Nat} {D : va_G} {dA : Nat → ClassId} {ad : Nat → Nat} {A : Nat → Prop} {H0 : Heap} {S : St} {dk : Nat} {d : Nat} {W0 : Int → Int → St → (Int → St → Prop) → Prop} (ihd : ∀ (S : St) (sz : Nat) (x1 : Int) (x2 : Int) (K : Int → St → Prop), InR x1 → InR x2 → W0 x1 x2 S K → Met l yX0_shares (ws_ yX0_shares cX0_shares 7 (Option.some Jvm.ClassFile.FieldType.boolean)) (rmD (2 + d) 0 0) (va_Pc [.ref (ad 129), iV x1, iV x2] (sPre D dA wX ad S sz)) (va_Qi (fun r S' => (r.toInt = 0 ∨ r.toInt = 1) ∧ (K r.toInt S')) (sPost D dA wX ad (wA wX ad S sz)) (wA wX ad S sz)) 0 0 (wA wX ad S sz)) (hF : CallFix p m c cc nL s args lw_all RX0) (hK : gK D dA s) (hI : sI D dA wX ad A H0 S H locs) (hls : ls.size = nL) (hR : R.frames = dk + 1 ∧ R.locals = 64 * dk + 64) (hd : 2 + d + 1 ≤ dk) (hW : (rest.map fun v => v.category).sum ≤ 8) (hf : cells ≤ R.cells ∧ slots ≤ R.slots) {x1 : Int} {x2 : Int} {K : Int → St → Prop} (r1 : InR x1) (r2 : InR x2) (h : W0 x1 x2 S K) (hdg : decode cc pc = .ok (.invokevirtual 274, 3)) (kk : ∀ (r : Int) (S1 : St) (H1 : Heap) (locs1 : List Loc), (r = 0 ∨ r = 1) → K r S1 → sI D dA wX ad A H0 S1 H1 locs1 → W p l e R s m args below meth c H1 locs1 cells slots Q (F0 m (pc + 3) ls (iV r :: rest))) : W p l e R s m args below meth c H locs cells slots Q (F0 m (pc) ls (iV x2 :: iV x1 :: .ref (ad 129) :: rest)) := s_callVz (As := [iV x1, iV x2]) (rest := rest) (K := K) hF (ihd S H.size x1 x2 K r1 r2 h) (s_recv hK hI 129 (by decide) wX_129 rfl) (cwV 2 hF.2.2.2.2 (lw_V q1039 q1041 qs37 q106 q1042) rfl rfl rfl (by decide +kernel) ⟨by have h1 := hR.1; have h2 : (rmD (2 + d) 0 0).frames = (2 + d) + 1 := rfl; omega, by have h1 := hR.2; have h2 : (rmD (2 + d) 0 0).locals = 64 * (2 + d) + 64 := rfl; omega⟩) hK hI rfl hls rfl hW hdg hf kk
theorem gXX0_47_129 {p : Program} {l : Launch} {e : Env} {R : Room} {s : State} {m : MethodId} {args : Array Value} {below : List Frame} {meth : Method} {c : Code} {H : Heap} {locs : List Loc} {Q : State → Prop} {cc : ByteArray} {nL pc : Nat} {ls : Array Slot} {rest : List Value} {cells slots : Nat} {D : va_G} {dA : Nat → ClassId} {ad : Nat → Nat} {A : Nat → Prop} {H0 : Heap} {S : St} (hF : CallFix p m c cc nL s args lw_all RX0) (hK : gK D dA s) (hI : sI D dA wX ad A H0 S H locs) (hdg : decode cc pc = .ok (.getfield 47, 3)) (kk : W p l e R s m args below meth c H locs cells slots Q (F0 m (pc + 3) ls (.ref (ad 137) :: rest))) : W p l e R s m args below meth c H locs cells slots Q (F0 m (pc) ls (.ref (ad 129) :: rest)) := s_getr hF.1 hF.2.1 hF.2.2.2.2 hF.2.2.2.1 hK hI 129 (by decide) wX_129 rfl in_X0 10 (by decide) q214 rfl 137 rfl hdg kk
theorem gXX0_268_129 {p : Program} {l : Launch} {e : Env} {R : Room} {s : State} {m : MethodId} {args : Array Value} {below : List Frame} {meth : Method} {c : Code} {H : Heap} {locs : List Loc} {Q : State → Prop} {cc : ByteArray} {nL pc : Nat} {ls : Array Slot} {rest : List Value} {cells slots : Nat} {D : va_G} {dA : Nat → ClassId} {ad : Nat → Nat} {A : Nat → Prop} {H0 : Heap} {S : St} (hF : CallFix p m c cc nL s args lw_all RX0) (hK : gK D dA s) (hI : sI D dA wX ad A H0 S H locs) (hdg : decode cc pc = .ok (.getfield 268, 3)) (kk : InR (fI S 12) → W p l e R s m args below meth c H locs cells slots Q (F0 m (pc + 3) ls (iV (fI S 12) :: rest))) : W p l e R s m args below meth c H locs cells slots Q (F0 m (pc) ls (.ref (ad 129) :: rest)) := s_geti hF.1 hF.2.1 hF.2.2.2.2 hF.2.2.2.1 hK hI 129 (by decide) wX_129 rfl in_X0 12 (by decide) q216 rfl 0 12 rfl (by decide) hdg (kk (kdP_R (k := 0) (by decide) (hI.1.2.2.2.1.1 12)))
theorem cXX0_271 {p : Program} {l : Launch} {e : Env} {R : Room} {s : State} {m : MethodId} {args : Array Value} {below : List Frame} {meth : Method} {c : Code} {H : Heap} {locs : List Loc} {Q : State → Prop} {cc : ByteArray} {nL pc : Nat} {ls : Array Slot} {rest : List Value} {cells slots : Nat} {D : va_G} {dA : Nat → ClassId} {ad : Nat → Nat} {A : Nat → Prop} {H0 : Heap} {S : St} {dk : Nat} (hF : CallFix p m c cc nL s args lw_all RX0) (hK : gK D dA s) (hI : sI D dA wX ad A H0 S H locs) (hls : ls.size = nL) (hR : R.frames = dk + 1 ∧ R.locals = 64 * dk + 64) (hd : 1 + 1 ≤ dk) (hW : (rest.map fun v => v.category).sum ≤ 8) (hf : cells ≤ R.cells ∧ slots ≤ R.slots) {x1 : Int} {K : Int → Prop} (r1 : InR x1) (h : w_X_manyOf x1 S K) (hdg : decode cc pc = .ok (.invokevirtual 271, 3)) (kk : ∀ (r : Int) (H1 : Heap) (locs1 : List Loc), InR r → K r → sI D dA wX ad A H0 S H1 locs1 → W p l e R s m args below meth c H1 locs1 cells slots Q (F0 m (pc + 3) ls (iV r :: rest))) : W p l e R s m args below meth c H locs cells slots Q (F0 m (pc) ls (iV x1 :: .ref (ad 129) :: rest)) := s_callVi (As := [iV x1]) (rest := rest) (K := fun r S' => S' = S ∧ K r) hF (t_X_manyOf l D dA ad S H.size x1 K r1 h) (s_recv hK hI 129 (by decide) wX_129 rfl) (cwV 1 hF.2.2.2.2 (lw_V q1043 q1045 qs38 q106 q1046) rfl rfl rfl (by decide +kernel) ⟨by have h1 := hR.1; have h2 : (rmD 1 0 0).frames = 1 + 1 := rfl; omega, by have h1 := hR.2; have h2 : (rmD 1 0 0).locals = 64 * 1 + 64 := rfl; omega⟩) hK hI rfl hls rfl hW hdg hf (fun r S1 H1 locs1 f hk hI1 => by obtain ⟨rfl, hk⟩ := hk; exact kk r H1 locs1 f hk hI1)
theorem gXX0_265_129 {p : Program} {l : Launch} {e : Env} {R : Room} {s : State} {m : MethodId} {args : Array Value} {below : List Frame} {meth : Method} {c : Code} {H : Heap} {locs : List Loc} {Q : State → Prop} {cc : ByteArray} {nL pc : Nat} {ls : Array Slot} {rest : List Value} {cells slots : Nat} {D : va_G} {dA : Nat → ClassId} {ad : Nat → Nat} {A : Nat → Prop} {H0 : Heap} {S : St} (hF : CallFix p m c cc nL s args lw_all RX0) (hK : gK D dA s) (hI : sI D dA wX ad A H0 S H locs) (hdg : decode cc pc = .ok (.getfield 265, 3)) (kk : InR (fI S 11) → W p l e R s m args below meth c H locs cells slots Q (F0 m (pc + 3) ls (iV (fI S 11) :: rest))) : W p l e R s m args below meth c H locs cells slots Q (F0 m (pc) ls (.ref (ad 129) :: rest)) := s_geti hF.1 hF.2.1 hF.2.2.2.2 hF.2.2.2.1 hK hI 129 (by decide) wX_129 rfl in_X0 11 (by decide) q215 rfl 0 11 rfl (by decide) hdg (kk (kdP_R (k := 0) (by decide) (hI.1.2.2.2.1.1 11)))
theorem gXX0_34_129 {p : Program} {l : Launch} {e : Env} {R : Room} {s : State} {m : MethodId} {args : Array Value} {below : List Frame} {meth : Method} {c : Code} {H : Heap} {locs : List Loc} {Q : State → Prop} {cc : ByteArray} {nL pc : Nat} {ls : Array Slot} {rest : List Value} {cells slots : Nat} {D : va_G} {dA : Nat → ClassId} {ad : Nat → Nat} {A : Nat → Prop} {H0 : Heap} {S : St} (hF : CallFix p m c cc nL s args lw_all RX0) (hK : gK D dA s) (hI : sI D dA wX ad A H0 S H locs) (hdg : decode cc pc = .ok (.getfield 34, 3)) (kk : W p l e R s m args below meth c H locs cells slots Q (F0 m (pc + 3) ls (.ref (ad 10) :: rest))) : W p l e R s m args below meth c H locs cells slots Q (F0 m (pc) ls (.ref (ad 129) :: rest)) := s_getr hF.1 hF.2.1 hF.2.2.2.2 hF.2.2.2.1 hK hI 129 (by decide) wX_129 rfl in_X0 7 (by decide) q211 rfl 10 rfl hdg kk
set_option maxHeartbeats 4000000 in
theorem t_X_shares (l : Launch) : ∀ (d : Nat) (D : va_G) (dA : Nat → ClassId) (ad : Nat → Nat) (S : St) (sz : Nat) (x1 : Int) (x2 : Int) (K : Int → St → Prop) (rx1 : InR x1) (rx2 : InR x2) (h : w_X_shares d x1 x2 S K), Met l yX0_shares (ws_ yX0_shares cX0_shares 7 (Option.some Jvm.ClassFile.FieldType.boolean)) (rmD (2 + d) 0 0) (va_Pc [.ref (ad 129), iV x1, iV x2] (sPre D dA wX ad S sz)) (va_Qi (fun r S' => (r.toInt = 0 ∨ r.toInt = 1) ∧ (K r.toInt S')) (sPost D dA wX ad (wA wX ad S sz)) (wA wX ad S sz)) 0 0 (wA wX ad S sz) := by
  intro d
  induction d with
  | zero => intro D dA ad S sz x1 x2 K rx1 rx2 h; exact False.elim h
  | succ d ihd0 =>
  intro D dA ad S sz x1 x2 K rx1 rx2 h
  have h : b_X_shares (w_X_shares d) x1 x2 S K := h
  have ihd := ihd0 D dA ad
  clear ihd0
  generalize w_X_shares d = W0 at h ihd
  refine Met.ofW (cc := cX0_shares) (maxL := 7) (ret := (Option.some Jvm.ClassFile.FieldType.boolean)) (by decide) rfl ?_
  intro p e s m args below meth c s₁ B hml hv
  obtain ⟨rfl, hsz, hK, hC⟩ := hv
  have hx := B.exec
  have hb := B.bytes
  have hr := B.returns
  have hlocks := B.notSynchronized
  have hts := atoms_spec (ws := (ws_ yX0_shares cX0_shares 7 (Option.some Jvm.ClassFile.FieldType.boolean))) B.pre
  have hts : ∀ w ∈ lw_all, w.before _ s = true := fun w h => hts w (List.mem_cons_of_mem _ h)
  have hown : s.vm.findClass RX0 = some m.cls := findClass_of_methodNamed B.named
  clear B
  subst hsz
  have hI : sI D dA wX ad (wA wX ad S s.heap.size) s.heap S s.heap [] := hC.start
  clear hC
  generalize wA wX ad S s.heap.size = A at hI ⊢
  have hl := lv_entry ([.ref (ad 129), iV x1, iV x2] : List Value) (n := 7) (Nat.le_of_ble_eq_true rfl)
  rw [lg_entry_eq]
  generalize (lg_sl ([.ref (ad 129), iV x1, iV x2] : List Value) ++ List.replicate (7 - (lg_sl ([.ref (ad 129), iV x1, iV x2] : List Value)).length) Slot.unset).toArray = ls at hl ⊢
  have hl : lv_has ls 7 [(0, .ref (ad 129)), (1, iV x1), (2, iV x2)] := hl
  have hF : CallFix p m c cX0_shares 7 s _ lw_all RX0 := ⟨hx, hb, hml, hown, hts⟩
  have hR : (headSpec (ws_ yX0_shares cX0_shares 7 (Option.some Jvm.ClassFile.FieldType.boolean)) (rmD (2 + (d + 1)) 0 0)).room.frames = (2 + (d + 1)) + 1 ∧ (headSpec (ws_ yX0_shares cX0_shares 7 (Option.some Jvm.ClassFile.FieldType.boolean)) (rmD (2 + (d + 1)) 0 0)).room.locals = 64 * (2 + (d + 1)) + 64 := ⟨rfl, rfl⟩
  generalize (headSpec (ws_ yX0_shares cX0_shares 7 (Option.some Jvm.ClassFile.FieldType.boolean)) (rmD (2 + (d + 1)) 0 0)).room = R at hR ⊢
  generalize ([.ref (ad 129), iV x1, iV x2] : List Value).toArray = args at hts hF ⊢
  generalize hQ : MQ below _ _ _ _ _ _ = Q
  have L25 : ∀ (x1 : Int) (x2 : Int) (x3 : Int), InR x1 → InR x2 → InR x3 → ∀ (n25 : Nat) (x4 : Int) (S : St) (H : Heap) (locs : List Loc) (ls : Array Slot), InR x4 → sI D dA wX ad A s.heap S H locs → lv_has ls 7 [(0, .ref (ad 129)), (1, iV x1), (2, iV x2), (3, iV x3), (4, iV x4)] → l_X_shares_25 W0 x1 x2 x3 K n25 x4 S → W p l e R s m args below meth c H locs 0 0 Q (F0 m 25 ls []) := by
    intro x1 x2 x3 rx1 rx2 rx3 n25
    induction n25 with
    | zero => intro x4 S H locs ls rx4 hI hl h; exact False.elim h
    | succ n25 ih25 =>
      intro x4 S H locs ls rx4 hI hl h
      have J177 : ∀ (x4 : Int) (S : St) (H : Heap) (locs : List Loc) (ls : Array Slot), InR x4 → sI D dA wX ad A s.heap S H locs → lv_has ls 7 [(0, .ref (ad 129)), (1, iV x1), (2, iV x2), (3, iV x3), (4, iV x4)] → j_X_shares_177 W0 x1 x2 x3 x4 S K (l_X_shares_25 W0 x1 x2 x3 K n25) → W p l e R s m args below meth c H locs 0 0 Q (F0 m 177 ls []) := by
        intro x4 S H locs ls rx4 hI hl h
        unfold j_X_shares_177 at h
        have f1 := h.1; replace h := h.2
        refine nr_iinc (lv' := [(4, iV (x4 + 1)), (0, .ref (ad 129)), (1, iV x1), (2, iV x2), (3, iV x3)]) hx hb dX0_shares_177 hl (k := 4) rfl (by decide) rfl (fun ls hl => ?_)
        refine lv_goto (tgt := 25) hx hb dX0_shares_180 (by decide) ?_
        exact ih25 (x4 + 1) S _ _ _ f1 hI (lv_sub hl [1, 2, 3, 4, 0] rfl) h
      have J115 : ∀ (x4 : Int) (x5 : Int) (S : St) (H : Heap) (locs : List Loc) (ls : Array Slot), InR x4 → InR x5 → sI D dA wX ad A s.heap S H locs → lv_has ls 7 [(0, .ref (ad 129)), (1, iV x1), (2, iV x2), (3, iV x3), (4, iV x4), (5, iV x5)] → j_X_shares_115 W0 x1 x2 x3 x4 x5 S K (l_X_shares_25 W0 x1 x2 x3 K n25) → W p l e R s m args below meth c H locs 0 0 Q (F0 m 115 ls []) := by
        intro x4 x5 S H locs ls rx4 rx5 hI hl h
        unfold j_X_shares_115 at h
        refine lv_iload hx hb dX0_shares_115 (lv_at hl 5 rfl) ?_
        refine nr_if_ne hx hb rx5 dX0_shares_117 (tgt := 123) (by decide) (fun c2 => ?_) (fun c2 => ?_)
        · replace h := h.1 c2
          refine lv_aload_n hx hb dX0_shares_123 rfl (lv_at hl 0 rfl) ?_
          refine gXX0_37_129 hF hK hI dX0_shares_124 ?_
          refine lv_iload_n hx hb dX0_shares_127 rfl (lv_at hl 1 rfl) ?_
          refine lv_iload hx hb dX0_shares_128 (lv_at hl 4 rfl) ?_
          have f3 := h.1; replace h := h.2
          refine s_iast hx hb hK hI 11 (by decide) wX_11 rx1 f3 rx4 dX0_shares_130 (fun S4 H locs eS4 hI => ?_)
          replace h := h S4 eS4
          refine lv_aload_n hx hb dX0_shares_131 rfl (lv_at hl 0 rfl) ?_
          refine gXX0_42_129 hF hK hI dX0_shares_132 ?_
          refine lv_iload hx hb dX0_shares_135 (lv_at hl 4 rfl) ?_
          have f5 := h.1; replace h := h.2
          refine s_aald hx hb hK hI 136 (by decide) wX_136 ⟨rfl, rfl⟩ rx4 f5 dX0_shares_137 ?_
          refine lv_iload_n hx hb dX0_shares_138 rfl (lv_at hl 3 rfl) ?_
          refine lv_dup2_11 hx hb dX0_shares_139 rfl rfl ?_
          have f6 := h.1; replace h := h.2
          refine s_iald hx hb hK hI (79 + Int.toNat x4) (wX_rk136 f5) (wX_rw136 f5) rx3 f6 dX0_shares_140 (fun f7 => ?_)
          replace h := h f7
          refine nr_iconst hx hb dX0_shares_141 ?_
          have f8 := h.1; replace h := h.2
          refine nr_iadd hx hb dX0_shares_142 ?_
          have f9 := h.1; replace h := h.2
          refine s_iast hx hb hK hI (79 + Int.toNat x4) (wX_rk136 f5) (wX_rw136 f5) rx3 f9 f8 dX0_shares_143 (fun S10 H locs eS10 hI => ?_)
          replace h := h S10 eS10
          refine lv_aload_n hx hb dX0_shares_144 rfl (lv_at hl 0 rfl) ?_
          refine lv_iload_n hx hb dX0_shares_145 rfl (lv_at hl 1 rfl) ?_
          refine nr_iconst hx hb dX0_shares_146 ?_
          have f11 := h.1; replace h := h.2
          refine nr_iadd hx hb dX0_shares_147 ?_
          refine lv_iload_n hx hb dX0_shares_148 rfl (lv_at hl 2 rfl) ?_
          refine lv_iload hx hb dX0_shares_149 (lv_at hl 4 rfl) ?_
          refine nr_iconst hx hb dX0_shares_151 ?_
          have f12 := h.1; replace h := h.2
          refine nr_iadd hx hb dX0_shares_152 ?_
          refine s_max hx hb (hl.1.trans hml.symm) hown hts q944 q677 q119 q678 (by have h1 := hR.1; have h2 := hR.2; omega) ⟨Nat.zero_le _, Nat.zero_le _⟩ (Nat.le_of_ble_eq_true rfl) rx2 f12 dX0_shares_153 ?_
          have f13 : InR (max x2 (x4 + 1)) := nr_mxR rx2 f12
          refine cXX0_274_r ihd hF hK hI hl.1 hR (by omega) (Nat.le_of_ble_eq_true rfl) ⟨Nat.zero_le _, Nat.zero_le _⟩ f11 f13 h dX0_shares_156 (fun r14 S15 H locs fr14 h hI => ?_)
          replace h := h fr14
          have gr14 : InR r14 := kdP_R (k := 2) (by decide) fr14
          refine nr_if_eq hx hb gr14 dX0_shares_159 (tgt := 164) (by decide) (fun c16 => ?_) (fun c16 => ?_)
          · replace h := h.1 c16
            refine lv_aload_n hx hb dX0_shares_164 rfl (lv_at hl 0 rfl) ?_
            refine gXX0_42_129 hF hK hI dX0_shares_165 ?_
            refine lv_iload hx hb dX0_shares_168 (lv_at hl 4 rfl) ?_
            have f17 := h.1; replace h := h.2
            refine s_aald hx hb hK hI 136 (by decide) wX_136 ⟨rfl, rfl⟩ rx4 f17 dX0_shares_170 ?_
            refine lv_iload_n hx hb dX0_shares_171 rfl (lv_at hl 3 rfl) ?_
            refine lv_dup2_11 hx hb dX0_shares_172 rfl rfl ?_
            have f18 := h.1; replace h := h.2
            refine s_iald hx hb hK hI (79 + Int.toNat x4) (wX_rk136 f17) (wX_rw136 f17) rx3 f18 dX0_shares_173 (fun f19 => ?_)
            replace h := h f19
            refine nr_iconst hx hb dX0_shares_174 ?_
            have f20 := h.1; replace h := h.2
            refine nr_isub hx hb dX0_shares_175 ?_
            have f21 := h.1; replace h := h.2
            refine s_iast hx hb hK hI (79 + Int.toNat x4) (wX_rk136 f17) (wX_rw136 f17) rx3 f21 f20 dX0_shares_176 (fun S22 H locs eS22 hI => ?_)
            replace h := h S22 eS22
            exact J177 x4 S22 _ _ _ rx4 hI (lv_sub hl [0, 1, 2, 3, 4] rfl) h
          · replace h := h.2 c16
            refine nr_iconst hx hb dX0_shares_162 ?_
            rw [← hQ]; exact s_zret (K := K) hx hb hr hlocks hI (by decide) h dX0_shares_163
        · replace h := h.2 c2
          refine lv_goto (tgt := 177) hx hb dX0_shares_120 (by decide) ?_
          exact J177 x4 S _ _ _ rx4 hI (lv_sub hl [0, 1, 2, 3, 4] rfl) h
      have L67 : ∀ (x4 : Int) (S : St), InR x4 → ∀ (n67 : Nat) (x5 : Int) (x6 : Int) (H : Heap) (locs : List Loc) (ls : Array Slot), InR x5 → InR x6 → sI D dA wX ad A s.heap S H locs → lv_has ls 7 [(0, .ref (ad 129)), (1, iV x1), (2, iV x2), (3, iV x3), (4, iV x4), (5, iV x5), (6, iV x6)] → l_X_shares_67 W0 x1 x2 x3 x4 S K (fun (z5 : Int) => j_X_shares_115 W0 x1 x2 x3 x4 z5 S K (l_X_shares_25 W0 x1 x2 x3 K n25)) n67 x5 x6 → W p l e R s m args below meth c H locs 0 0 Q (F0 m 67 ls []) := by
        intro x4 S rx4 n67
        induction n67 with
        | zero => intro x5 x6 H locs ls rx5 rx6 hI hl h; exact False.elim h
        | succ n67 ih67 =>
          intro x5 x6 H locs ls rx5 rx6 hI hl h
          have J107 : ∀ (x6 : Int) (y0 : Int) (H : Heap) (locs : List Loc) (ls : Array Slot), InR x6 → InR y0 → sI D dA wX ad A s.heap S H locs → lv_has ls 7 [(0, .ref (ad 129)), (1, iV x1), (2, iV x2), (3, iV x3), (4, iV x4), (6, iV x6)] → j_X_shares_107 W0 x1 x2 x3 x4 x6 y0 S K (fun (z5 : Int) => j_X_shares_115 W0 x1 x2 x3 x4 z5 S K (l_X_shares_25 W0 x1 x2 x3 K n25)) (l_X_shares_67 W0 x1 x2 x3 x4 S K (fun (z5 : Int) => j_X_shares_115 W0 x1 x2 x3 x4 z5 S K (l_X_shares_25 W0 x1 x2 x3 K n25)) n67) → W p l e R s m args below meth c H locs 0 0 Q (F0 m 107 ls [iV y0]) := by
            intro x6 y0 H locs ls rx6 ry0 hI hl h
            unfold j_X_shares_107 at h
            refine lv_istore (lv' := [(5, iV y0), (0, .ref (ad 129)), (1, iV x1), (2, iV x2), (3, iV x3), (4, iV x4), (6, iV x6)]) hx hb dX0_shares_107 hl (by decide) rfl (fun ls hl => ?_)
            have f23 := h.1; replace h := h.2
            refine nr_iinc (lv' := [(6, iV (x6 + 1)), (5, iV y0), (0, .ref (ad 129)), (1, iV x1), (2, iV x2), (3, iV x3), (4, iV x4)]) hx hb dX0_shares_109 hl (k := 6) rfl (by decide) rfl (fun ls hl => ?_)
            refine lv_goto (tgt := 67) hx hb dX0_shares_112 (by decide) ?_
            exact ih67 y0 (x6 + 1) _ _ _ ry0 f23 hI (lv_sub hl [2, 3, 4, 5, 6, 1, 0] rfl) h
          have J102 : ∀ (x6 : Int) (H : Heap) (locs : List Loc) (ls : Array Slot), InR x6 → sI D dA wX ad A s.heap S H locs → lv_has ls 7 [(0, .ref (ad 129)), (1, iV x1), (2, iV x2), (3, iV x3), (4, iV x4), (6, iV x6)] → j_X_shares_102 W0 x1 x2 x3 x4 x6 S K (fun (z5 : Int) => j_X_shares_115 W0 x1 x2 x3 x4 z5 S K (l_X_shares_25 W0 x1 x2 x3 K n25)) (l_X_shares_67 W0 x1 x2 x3 x4 S K (fun (z5 : Int) => j_X_shares_115 W0 x1 x2 x3 x4 z5 S K (l_X_shares_25 W0 x1 x2 x3 K n25)) n67) → W p l e R s m args below meth c H locs 0 0 Q (F0 m 102 ls []) := by
            intro x6 H locs ls rx6 hI hl h
            unfold j_X_shares_102 at h
            refine nr_iconst hx hb dX0_shares_102 ?_
            refine lv_goto (tgt := 107) hx hb dX0_shares_103 (by decide) ?_
            exact J107 x6 1 _ _ _ rx6 (by decide) hI (lv_sub hl [0, 1, 2, 3, 4, 5] rfl) h
          unfold l_X_shares_67 at h
          refine lv_iload hx hb dX0_shares_67 (lv_at hl 6 rfl) ?_
          refine lv_iload_n hx hb dX0_shares_69 rfl (lv_at hl 1 rfl) ?_
          refine nr_icmp_ge hx hb rx6 rx1 dX0_shares_70 (tgt := 115) (by decide) (fun c24 => ?_) (fun c24 => ?_)
          · replace h := h.1 c24
            exact J115 x4 x5 S _ _ _ rx4 rx5 hI (lv_sub hl [0, 1, 2, 3, 4, 5] rfl) h
          · replace h := h.2 c24
            refine lv_iload hx hb dX0_shares_73 (lv_at hl 5 rfl) ?_
            refine nr_if_eq hx hb rx5 dX0_shares_75 (tgt := 115) (by decide) (fun c25 => ?_) (fun c25 => ?_)
            · replace h := h.1 c25
              exact J115 x4 x5 S _ _ _ rx4 rx5 hI (lv_sub hl [0, 1, 2, 3, 4, 5] rfl) h
            · replace h := h.2 c25
              refine lv_aload_n hx hb dX0_shares_78 rfl (lv_at hl 0 rfl) ?_
              refine gXX0_37_129 hF hK hI dX0_shares_79 ?_
              refine lv_iload hx hb dX0_shares_82 (lv_at hl 6 rfl) ?_
              have f26 := h.1; replace h := h.2
              refine s_iald hx hb hK hI 11 (by decide) wX_11 rx6 f26 dX0_shares_84 (fun f27 => ?_)
              replace h := h f27
              refine lv_iload hx hb dX0_shares_85 (lv_at hl 4 rfl) ?_
              refine nr_icmp_ne hx hb f27 rx4 dX0_shares_87 (tgt := 102) (by decide) (fun c28 => ?_) (fun c28 => ?_)
              · replace h := h.1 c28
                exact J102 x6 _ _ _ rx6 hI (lv_sub hl [0, 1, 2, 3, 4, 6] rfl) h
              · replace h := h.2 c28
                refine lv_aload_n hx hb dX0_shares_90 rfl (lv_at hl 0 rfl) ?_
                refine gXX0_47_129 hF hK hI dX0_shares_91 ?_
                refine lv_iload hx hb dX0_shares_94 (lv_at hl 6 rfl) ?_
                have f29 := h.1; replace h := h.2
                refine s_aald hx hb hK hI 137 (by decide) wX_137 ⟨rfl, rfl⟩ rx6 f29 dX0_shares_96 ?_
                refine lv_iload_n hx hb dX0_shares_97 rfl (lv_at hl 1 rfl) ?_
                have f30 := h.1; replace h := h.2
                refine s_zald hx hb hK hI (91 + Int.toNat x6) (wX_rk137 f29) (wX_rw137 f29) rx1 f30 dX0_shares_98 (fun f31 f31z => ?_)
                replace h := h f31
                replace h := h f31z
                refine nr_if_ne hx hb f31 dX0_shares_99 (tgt := 106) (by decide) (fun c32 => ?_) (fun c32 => ?_)
                · replace h := h.1 c32
                  refine nr_iconst hx hb dX0_shares_106 ?_
                  exact J107 x6 0 _ _ _ rx6 (by decide) hI (lv_sub hl [0, 1, 2, 3, 4, 6] rfl) h
                · replace h := h.2 c32
                  exact J102 x6 _ _ _ rx6 hI (lv_sub hl [0, 1, 2, 3, 4, 6] rfl) h
      have J62 : ∀ (x4 : Int) (y0 : Int) (S : St) (H : Heap) (locs : List Loc) (ls : Array Slot), InR x4 → InR y0 → sI D dA wX ad A s.heap S H locs → lv_has ls 7 [(0, .ref (ad 129)), (1, iV x1), (2, iV x2), (3, iV x3), (4, iV x4)] → j_X_shares_62 W0 x1 x2 x3 x4 y0 S K (l_X_shares_25 W0 x1 x2 x3 K n25) → W p l e R s m args below meth c H locs 0 0 Q (F0 m 62 ls [iV y0]) := by
        intro x4 y0 S H locs ls rx4 ry0 hI hl h
        unfold j_X_shares_62 at h
        refine lv_istore (lv' := [(5, iV y0), (0, .ref (ad 129)), (1, iV x1), (2, iV x2), (3, iV x3), (4, iV x4)]) hx hb dX0_shares_62 hl (by decide) rfl (fun ls hl => ?_)
        refine nr_iconst hx hb dX0_shares_64 ?_
        refine lv_istore (lv' := [(6, iV 0), (5, iV y0), (0, .ref (ad 129)), (1, iV x1), (2, iV x2), (3, iV x3), (4, iV x4)]) hx hb dX0_shares_65 hl (by decide) rfl (fun ls hl => ?_)
        obtain ⟨n0, h⟩ := h
        exact L67 x4 S rx4 n0 y0 0 _ _ _ ry0 (by decide) hI (lv_sub hl [2, 3, 4, 5, 6, 1, 0] rfl) h
      unfold l_X_shares_25 at h
      refine lv_iload hx hb dX0_shares_25 (lv_at hl 4 rfl) ?_
      refine lv_iload_n hx hb dX0_shares_27 rfl (lv_at hl 2 rfl) ?_
      refine nr_icmp_gt hx hb rx4 rx2 dX0_shares_28 (tgt := 183) (by decide) (fun c33 => ?_) (fun c33 => ?_)
      · replace h := h.1 c33
        refine nr_iconst hx hb dX0_shares_183 ?_
        rw [← hQ]; exact s_zret (K := K) hx hb hr hlocks hI (by decide) h dX0_shares_184
      · replace h := h.2 c33
        refine lv_iload hx hb dX0_shares_31 (lv_at hl 4 rfl) ?_
        refine lv_aload_n hx hb dX0_shares_33 rfl (lv_at hl 0 rfl) ?_
        refine gXX0_268_129 hF hK hI dX0_shares_34 (fun f34 => ?_)
        replace h := h f34
        refine nr_icmp_ge hx hb rx4 f34 dX0_shares_37 (tgt := 183) (by decide) (fun c35 => ?_) (fun c35 => ?_)
        · replace h := h.1 c35
          refine nr_iconst hx hb dX0_shares_183 ?_
          rw [← hQ]; exact s_zret (K := K) hx hb hr hlocks hI (by decide) h dX0_shares_184
        · replace h := h.2 c35
          refine lv_aload_n hx hb dX0_shares_40 rfl (lv_at hl 0 rfl) ?_
          refine gXX0_42_129 hF hK hI dX0_shares_41 ?_
          refine lv_iload hx hb dX0_shares_44 (lv_at hl 4 rfl) ?_
          have f36 := h.1; replace h := h.2
          refine s_aald hx hb hK hI 136 (by decide) wX_136 ⟨rfl, rfl⟩ rx4 f36 dX0_shares_46 ?_
          refine lv_iload_n hx hb dX0_shares_47 rfl (lv_at hl 3 rfl) ?_
          have f37 := h.1; replace h := h.2
          refine s_iald hx hb hK hI (79 + Int.toNat x4) (wX_rk136 f36) (wX_rw136 f36) rx3 f37 dX0_shares_48 (fun f38 => ?_)
          replace h := h f38
          refine lv_aload_n hx hb dX0_shares_49 rfl (lv_at hl 0 rfl) ?_
          refine lv_iload_n hx hb dX0_shares_50 rfl (lv_at hl 3 rfl) ?_
          refine cXX0_271 hF hK hI hl.1 hR (by omega) (Nat.le_of_ble_eq_true rfl) ⟨Nat.zero_le _, Nat.zero_le _⟩ rx3 h dX0_shares_51 (fun r39 H locs fr39 h hI => ?_)
          replace h := h fr39
          refine nr_icmp_ge hx hb f38 fr39 dX0_shares_54 (tgt := 61) (by decide) (fun c41 => ?_) (fun c41 => ?_)
          · replace h := h.1 c41
            refine nr_iconst hx hb dX0_shares_61 ?_
            exact J62 x4 0 S _ _ _ rx4 (by decide) hI (lv_sub hl [0, 1, 2, 3, 4] rfl) h
          · replace h := h.2 c41
            refine nr_iconst hx hb dX0_shares_57 ?_
            refine lv_goto (tgt := 62) hx hb dX0_shares_58 (by decide) ?_
            exact J62 x4 1 S _ _ _ rx4 (by decide) hI (lv_sub hl [0, 1, 2, 3, 4] rfl) h
  unfold b_X_shares at h
  refine lv_iload_n hx hb dX0_shares_0 rfl (lv_at hl 1 rfl) ?_
  refine lv_aload_n hx hb dX0_shares_1 rfl (lv_at hl 0 rfl) ?_
  refine gXX0_265_129 hF hK hI dX0_shares_2 (fun f42 => ?_)
  replace h := h f42
  refine nr_icmp_ne hx hb rx1 f42 dX0_shares_5 (tgt := 10) (by decide) (fun c43 => ?_) (fun c43 => ?_)
  · replace h := h.1 c43
    refine lv_aload_n hx hb dX0_shares_10 rfl (lv_at hl 0 rfl) ?_
    refine lv_aload_n hx hb dX0_shares_11 rfl (lv_at hl 0 rfl) ?_
    refine gXX0_34_129 hF hK hI dX0_shares_12 ?_
    refine lv_iload_n hx hb dX0_shares_15 rfl (lv_at hl 1 rfl) ?_
    have f44 := h.1; replace h := h.2
    refine s_iald hx hb hK hI 10 (by decide) wX_10 rx1 f44 dX0_shares_16 (fun f45 => ?_)
    replace h := h f45
    refine nr_iconst hx hb dX0_shares_17 ?_
    refine cXX0_149 hF hK hI hl.1 hR (by omega) (Nat.le_of_ble_eq_true rfl) ⟨Nat.zero_le _, Nat.zero_le _⟩ f45 (by decide) h dX0_shares_18 (fun r46 H locs fr46 h hI => ?_)
    replace h := h fr46
    refine lv_istore_n (lv' := [(3, iV r46), (0, .ref (ad 129)), (1, iV x1), (2, iV x2)]) hx hb dX0_shares_21 rfl hl (by decide) rfl (fun ls hl => ?_)
    refine nr_iconst hx hb dX0_shares_22 ?_
    refine lv_istore (lv' := [(4, iV 0), (3, iV r46), (0, .ref (ad 129)), (1, iV x1), (2, iV x2)]) hx hb dX0_shares_23 hl (by decide) rfl (fun ls hl => ?_)
    obtain ⟨n0, h⟩ := h
    exact L25 x1 x2 r46 rx1 rx2 fr46 n0 0 S _ _ _ (by decide) hI (lv_sub hl [2, 3, 4, 1, 0] rfl) h
  · replace h := h.2 c43
    refine nr_iconst hx hb dX0_shares_8 ?_
    rw [← hQ]; exact s_zret (K := K) hx hb hr hlocks hI (by decide) h dX0_shares_9
theorem cXX0_274 {p : Program} {l : Launch} {e : Env} {R : Room} {s : State} {m : MethodId} {args : Array Value} {below : List Frame} {meth : Method} {c : Code} {H : Heap} {locs : List Loc} {Q : State → Prop} {cc : ByteArray} {nL pc : Nat} {ls : Array Slot} {rest : List Value} {cells slots : Nat} {D : va_G} {dA : Nat → ClassId} {ad : Nat → Nat} {A : Nat → Prop} {H0 : Heap} {S : St} {dk : Nat} {d : Nat} (hdm : d ≤ 14) (hF : CallFix p m c cc nL s args lw_all RX0) (hK : gK D dA s) (hI : sI D dA wX ad A H0 S H locs) (hls : ls.size = nL) (hR : R.frames = dk + 1 ∧ R.locals = 64 * dk + 64) (hd : 16 + 1 ≤ dk) (hW : (rest.map fun v => v.category).sum ≤ 8) (hf : cells ≤ R.cells ∧ slots ≤ R.slots) {x1 : Int} {x2 : Int} {K : Int → St → Prop} (r1 : InR x1) (r2 : InR x2) (h : w_X_shares d x1 x2 S K) (hdg : decode cc pc = .ok (.invokevirtual 274, 3)) (kk : ∀ (r : Int) (S1 : St) (H1 : Heap) (locs1 : List Loc), (r = 0 ∨ r = 1) → K r S1 → sI D dA wX ad A H0 S1 H1 locs1 → W p l e R s m args below meth c H1 locs1 cells slots Q (F0 m (pc + 3) ls (iV r :: rest))) : W p l e R s m args below meth c H locs cells slots Q (F0 m (pc) ls (iV x2 :: iV x1 :: .ref (ad 129) :: rest)) := s_callVz (As := [iV x1, iV x2]) (rest := rest) (K := K) hF (t_X_shares l d D dA ad S H.size x1 x2 K r1 r2 h) (s_recv hK hI 129 (by decide) wX_129 rfl) (cwV 2 hF.2.2.2.2 (lw_V q1039 q1041 qs37 q106 q1042) rfl rfl rfl (by decide +kernel) ⟨by have h1 := hR.1; have h2 : (rmD (2 + d) 0 0).frames = (2 + d) + 1 := rfl; omega, by have h1 := hR.2; have h2 : (rmD (2 + d) 0 0).locals = 64 * (2 + d) + 64 := rfl; omega⟩) hK hI rfl hls rfl hW hdg hf kk
theorem uXX0_268_129 {p : Program} {l : Launch} {e : Env} {R : Room} {s : State} {m : MethodId} {args : Array Value} {below : List Frame} {meth : Method} {c : Code} {H : Heap} {locs : List Loc} {Q : State → Prop} {cc : ByteArray} {nL pc : Nat} {ls : Array Slot} {rest : List Value} {cells slots : Nat} {D : va_G} {dA : Nat → ClassId} {ad : Nat → Nat} {A : Nat → Prop} {H0 : Heap} {S : St} (hF : CallFix p m c cc nL s args lw_all RX0) (hK : gK D dA s) (hI : sI D dA wX ad A H0 S H locs) {v : Int} (hv : InR v) (hdg : decode cc pc = .ok (.putfield 268, 3)) (kk : ∀ (S1 : St) (H1 : Heap) (locs1 : List Loc), S1 = fset S 12 v → sI D dA wX ad A H0 S1 H1 locs1 → W p l e R s m args below meth c H1 locs1 cells slots Q (F0 m (pc + 3) ls (rest))) : W p l e R s m args below meth c H locs cells slots Q (F0 m (pc) ls (iV v :: .ref (ad 129) :: rest)) := s_put hF.1 hF.2.1 wX_U tyX0 tyX0_ok nmX0 hF.2.2.2.2 hF.2.2.2.1 hK hI 129 (by decide) wX_129 rfl in_X0 12 (by decide) q216 rfl 0 12 rfl hv rfl rfl rfl hdg (fun H1 locs1 h => kk _ H1 locs1 rfl h)
theorem cXX0_277 {p : Program} {l : Launch} {e : Env} {R : Room} {s : State} {m : MethodId} {args : Array Value} {below : List Frame} {meth : Method} {c : Code} {H : Heap} {locs : List Loc} {Q : State → Prop} {cc : ByteArray} {nL pc : Nat} {ls : Array Slot} {rest : List Value} {cells slots : Nat} {D : va_G} {dA : Nat → ClassId} {ad : Nat → Nat} {A : Nat → Prop} {H0 : Heap} {S : St} {dk : Nat} (hF : CallFix p m c cc nL s args lw_all RX0) (hK : gK D dA s) (hI : sI D dA wX ad A H0 S H locs) (hls : ls.size = nL) (hR : R.frames = dk + 1 ∧ R.locals = 64 * dk + 64) (hd : 116 + 1 ≤ dk) (hW : (rest.map fun v => v.category).sum ≤ 8) (hf : cells ≤ R.cells ∧ slots ≤ R.slots) {x1 : Int} {x2 : Int} {K : Int → St → Prop} (r1 : InR x1) (r2 : InR x2) (h : w_X_areUnlike x1 x2 S K) (hdg : decode cc pc = .ok (.invokevirtual 277, 3)) (kk : ∀ (r : Int) (S1 : St) (H1 : Heap) (locs1 : List Loc), (r = 0 ∨ r = 1) → K r S1 → sI D dA wX ad A H0 S1 H1 locs1 → W p l e R s m args below meth c H1 locs1 cells slots Q (F0 m (pc + 3) ls (iV r :: rest))) : W p l e R s m args below meth c H locs cells slots Q (F0 m (pc) ls (iV x2 :: iV x1 :: .ref (ad 129) :: rest)) := s_callVz (As := [iV x1, iV x2]) (rest := rest) (K := K) hF (t_X_areUnlike l D dA ad S H.size x1 x2 K r1 r2 h) (s_recv hK hI 129 (by decide) wX_129 rfl) (cwV 2 hF.2.2.2.2 (lw_V q1032 q1034 qs36 q106 q1035) rfl rfl rfl (by decide +kernel) ⟨by have h1 := hR.1; have h2 : (rmD 116 0 0).frames = 116 + 1 := rfl; omega, by have h1 := hR.2; have h2 : (rmD 116 0 0).locals = 64 * 116 + 64 := rfl; omega⟩) hK hI rfl hls rfl hW hdg hf kk
theorem uXX0_265_129 {p : Program} {l : Launch} {e : Env} {R : Room} {s : State} {m : MethodId} {args : Array Value} {below : List Frame} {meth : Method} {c : Code} {H : Heap} {locs : List Loc} {Q : State → Prop} {cc : ByteArray} {nL pc : Nat} {ls : Array Slot} {rest : List Value} {cells slots : Nat} {D : va_G} {dA : Nat → ClassId} {ad : Nat → Nat} {A : Nat → Prop} {H0 : Heap} {S : St} (hF : CallFix p m c cc nL s args lw_all RX0) (hK : gK D dA s) (hI : sI D dA wX ad A H0 S H locs) {v : Int} (hv : InR v) (hdg : decode cc pc = .ok (.putfield 265, 3)) (kk : ∀ (S1 : St) (H1 : Heap) (locs1 : List Loc), S1 = fset S 11 v → sI D dA wX ad A H0 S1 H1 locs1 → W p l e R s m args below meth c H1 locs1 cells slots Q (F0 m (pc + 3) ls (rest))) : W p l e R s m args below meth c H locs cells slots Q (F0 m (pc) ls (iV v :: .ref (ad 129) :: rest)) := s_put hF.1 hF.2.1 wX_U tyX0 tyX0_ok nmX0 hF.2.2.2.2 hF.2.2.2.1 hK hI 129 (by decide) wX_129 rfl in_X0 11 (by decide) q215 rfl 0 11 rfl hv rfl rfl rfl hdg (fun H1 locs1 h => kk _ H1 locs1 rfl h)
set_option maxHeartbeats 4000000 in
theorem t_X_laysSaints (l : Launch) (D : va_G) (dA : Nat → ClassId) (ad : Nat → Nat) (S : St) (sz : Nat) (x1 : Int) (K : Int → St → Prop) (rx1 : InR x1) (h : w_X_laysSaints x1 S K) : Met l yX0_laysSaints (ws_ yX0_laysSaints cX0_laysSaints 4 (Option.some Jvm.ClassFile.FieldType.boolean)) (rmD 117 0 0) (va_Pc [.ref (ad 129), iV x1] (sPre D dA wX ad S sz)) (va_Qi (fun r S' => (r.toInt = 0 ∨ r.toInt = 1) ∧ (K r.toInt S')) (sPost D dA wX ad (wA wX ad S sz)) (wA wX ad S sz)) 0 0 (wA wX ad S sz) := by
  refine Met.ofW (cc := cX0_laysSaints) (maxL := 4) (ret := (Option.some Jvm.ClassFile.FieldType.boolean)) (by decide) rfl ?_
  intro p e s m args below meth c s₁ B hml hv
  obtain ⟨rfl, hsz, hK, hC⟩ := hv
  have hx := B.exec
  have hb := B.bytes
  have hr := B.returns
  have hlocks := B.notSynchronized
  have hts := atoms_spec (ws := (ws_ yX0_laysSaints cX0_laysSaints 4 (Option.some Jvm.ClassFile.FieldType.boolean))) B.pre
  have hts : ∀ w ∈ lw_all, w.before _ s = true := fun w h => hts w (List.mem_cons_of_mem _ h)
  have hown : s.vm.findClass RX0 = some m.cls := findClass_of_methodNamed B.named
  clear B
  subst hsz
  have hI : sI D dA wX ad (wA wX ad S s.heap.size) s.heap S s.heap [] := hC.start
  clear hC
  generalize wA wX ad S s.heap.size = A at hI ⊢
  have hl := lv_entry ([.ref (ad 129), iV x1] : List Value) (n := 4) (Nat.le_of_ble_eq_true rfl)
  rw [lg_entry_eq]
  generalize (lg_sl ([.ref (ad 129), iV x1] : List Value) ++ List.replicate (4 - (lg_sl ([.ref (ad 129), iV x1] : List Value)).length) Slot.unset).toArray = ls at hl ⊢
  have hl : lv_has ls 4 [(0, .ref (ad 129)), (1, iV x1)] := hl
  have hF : CallFix p m c cX0_laysSaints 4 s _ lw_all RX0 := ⟨hx, hb, hml, hown, hts⟩
  have hR : (headSpec (ws_ yX0_laysSaints cX0_laysSaints 4 (Option.some Jvm.ClassFile.FieldType.boolean)) (rmD 117 0 0)).room.frames = 117 + 1 ∧ (headSpec (ws_ yX0_laysSaints cX0_laysSaints 4 (Option.some Jvm.ClassFile.FieldType.boolean)) (rmD 117 0 0)).room.locals = 64 * 117 + 64 := ⟨rfl, rfl⟩
  generalize (headSpec (ws_ yX0_laysSaints cX0_laysSaints 4 (Option.some Jvm.ClassFile.FieldType.boolean)) (rmD 117 0 0)).room = R at hR ⊢
  generalize ([.ref (ad 129), iV x1] : List Value).toArray = args at hts hF ⊢
  generalize hQ : MQ below _ _ _ _ _ _ = Q
  have L176 : ∀ (n176 : Nat) (x2 : Int) (S : St) (H : Heap) (locs : List Loc) (ls : Array Slot), InR x2 → sI D dA wX ad A s.heap S H locs → lv_has ls 4 [(0, .ref (ad 129)), (2, iV x2)] → l_X_laysSaints_176 K n176 x2 S → W p l e R s m args below meth c H locs 0 0 Q (F0 m 176 ls []) := by
    intro n176
    induction n176 with
    | zero => intro x2 S H locs ls rx2 hI hl h; exact False.elim h
    | succ n176 ih176 =>
      intro x2 S H locs ls rx2 hI hl h
      have J204 : ∀ (S : St) (H : Heap) (locs : List Loc) (ls : Array Slot), sI D dA wX ad A s.heap S H locs → lv_has ls 4 [(0, .ref (ad 129))] → j_X_laysSaints_204 S K (l_X_laysSaints_176 K n176) → W p l e R s m args below meth c H locs 0 0 Q (F0 m 204 ls []) := by
        intro S H locs ls hI hl h
        unfold j_X_laysSaints_204 at h
        refine lv_aload_n hx hb dX0_laysSaints_204 rfl (lv_at hl 0 rfl) ?_
        refine nr_iconst hx hb dX0_laysSaints_205 ?_
        refine nr_iconst hx hb dX0_laysSaints_206 ?_
        obtain ⟨d3, hd3, h⟩ := h
        refine cXX0_274 hd3 hF hK hI hl.1 hR (by decide) (Nat.le_of_ble_eq_true rfl) ⟨Nat.zero_le _, Nat.zero_le _⟩ (by decide) (by decide) h dX0_laysSaints_207 (fun r1 S2 H locs fr1 h hI => ?_)
        replace h := h fr1
        have gr1 : InR r1 := kdP_R (k := 2) (by decide) fr1
        refine lv_istore_n (lv' := [(2, iV r1), (0, .ref (ad 129))]) hx hb dX0_laysSaints_210 rfl hl (by decide) rfl (fun ls hl => ?_)
        refine lv_aload_n hx hb dX0_laysSaints_211 rfl (lv_at hl 1 rfl) ?_
        refine lv_dup hx hb dX0_laysSaints_212 rfl ?_
        refine gXX0_268_129 hF hK hI dX0_laysSaints_213 (fun f4 => ?_)
        replace h := h f4
        refine nr_iconst hx hb dX0_laysSaints_216 ?_
        have f5 := h.1; replace h := h.2
        refine nr_iadd hx hb dX0_laysSaints_217 ?_
        refine uXX0_268_129 hF hK hI f5 dX0_laysSaints_218 (fun S6 H locs eS6 hI => ?_)
        replace h := h S6 eS6
        refine lv_goto (tgt := 176) hx hb dX0_laysSaints_221 (by decide) ?_
        exact ih176 r1 S6 _ _ _ gr1 hI (lv_sub hl [1, 0] rfl) h
      have L182 : ∀ (n182 : Nat) (x3 : Int) (S : St) (H : Heap) (locs : List Loc) (ls : Array Slot), InR x3 → sI D dA wX ad A s.heap S H locs → lv_has ls 4 [(0, .ref (ad 129)), (3, iV x3)] → l_X_laysSaints_182 K (fun (zS : St) => j_X_laysSaints_204 zS K (l_X_laysSaints_176 K n176)) n182 x3 S → W p l e R s m args below meth c H locs 0 0 Q (F0 m 182 ls []) := by
        intro n182
        induction n182 with
        | zero => intro x3 S H locs ls rx3 hI hl h; exact False.elim h
        | succ n182 ih182 =>
          intro x3 S H locs ls rx3 hI hl h
          unfold l_X_laysSaints_182 at h
          refine lv_iload_n hx hb dX0_laysSaints_182 rfl (lv_at hl 1 rfl) ?_
          refine nr_bipush hx hb dX0_laysSaints_183 (by decide) ?_
          refine nr_icmp_ge hx hb rx3 (by decide) dX0_laysSaints_185 (tgt := 204) (by decide) (fun c7 => ?_) (fun c7 => ?_)
          · replace h := h.1 c7
            exact J204 S _ _ _ hI (lv_sub hl [0] rfl) h
          · replace h := h.2 c7
            refine lv_aload_n hx hb dX0_laysSaints_188 rfl (lv_at hl 0 rfl) ?_
            refine gXX0_42_129 hF hK hI dX0_laysSaints_189 ?_
            refine lv_iload_n hx hb dX0_laysSaints_192 rfl (lv_at hl 1 rfl) ?_
            have f8 := h.1; replace h := h.2
            refine s_aald hx hb hK hI 136 (by decide) wX_136 ⟨rfl, rfl⟩ rx3 f8 dX0_laysSaints_193 ?_
            refine nr_iconst hx hb dX0_laysSaints_194 ?_
            refine cXX0_280 hF hK hI hl.1 hR (by decide) (Nat.le_of_ble_eq_true rfl) ⟨Nat.zero_le _, Nat.zero_le _⟩ (k0 := (79 + Int.toNat x3)) (n0 := 20) (hk0 := (wX_rk136 f8)) (hd0 := (wX_rw136 f8)) (hn0 := (by decide)) (by decide) h dX0_laysSaints_195 (fun S10 H locs h hI => ?_)
            have f11 := h.1; replace h := h.2
            refine nr_iinc (lv' := [(3, iV (x3 + 1)), (0, .ref (ad 129))]) hx hb dX0_laysSaints_198 hl (k := 1) rfl (by decide) rfl (fun ls hl => ?_)
            refine lv_goto (tgt := 182) hx hb dX0_laysSaints_201 (by decide) ?_
            exact ih182 (x3 + 1) S10 _ _ _ f11 hI (lv_sub hl [1, 0] rfl) h
      unfold l_X_laysSaints_176 at h
      refine lv_iload_n hx hb dX0_laysSaints_176 rfl (lv_at hl 1 rfl) ?_
      refine nr_if_ne hx hb rx2 dX0_laysSaints_177 (tgt := 224) (by decide) (fun c12 => ?_) (fun c12 => ?_)
      · replace h := h.1 c12
        refine lv_aload_n hx hb dX0_laysSaints_224 rfl (lv_at hl 0 rfl) ?_
        refine lv_dup hx hb dX0_laysSaints_225 rfl ?_
        refine gXX0_268_129 hF hK hI dX0_laysSaints_226 (fun f13 => ?_)
        replace h := h f13
        refine nr_iconst hx hb dX0_laysSaints_229 ?_
        have f14 := h.1; replace h := h.2
        refine nr_isub hx hb dX0_laysSaints_230 ?_
        refine uXX0_268_129 hF hK hI f14 dX0_laysSaints_231 (fun S15 H locs eS15 hI => ?_)
        replace h := h S15 eS15
        refine nr_iconst hx hb dX0_laysSaints_234 ?_
        rw [← hQ]; exact s_zret (K := K) hx hb hr hlocks hI (by decide) h dX0_laysSaints_235
      · replace h := h.2 c12
        refine nr_iconst hx hb dX0_laysSaints_180 ?_
        refine lv_istore_n (lv' := [(3, iV 0), (0, .ref (ad 129)), (2, iV x2)]) hx hb dX0_laysSaints_181 rfl hl (by decide) rfl (fun ls hl => ?_)
        obtain ⟨n0, h⟩ := h
        exact L182 n0 0 S _ _ _ (by decide) hI (lv_sub hl [1, 0] rfl) h
  have J169 : ∀ (S : St) (H : Heap) (locs : List Loc) (ls : Array Slot), sI D dA wX ad A s.heap S H locs → lv_has ls 4 [(0, .ref (ad 129))] → j_X_laysSaints_169 S K → W p l e R s m args below meth c H locs 0 0 Q (F0 m 169 ls []) := by
    intro S H locs ls hI hl h
    unfold j_X_laysSaints_169 at h
    refine nr_iconst hx hb dX0_laysSaints_169 ?_
    refine lv_istore_n (lv' := [(2, iV 0), (0, .ref (ad 129))]) hx hb dX0_laysSaints_170 rfl hl (by decide) rfl (fun ls hl => ?_)
    refine lv_aload_n hx hb dX0_laysSaints_171 rfl (lv_at hl 1 rfl) ?_
    refine nr_iconst hx hb dX0_laysSaints_172 ?_
    refine uXX0_268_129 hF hK hI (by decide) dX0_laysSaints_173 (fun S16 H locs eS16 hI => ?_)
    replace h := h S16 eS16
    obtain ⟨n0, h⟩ := h
    exact L176 n0 0 S16 _ _ _ (by decide) hI (lv_sub hl [1, 0] rfl) h
  have L83 : ∀ (n83 : Nat) (x2 : Int) (S : St) (H : Heap) (locs : List Loc) (ls : Array Slot), InR x2 → sI D dA wX ad A s.heap S H locs → lv_has ls 4 [(0, .ref (ad 129)), (2, iV x2)] → l_X_laysSaints_83 K (fun (zS : St) => j_X_laysSaints_169 zS K) n83 x2 S → W p l e R s m args below meth c H locs 0 0 Q (F0 m 83 ls []) := by
    intro n83
    induction n83 with
    | zero => intro x2 S H locs ls rx2 hI hl h; exact False.elim h
    | succ n83 ih83 =>
      intro x2 S H locs ls rx2 hI hl h
      have J163 : ∀ (x2 : Int) (S : St) (H : Heap) (locs : List Loc) (ls : Array Slot), InR x2 → sI D dA wX ad A s.heap S H locs → lv_has ls 4 [(0, .ref (ad 129)), (2, iV x2)] → j_X_laysSaints_163 x2 S K (fun (zS : St) => j_X_laysSaints_169 zS K) (l_X_laysSaints_83 K (fun (zS : St) => j_X_laysSaints_169 zS K) n83) → W p l e R s m args below meth c H locs 0 0 Q (F0 m 163 ls []) := by
        intro x2 S H locs ls rx2 hI hl h
        unfold j_X_laysSaints_163 at h
        have f17 := h.1; replace h := h.2
        refine nr_iinc (lv' := [(2, iV (x2 + 1)), (0, .ref (ad 129))]) hx hb dX0_laysSaints_163 hl (k := 1) rfl (by decide) rfl (fun ls hl => ?_)
        refine lv_goto (tgt := 83) hx hb dX0_laysSaints_166 (by decide) ?_
        exact ih83 (x2 + 1) S _ _ _ f17 hI (lv_sub hl [1, 0] rfl) h
      have L93 : ∀ (x2 : Int), InR x2 → ∀ (n93 : Nat) (x3 : Int) (S : St) (H : Heap) (locs : List Loc) (ls : Array Slot), InR x3 → sI D dA wX ad A s.heap S H locs → lv_has ls 4 [(0, .ref (ad 129)), (2, iV x2), (3, iV x3)] → l_X_laysSaints_93 x2 K (fun (zS : St) => j_X_laysSaints_163 x2 zS K (fun (zS : St) => j_X_laysSaints_169 zS K) (l_X_laysSaints_83 K (fun (zS : St) => j_X_laysSaints_169 zS K) n83)) n93 x3 S → W p l e R s m args below meth c H locs 0 0 Q (F0 m 93 ls []) := by
        intro x2 rx2 n93
        induction n93 with
        | zero => intro x3 S H locs ls rx3 hI hl h; exact False.elim h
        | succ n93 ih93 =>
          intro x3 S H locs ls rx3 hI hl h
          have J156 : ∀ (x3 : Int) (y0 : Int) (y1 : Int) (y2 : Int) (S : St) (H : Heap) (locs : List Loc) (ls : Array Slot), InR x3 → (0 ≤ y0 ∧ y0 < 12) → InR y1 → InR y2 → sI D dA wX ad A s.heap S H locs → lv_has ls 4 [(0, .ref (ad 129)), (2, iV x2), (3, iV x3)] → j_X_laysSaints_156 x2 x3 y0 y1 y2 S K (fun (zS : St) => j_X_laysSaints_163 x2 zS K (fun (zS : St) => j_X_laysSaints_169 zS K) (l_X_laysSaints_83 K (fun (zS : St) => j_X_laysSaints_169 zS K) n83)) (l_X_laysSaints_93 x2 K (fun (zS : St) => j_X_laysSaints_163 x2 zS K (fun (zS : St) => j_X_laysSaints_169 zS K) (l_X_laysSaints_83 K (fun (zS : St) => j_X_laysSaints_169 zS K) n83)) n93) → W p l e R s m args below meth c H locs 0 0 Q (F0 m 156 ls [iV y2, iV y1, .ref (ad (91 + Int.toNat y0))]) := by
            intro x3 y0 y1 y2 S H locs ls rx3 ry0 ry1 ry2 hI hl h
            unfold j_X_laysSaints_156 at h
            have f18 := h.1; replace h := h.2
            have f19 := h.1; replace h := h.2
            refine s_zast hx hb hK hI (91 + Int.toNat y0) (wX_rk137 ry0) (wX_rw137 ry0) ry1 f18 f19 dX0_laysSaints_156 (fun S20 H locs eS20 hI => ?_)
            replace h := h S20 eS20
            have f21 := h.1; replace h := h.2
            refine nr_iinc (lv' := [(3, iV (x3 + 1)), (0, .ref (ad 129)), (2, iV x2)]) hx hb dX0_laysSaints_157 hl (k := 2) rfl (by decide) rfl (fun ls hl => ?_)
            refine lv_goto (tgt := 93) hx hb dX0_laysSaints_160 (by decide) ?_
            exact ih93 (x3 + 1) S20 _ _ _ f21 hI (lv_sub hl [1, 2, 0] rfl) h
          have J155 : ∀ (x3 : Int) (y0 : Int) (y1 : Int) (S : St) (H : Heap) (locs : List Loc) (ls : Array Slot), InR x3 → (0 ≤ y0 ∧ y0 < 12) → InR y1 → sI D dA wX ad A s.heap S H locs → lv_has ls 4 [(0, .ref (ad 129)), (2, iV x2), (3, iV x3)] → j_X_laysSaints_155 x2 x3 y0 y1 S K (fun (zS : St) => j_X_laysSaints_163 x2 zS K (fun (zS : St) => j_X_laysSaints_169 zS K) (l_X_laysSaints_83 K (fun (zS : St) => j_X_laysSaints_169 zS K) n83)) (l_X_laysSaints_93 x2 K (fun (zS : St) => j_X_laysSaints_163 x2 zS K (fun (zS : St) => j_X_laysSaints_169 zS K) (l_X_laysSaints_83 K (fun (zS : St) => j_X_laysSaints_169 zS K) n83)) n93) → W p l e R s m args below meth c H locs 0 0 Q (F0 m 155 ls [iV y1, .ref (ad (91 + Int.toNat y0))]) := by
            intro x3 y0 y1 S H locs ls rx3 ry0 ry1 hI hl h
            unfold j_X_laysSaints_155 at h
            refine nr_iconst hx hb dX0_laysSaints_155 ?_
            exact J156 x3 y0 y1 0 S _ _ _ rx3 ry0 ry1 (by decide) hI (lv_sub hl [0, 1, 2] rfl) h
          have J151 : ∀ (x3 : Int) (y0 : Int) (y1 : Int) (S : St) (H : Heap) (locs : List Loc) (ls : Array Slot), InR x3 → (0 ≤ y0 ∧ y0 < 12) → InR y1 → sI D dA wX ad A s.heap S H locs → lv_has ls 4 [(0, .ref (ad 129)), (2, iV x2), (3, iV x3)] → j_X_laysSaints_151 x2 x3 y0 y1 S K (fun (zS : St) => j_X_laysSaints_163 x2 zS K (fun (zS : St) => j_X_laysSaints_169 zS K) (l_X_laysSaints_83 K (fun (zS : St) => j_X_laysSaints_169 zS K) n83)) (l_X_laysSaints_93 x2 K (fun (zS : St) => j_X_laysSaints_163 x2 zS K (fun (zS : St) => j_X_laysSaints_169 zS K) (l_X_laysSaints_83 K (fun (zS : St) => j_X_laysSaints_169 zS K) n83)) n93) → W p l e R s m args below meth c H locs 0 0 Q (F0 m 151 ls [iV y1, .ref (ad (91 + Int.toNat y0))]) := by
            intro x3 y0 y1 S H locs ls rx3 ry0 ry1 hI hl h
            unfold j_X_laysSaints_151 at h
            refine nr_iconst hx hb dX0_laysSaints_151 ?_
            refine lv_goto (tgt := 156) hx hb dX0_laysSaints_152 (by decide) ?_
            exact J156 x3 y0 y1 1 S _ _ _ rx3 ry0 ry1 (by decide) hI (lv_sub hl [0, 1, 2] rfl) h
          unfold l_X_laysSaints_93 at h
          refine lv_iload_n hx hb dX0_laysSaints_93 rfl (lv_at hl 2 rfl) ?_
          refine lv_aload_n hx hb dX0_laysSaints_94 rfl (lv_at hl 0 rfl) ?_
          refine gXX0_265_129 hF hK hI dX0_laysSaints_95 (fun f22 => ?_)
          replace h := h f22
          refine nr_icmp_ge hx hb rx3 f22 dX0_laysSaints_98 (tgt := 163) (by decide) (fun c23 => ?_) (fun c23 => ?_)
          · replace h := h.1 c23
            exact J163 x2 S _ _ _ rx2 hI (lv_sub hl [0, 1] rfl) h
          · replace h := h.2 c23
            refine lv_aload_n hx hb dX0_laysSaints_101 rfl (lv_at hl 0 rfl) ?_
            refine gXX0_47_129 hF hK hI dX0_laysSaints_102 ?_
            refine lv_iload_n hx hb dX0_laysSaints_105 rfl (lv_at hl 1 rfl) ?_
            have f24 := h.1; replace h := h.2
            refine s_aald hx hb hK hI 137 (by decide) wX_137 ⟨rfl, rfl⟩ rx2 f24 dX0_laysSaints_106 ?_
            refine lv_iload_n hx hb dX0_laysSaints_107 rfl (lv_at hl 2 rfl) ?_
            refine lv_iload_n hx hb dX0_laysSaints_108 rfl (lv_at hl 1 rfl) ?_
            refine lv_iload_n hx hb dX0_laysSaints_109 rfl (lv_at hl 2 rfl) ?_
            refine nr_icmp_eq hx hb rx2 rx3 dX0_laysSaints_110 (tgt := 155) (by decide) (fun c25 => ?_) (fun c25 => ?_)
            · replace h := h.1 c25
              exact J155 x3 x2 x3 S _ _ _ rx3 f24 rx3 hI (lv_sub hl [0, 1, 2] rfl) h
            · replace h := h.2 c25
              refine lv_aload_n hx hb dX0_laysSaints_113 rfl (lv_at hl 0 rfl) ?_
              refine lv_aload_n hx hb dX0_laysSaints_114 rfl (lv_at hl 0 rfl) ?_
              refine gXX0_34_129 hF hK hI dX0_laysSaints_115 ?_
              refine lv_iload_n hx hb dX0_laysSaints_118 rfl (lv_at hl 1 rfl) ?_
              have f26 := h.1; replace h := h.2
              refine s_iald hx hb hK hI 10 (by decide) wX_10 rx2 f26 dX0_laysSaints_119 (fun f27 => ?_)
              replace h := h f27
              refine lv_aload_n hx hb dX0_laysSaints_120 rfl (lv_at hl 0 rfl) ?_
              refine gXX0_34_129 hF hK hI dX0_laysSaints_121 ?_
              refine lv_iload_n hx hb dX0_laysSaints_124 rfl (lv_at hl 2 rfl) ?_
              have f28 := h.1; replace h := h.2
              refine s_iald hx hb hK hI 10 (by decide) wX_10 rx3 f28 dX0_laysSaints_125 (fun f29 => ?_)
              replace h := h f29
              refine cXX0_277 hF hK hI hl.1 hR (by decide) (Nat.le_of_ble_eq_true rfl) ⟨Nat.zero_le _, Nat.zero_le _⟩ f27 f29 h dX0_laysSaints_126 (fun r30 S31 H locs fr30 h hI => ?_)
              replace h := h fr30
              have gr30 : InR r30 := kdP_R (k := 2) (by decide) fr30
              refine nr_if_ne hx hb gr30 dX0_laysSaints_129 (tgt := 151) (by decide) (fun c32 => ?_) (fun c32 => ?_)
              · replace h := h.1 c32
                exact J151 x3 x2 x3 S31 _ _ _ rx3 f24 rx3 hI (lv_sub hl [0, 1, 2] rfl) h
              · replace h := h.2 c32
                refine lv_aload_n hx hb dX0_laysSaints_132 rfl (lv_at hl 0 rfl) ?_
                refine lv_aload_n hx hb dX0_laysSaints_133 rfl (lv_at hl 0 rfl) ?_
                refine gXX0_34_129 hF hK hI dX0_laysSaints_134 ?_
                refine lv_iload_n hx hb dX0_laysSaints_137 rfl (lv_at hl 2 rfl) ?_
                have f33 := h.1; replace h := h.2
                refine s_iald hx hb hK hI 10 (by decide) wX_10 rx3 f33 dX0_laysSaints_138 (fun f34 => ?_)
                replace h := h f34
                refine lv_aload_n hx hb dX0_laysSaints_139 rfl (lv_at hl 0 rfl) ?_
                refine gXX0_34_129 hF hK hI dX0_laysSaints_140 ?_
                refine lv_iload_n hx hb dX0_laysSaints_143 rfl (lv_at hl 1 rfl) ?_
                have f35 := h.1; replace h := h.2
                refine s_iald hx hb hK hI 10 (by decide) wX_10 rx2 f35 dX0_laysSaints_144 (fun f36 => ?_)
                replace h := h f36
                refine cXX0_277 hF hK hI hl.1 hR (by decide) (Nat.le_of_ble_eq_true rfl) ⟨Nat.zero_le _, Nat.zero_le _⟩ f34 f36 h dX0_laysSaints_145 (fun r37 S38 H locs fr37 h hI => ?_)
                replace h := h fr37
                have gr37 : InR r37 := kdP_R (k := 2) (by decide) fr37
                refine nr_if_eq hx hb gr37 dX0_laysSaints_148 (tgt := 155) (by decide) (fun c39 => ?_) (fun c39 => ?_)
                · replace h := h.1 c39
                  exact J155 x3 x2 x3 S38 _ _ _ rx3 f24 rx3 hI (lv_sub hl [0, 1, 2] rfl) h
                · replace h := h.2 c39
                  exact J151 x3 x2 x3 S38 _ _ _ rx3 f24 rx3 hI (lv_sub hl [0, 1, 2] rfl) h
      unfold l_X_laysSaints_83 at h
      refine lv_iload_n hx hb dX0_laysSaints_83 rfl (lv_at hl 1 rfl) ?_
      refine lv_aload_n hx hb dX0_laysSaints_84 rfl (lv_at hl 0 rfl) ?_
      refine gXX0_265_129 hF hK hI dX0_laysSaints_85 (fun f40 => ?_)
      replace h := h f40
      refine nr_icmp_ge hx hb rx2 f40 dX0_laysSaints_88 (tgt := 169) (by decide) (fun c41 => ?_) (fun c41 => ?_)
      · replace h := h.1 c41
        exact J169 S _ _ _ hI (lv_sub hl [0] rfl) h
      · replace h := h.2 c41
        refine nr_iconst hx hb dX0_laysSaints_91 ?_
        refine lv_istore_n (lv' := [(3, iV 0), (0, .ref (ad 129)), (2, iV x2)]) hx hb dX0_laysSaints_92 rfl hl (by decide) rfl (fun ls hl => ?_)
        obtain ⟨n0, h⟩ := h
        exact L93 x2 rx2 n0 0 S _ _ _ (by decide) hI (lv_sub hl [1, 2, 0] rfl) h
  have J81 : ∀ (S : St) (H : Heap) (locs : List Loc) (ls : Array Slot), sI D dA wX ad A s.heap S H locs → lv_has ls 4 [(0, .ref (ad 129))] → j_X_laysSaints_81 S K → W p l e R s m args below meth c H locs 0 0 Q (F0 m 81 ls []) := by
    intro S H locs ls hI hl h
    unfold j_X_laysSaints_81 at h
    refine nr_iconst hx hb dX0_laysSaints_81 ?_
    refine lv_istore_n (lv' := [(2, iV 0), (0, .ref (ad 129))]) hx hb dX0_laysSaints_82 rfl hl (by decide) rfl (fun ls hl => ?_)
    obtain ⟨n0, h⟩ := h
    exact L83 n0 0 S _ _ _ (by decide) hI (lv_sub hl [1, 0] rfl) h
  have L7 : ∀ (x1 : Int), InR x1 → ∀ (n7 : Nat) (x2 : Int) (S : St) (H : Heap) (locs : List Loc) (ls : Array Slot), InR x2 → sI D dA wX ad A s.heap S H locs → lv_has ls 4 [(0, .ref (ad 129)), (1, iV x1), (2, iV x2)] → l_X_laysSaints_7 x1 K (fun (zS : St) => j_X_laysSaints_81 zS K) n7 x2 S → W p l e R s m args below meth c H locs 0 0 Q (F0 m 7 ls []) := by
    intro x1 rx1 n7
    induction n7 with
    | zero => intro x2 S H locs ls rx2 hI hl h; exact False.elim h
    | succ n7 ih7 =>
      intro x2 S H locs ls rx2 hI hl h
      have J75 : ∀ (x2 : Int) (S : St) (H : Heap) (locs : List Loc) (ls : Array Slot), InR x2 → sI D dA wX ad A s.heap S H locs → lv_has ls 4 [(0, .ref (ad 129)), (1, iV x1), (2, iV x2)] → j_X_laysSaints_75 x1 x2 S K (fun (zS : St) => j_X_laysSaints_81 zS K) (l_X_laysSaints_7 x1 K (fun (zS : St) => j_X_laysSaints_81 zS K) n7) → W p l e R s m args below meth c H locs 0 0 Q (F0 m 75 ls []) := by
        intro x2 S H locs ls rx2 hI hl h
        unfold j_X_laysSaints_75 at h
        have f42 := h.1; replace h := h.2
        refine nr_iinc (lv' := [(2, iV (x2 + 1)), (0, .ref (ad 129)), (1, iV x1)]) hx hb dX0_laysSaints_75 hl (k := 2) rfl (by decide) rfl (fun ls hl => ?_)
        refine lv_goto (tgt := 7) hx hb dX0_laysSaints_78 (by decide) ?_
        exact ih7 (x2 + 1) S _ _ _ f42 hI (lv_sub hl [1, 2, 0] rfl) h
      unfold l_X_laysSaints_7 at h
      refine lv_iload_n hx hb dX0_laysSaints_7 rfl (lv_at hl 2 rfl) ?_
      refine lv_aload_n hx hb dX0_laysSaints_8 rfl (lv_at hl 0 rfl) ?_
      refine gXX0_12_129 hF hK hI dX0_laysSaints_9 ?_
      refine gXX0_71_130 hF hK hI dX0_laysSaints_12 ?_
      refine nr_iconst hx hb dX0_laysSaints_15 ?_
      refine s_iald hx hb hK hI 0 (by decide) wX_0 (by decide) (by decide) dX0_laysSaints_16 (fun f43 => ?_)
      replace h := h f43
      refine nr_icmp_ge hx hb rx2 f43 dX0_laysSaints_17 (tgt := 81) (by decide) (fun c44 => ?_) (fun c44 => ?_)
      · replace h := h.1 c44
        exact J81 S _ _ _ hI (lv_sub hl [0] rfl) h
      · replace h := h.2 c44
        refine lv_iload_n hx hb dX0_laysSaints_20 rfl (lv_at hl 1 rfl) ?_
        refine lv_aload_n hx hb dX0_laysSaints_21 rfl (lv_at hl 0 rfl) ?_
        refine lv_iload_n hx hb dX0_laysSaints_22 rfl (lv_at hl 2 rfl) ?_
        refine nr_iconst hx hb dX0_laysSaints_23 ?_
        refine cXX0_149 hF hK hI hl.1 hR (by decide) (Nat.le_of_ble_eq_true rfl) ⟨Nat.zero_le _, Nat.zero_le _⟩ rx2 (by decide) h dX0_laysSaints_24 (fun r45 H locs fr45 h hI => ?_)
        replace h := h fr45
        have f47 := h.1; replace h := h.2
        refine nr_ishr hx hb f47 rx1 dX0_laysSaints_27 ?_
        have f48 : InR (x1 / 2 ^ (Int.toNat r45)) := ni_shrR rx1
        refine nr_iconst hx hb dX0_laysSaints_28 ?_
        refine nr_mask hx hb 1 (by decide) (by decide) dX0_laysSaints_29 ?_
        have f49 : InR ((x1 / 2 ^ (Int.toNat r45)) % 2) := by omega
        refine nr_if_eq hx hb f49 dX0_laysSaints_30 (tgt := 75) (by decide) (fun c50 => ?_) (fun c50 => ?_)
        · replace h := h.1 c50
          exact J75 x2 S _ _ _ rx2 hI (lv_sub hl [0, 1, 2] rfl) h
        · replace h := h.2 c50
          refine lv_aload_n hx hb dX0_laysSaints_33 rfl (lv_at hl 0 rfl) ?_
          refine lv_iload_n hx hb dX0_laysSaints_34 rfl (lv_at hl 2 rfl) ?_
          refine cXX0_256 hF hK hI hl.1 hR (by decide) (Nat.le_of_ble_eq_true rfl) ⟨Nat.zero_le _, Nat.zero_le _⟩ rx2 h dX0_laysSaints_35 (fun r51 S52 H locs fr51 h hI => ?_)
          replace h := h fr51
          have gr51 : InR r51 := kdP_R (k := 2) (by decide) fr51
          refine nr_if_ne hx hb gr51 dX0_laysSaints_38 (tgt := 44) (by decide) (fun c53 => ?_) (fun c53 => ?_)
          · replace h := h.1 c53
            refine lv_aload_n hx hb dX0_laysSaints_44 rfl (lv_at hl 0 rfl) ?_
            refine gXX0_265_129 hF hK hI dX0_laysSaints_45 (fun f54 => ?_)
            replace h := h f54
            refine nr_bipush hx hb dX0_laysSaints_48 (by decide) ?_
            refine nr_icmp_ne hx hb f54 (by decide) dX0_laysSaints_50 (tgt := 55) (by decide) (fun c55 => ?_) (fun c55 => ?_)
            · replace h := h.1 c55
              refine lv_aload_n hx hb dX0_laysSaints_55 rfl (lv_at hl 0 rfl) ?_
              refine gXX0_34_129 hF hK hI dX0_laysSaints_56 ?_
              refine lv_aload_n hx hb dX0_laysSaints_59 rfl (lv_at hl 0 rfl) ?_
              refine gXX0_265_129 hF hK hI dX0_laysSaints_60 (fun f56 => ?_)
              refine lv_iload_n hx hb dX0_laysSaints_63 rfl (lv_at hl 2 rfl) ?_
              have f57 := h.1; replace h := h.2
              refine s_iast hx hb hK hI 10 (by decide) wX_10 f54 f57 rx2 dX0_laysSaints_64 (fun S58 H locs eS58 hI => ?_)
              replace h := h S58 eS58
              refine lv_aload_n hx hb dX0_laysSaints_65 rfl (lv_at hl 0 rfl) ?_
              refine lv_dup hx hb dX0_laysSaints_66 rfl ?_
              refine gXX0_265_129 hF hK hI dX0_laysSaints_67 (fun f59 => ?_)
              replace h := h f59
              refine nr_iconst hx hb dX0_laysSaints_70 ?_
              have f60 := h.1; replace h := h.2
              refine nr_iadd hx hb dX0_laysSaints_71 ?_
              refine uXX0_265_129 hF hK hI f60 dX0_laysSaints_72 (fun S61 H locs eS61 hI => ?_)
              replace h := h S61 eS61
              exact J75 x2 S61 _ _ _ rx2 hI (lv_sub hl [0, 1, 2] rfl) h
            · replace h := h.2 c55
              refine nr_iconst hx hb dX0_laysSaints_53 ?_
              rw [← hQ]; exact s_zret (K := K) hx hb hr hlocks hI (by decide) h dX0_laysSaints_54
          · replace h := h.2 c53
            refine lv_goto (tgt := 75) hx hb dX0_laysSaints_41 (by decide) ?_
            exact J75 x2 S52 _ _ _ rx2 hI (lv_sub hl [0, 1, 2] rfl) h
  unfold w_X_laysSaints at h
  refine lv_aload_n hx hb dX0_laysSaints_0 rfl (lv_at hl 0 rfl) ?_
  refine nr_iconst hx hb dX0_laysSaints_1 ?_
  refine uXX0_265_129 hF hK hI (by decide) dX0_laysSaints_2 (fun S62 H locs eS62 hI => ?_)
  replace h := h S62 eS62
  refine nr_iconst hx hb dX0_laysSaints_5 ?_
  refine lv_istore_n (lv' := [(2, iV 0), (0, .ref (ad 129)), (1, iV x1)]) hx hb dX0_laysSaints_6 rfl hl (by decide) rfl (fun ls hl => ?_)
  obtain ⟨n0, h⟩ := h
  exact L7 x1 rx1 n0 0 S62 _ _ _ (by decide) hI (lv_sub hl [1, 2, 0] rfl) h
