set_option maxRecDepth 100000
set_option maxHeartbeats 4000000 in
theorem t_J2_grow (l : Launch) (hlt : l.stackTraces = false) (D : va_G) (dA : Nat → ClassId) (ad : Nat → Nat) (S : St) (sz : Nat) (x0 : Nat) (K : Option Nat → St → Prop) (mc ms : Nat) (hmc : mc = bC S) (hms : ms = bL S) (h : w_J2_grow x0 S K) : Met l yJ2_grow (ws_ yJ2_grow cJ2_grow 1 (Option.some (Jvm.ClassFile.FieldType.array (Jvm.ClassFile.FieldType.object "java/lang/Object")))) (rmD 4 mc ms) (va_Pc [.ref x0] (tPre D dA ad S sz)) (va_Qq (fun r S' => K r S') (sPost D dA wX ad (wA wX ad S sz)) (wA wX ad S sz)) mc ms (wA wX ad S sz) := by
  refine Met.ofW (cc := cJ2_grow) (maxL := 1) (ret := (Option.some (Jvm.ClassFile.FieldType.array (Jvm.ClassFile.FieldType.object "java/lang/Object")))) (by decide) rfl ?_
  intro p e s m args below meth c s₁ B hml hv
  obtain ⟨rfl, ⟨hsz, hK, hC⟩, hZ⟩ := hv
  have hx := B.exec
  have hb := B.bytes
  have hr := B.returns
  have hlocks := B.notSynchronized
  have hts := atoms_spec (ws := (ws_ yJ2_grow cJ2_grow 1 (Option.some (Jvm.ClassFile.FieldType.array (Jvm.ClassFile.FieldType.object "java/lang/Object"))))) B.pre
  have hts : ∀ w ∈ lw_all, w.before _ s = true := fun w h => hts w (List.mem_cons_of_mem _ h)
  have hown : s.vm.findClass RJ2 = some m.cls := findClass_of_methodNamed B.named
  clear B
  subst hsz
  have hI : sI D dA wX ad (wA wX ad S s.heap.size) s.heap S s.heap [] := hC.start
  clear hC
  generalize wA wX ad S s.heap.size = A at hI hZ ⊢
  have hl := lv_entry ([.ref x0] : List Value) (n := 1) (Nat.le_of_ble_eq_true rfl)
  rw [lg_entry_eq]
  generalize (lg_sl ([.ref x0] : List Value) ++ List.replicate (1 - (lg_sl ([.ref x0] : List Value)).length) Slot.unset).toArray = ls at hl ⊢
  have hl : lv_has ls 1 [(0, .ref x0)] := hl
  have hF : CallFix p m c cJ2_grow 1 s _ lw_all RJ2 := ⟨hx, hb, hml, hown, hts⟩
  have hR : (headSpec (ws_ yJ2_grow cJ2_grow 1 (Option.some (Jvm.ClassFile.FieldType.array (Jvm.ClassFile.FieldType.object "java/lang/Object")))) (rmD 4 mc ms)).room.frames = 4 + 1 ∧ (headSpec (ws_ yJ2_grow cJ2_grow 1 (Option.some (Jvm.ClassFile.FieldType.array (Jvm.ClassFile.FieldType.object "java/lang/Object")))) (rmD 4 mc ms)).room.locals = 64 * 4 + 64 := ⟨rfl, rfl⟩
  have hRc : (headSpec (ws_ yJ2_grow cJ2_grow 1 (Option.some (Jvm.ClassFile.FieldType.array (Jvm.ClassFile.FieldType.object "java/lang/Object")))) (rmD 4 mc ms)).room.cells = mc ∧ (headSpec (ws_ yJ2_grow cJ2_grow 1 (Option.some (Jvm.ClassFile.FieldType.array (Jvm.ClassFile.FieldType.object "java/lang/Object")))) (rmD 4 mc ms)).room.slots = ms := ⟨rfl, rfl⟩
  generalize (headSpec (ws_ yJ2_grow cJ2_grow 1 (Option.some (Jvm.ClassFile.FieldType.array (Jvm.ClassFile.FieldType.object "java/lang/Object")))) (rmD 4 mc ms)).room = R at hR hRc ⊢
  obtain ⟨hRc, hRs⟩ := hRc
  have hcs : bOK R S 0 0 := ⟨by omega, by omega⟩
  clear hmc hms
  have hcs0 := hcs
  generalize ([.ref x0] : List Value).toArray = args at hts hF ⊢
  generalize hQ : MQ below _ _ _ _ _ _ = Q
  unfold w_J2_grow at h
  refine lv_aload_n hx hb dJ2_grow_0 rfl (lv_at hl 0 rfl) ?_
  refine lv_aload_n hx hb dJ2_grow_1 rfl (lv_at hl 0 rfl) ?_
  obtain ⟨fs1, v4, hg2, hv3, h⟩ := h
  refine gPJ2_48 hF hK hI hg2 hv3 dJ2_grow_2 (fun f5 => ?_)
  replace h := h f5
  refine nr_iconst hx hb dJ2_grow_5 ?_
  have f6 := h.1; replace h := h.2
  refine nr_iadd hx hb dJ2_grow_6 ?_
  have hr10 := h.1; replace h := h.2
  obtain ⟨a7, b8, f9, h⟩ := h
  refine p_callVq (As := [iV (v4 + 1)]) (rest := []) hF (t_J2_grow_2 l hlt D dA ad (bset S a7 b8) _ x0 (v4 + 1) _ f6 a7.toNat b8.toNat (bC_bset _ _ _).symm (bL_bset _ _ _).symm h) (by obtain ⟨fs, hg⟩ := hr10; exact s_recvP hK hI hg rfl) (cwV 1 hts (lw_V q669 q671 qs18 q114 q672) rfl rfl rfl (by decide +kernel) ⟨by have h1 := hR.1; have h2 : (rmD 3 a7.toNat b8.toNat).frames = 3 + 1 := rfl; omega, by have h1 := hR.2; have h2 : (rmD 3 a7.toNat b8.toNat).locals = 64 * 3 + 64 := rfl; omega⟩) hK hI hZ hcs f9 rfl hl.1 rfl (Nat.le_of_ble_eq_true rfl) dJ2_grow_7 (fun r11 S12 S13 H locs cells slots h eS13 hI hcs => ?_)
  replace h := h S13 eS13
  obtain ⟨q15, e16, h⟩ := h
  rw [e16]
  show W p l e R s m args below meth c _ _ _ _ Q (F0 m _ ls [.ref q15])
  rw [← hQ]; refine W.widen (k := mc) (n := ms) (by have h1 := hcs.1; omega) (by have h1 := hcs.2; omega) ?_; exact s_qret (v := (some q15)) (K := K) hx hb hr (Or.inr ⟨_, rfl⟩) hlocks hI h dJ2_grow_10
theorem uPJ2_48 {p : Program} {l : Launch} {e : Env} {R : Room} {s : State} {m : MethodId} {args : Array Value} {below : List Frame} {meth : Method} {c : Code} {H : Heap} {locs : List Loc} {Q : State → Prop} {cc : ByteArray} {nL pc : Nat} {ls : Array Slot} {rest : List Value} {cells slots : Nat} {D : va_G} {dA : Nat → ClassId} {ad : Nat → Nat} {A : Nat → Prop} {H0 : Heap} {S : St} {q : Nat} {fs : List PV} {v : Int} (hF : CallFix p m c cc nL s args lw_all RJ2) (hK : gK D dA s) (hI : sI D dA wX ad A H0 S H locs) (hg : gI S q = some (.inr (.inl (14, fs)))) (hlen : fs.length = 3) (hv : InR v) (hdg : decode cc pc = .ok (.putfield 48, 3)) (kk : ∀ (S1 : St) (H1 : Heap) (locs1 : List Loc), S1 = gset S q (.inr (.inl (14, fs.set 2 (.inl v)))) → sI D dA wX ad A H0 S1 H1 locs1 → W p l e R s m args below meth c H1 locs1 cells slots Q (F0 m (pc + 3) ls (rest))) : W p l e R s m args below meth c H locs cells slots Q (F0 m (pc) ls (iV v :: .ref q :: rest)) := s_pput (v := .inl v) hF.1 hF.2.1 tyJ2 tyJ2_ok nmJ2 hF.2.2.2.2 hF.2.2.2.1 hK hI (by decide) hg hlen rfl in_J2 2 (by decide) q380 rfl hv rfl rfl rfl hdg kk
set_option maxHeartbeats 4000000 in
theorem t_J2_add_2 (l : Launch) (hlt : l.stackTraces = false) (D : va_G) (dA : Nat → ClassId) (ad : Nat → Nat) (S : St) (sz : Nat) (x0 : Nat) (x1 : Nat) (x2 : Nat) (x3 : Int) (K : St → Prop) (rx3 : InR x3) (mc ms : Nat) (hmc : mc = bC S) (hms : ms = bL S) (h : w_J2_add_2 x0 x1 x2 x3 S K) : Met l yJ2_add_2 (ws_ yJ2_add_2 cJ2_add_2 4 (Option.none : Option Jvm.ClassFile.FieldType)) (rmD 5 mc ms) (va_Pc [.ref x0, .ref x1, .ref x2, iV x3] (tPre D dA ad S sz)) (va_Qv (fun S' => K S') (sPost D dA wX ad (wA wX ad S sz)) (wA wX ad S sz)) mc ms (wA wX ad S sz) := by
  refine Met.ofW (cc := cJ2_add_2) (maxL := 4) (ret := (Option.none : Option Jvm.ClassFile.FieldType)) (by decide) rfl ?_
  intro p e s m args below meth c s₁ B hml hv
  obtain ⟨rfl, ⟨hsz, hK, hC⟩, hZ⟩ := hv
  have hx := B.exec
  have hb := B.bytes
  have hr := B.returns
  have hlocks := B.notSynchronized
  have hts := atoms_spec (ws := (ws_ yJ2_add_2 cJ2_add_2 4 (Option.none : Option Jvm.ClassFile.FieldType))) B.pre
  have hts : ∀ w ∈ lw_all, w.before _ s = true := fun w h => hts w (List.mem_cons_of_mem _ h)
  have hown : s.vm.findClass RJ2 = some m.cls := findClass_of_methodNamed B.named
  clear B
  subst hsz
  have hI : sI D dA wX ad (wA wX ad S s.heap.size) s.heap S s.heap [] := hC.start
  clear hC
  generalize wA wX ad S s.heap.size = A at hI hZ ⊢
  have hl := lv_entry ([.ref x0, .ref x1, .ref x2, iV x3] : List Value) (n := 4) (Nat.le_of_ble_eq_true rfl)
  rw [lg_entry_eq]
  generalize (lg_sl ([.ref x0, .ref x1, .ref x2, iV x3] : List Value) ++ List.replicate (4 - (lg_sl ([.ref x0, .ref x1, .ref x2, iV x3] : List Value)).length) Slot.unset).toArray = ls at hl ⊢
  have hl : lv_has ls 4 [(0, .ref x0), (1, .ref x1), (2, .ref x2), (3, iV x3)] := hl
  have hF : CallFix p m c cJ2_add_2 4 s _ lw_all RJ2 := ⟨hx, hb, hml, hown, hts⟩
  have hR : (headSpec (ws_ yJ2_add_2 cJ2_add_2 4 (Option.none : Option Jvm.ClassFile.FieldType)) (rmD 5 mc ms)).room.frames = 5 + 1 ∧ (headSpec (ws_ yJ2_add_2 cJ2_add_2 4 (Option.none : Option Jvm.ClassFile.FieldType)) (rmD 5 mc ms)).room.locals = 64 * 5 + 64 := ⟨rfl, rfl⟩
  have hRc : (headSpec (ws_ yJ2_add_2 cJ2_add_2 4 (Option.none : Option Jvm.ClassFile.FieldType)) (rmD 5 mc ms)).room.cells = mc ∧ (headSpec (ws_ yJ2_add_2 cJ2_add_2 4 (Option.none : Option Jvm.ClassFile.FieldType)) (rmD 5 mc ms)).room.slots = ms := ⟨rfl, rfl⟩
  generalize (headSpec (ws_ yJ2_add_2 cJ2_add_2 4 (Option.none : Option Jvm.ClassFile.FieldType)) (rmD 5 mc ms)).room = R at hR hRc ⊢
  obtain ⟨hRc, hRs⟩ := hRc
  have hcs : bOK R S 0 0 := ⟨by omega, by omega⟩
  clear hmc hms
  have hcs0 := hcs
  generalize ([.ref x0, .ref x1, .ref x2, iV x3] : List Value).toArray = args at hts hF ⊢
  generalize hQ : MQ below _ _ _ _ _ _ = Q
  have J11 : ∀ (x0 : Nat) (x1 : Nat) (x2 : Nat) (x3 : Int) (S : St) (H : Heap) (locs : List Loc) (ls : Array Slot) (cells slots : Nat), InR x3 → (sI D dA wX ad A s.heap S H locs ∧ bOK R S cells slots) → lv_has ls 4 [(0, .ref x0), (1, .ref x1), (2, .ref x2), (3, iV x3)] → j_J2_add_2_11 x0 x1 x2 x3 S K → W p l e R s m args below meth c H locs cells slots Q (F0 m 11 ls []) := by
    intro x0 x1 x2 x3 S H locs ls cells slots rx3 hI hl h
    obtain ⟨hI, hcs⟩ := hI
    unfold j_J2_add_2_11 at h
    refine lv_aload_n hx hb dJ2_add_2_11 rfl (lv_at hl 2 rfl) ?_
    refine lv_iload_n hx hb dJ2_add_2_12 rfl (lv_at hl 3 rfl) ?_
    refine lv_aload_n hx hb dJ2_add_2_13 rfl (lv_at hl 1 rfl) ?_
    obtain ⟨n2, pf3, hg4, f5, el6, h⟩ := h
    refine t_past hx hb hK hI hg4 el6 rx3 f5 dJ2_add_2_14 (fun S1 H locs eS1 hI => ?_)
    replace h := h S1 eS1
    have hcs := bOK.to (S' := S1) hcs (by rw [eS1]; exact ⟨rfl, rfl⟩)
    refine lv_aload_n hx hb dJ2_add_2_15 rfl (lv_at hl 0 rfl) ?_
    refine lv_iload_n hx hb dJ2_add_2_16 rfl (lv_at hl 3 rfl) ?_
    refine nr_iconst hx hb dJ2_add_2_17 ?_
    have f7 := h.1; replace h := h.2
    refine nr_iadd hx hb dJ2_add_2_18 ?_
    obtain ⟨fs8, hg9, hn10, h⟩ := h
    refine uPJ2_48 hF hK hI hg9 hn10 f7 dJ2_add_2_19 (fun S11 H locs eS11 hI => ?_)
    replace h := h S11 eS11
    have hcs := bOK.to (S' := S11) hcs (by rw [eS11]; exact ⟨rfl, rfl⟩)
    rw [← hQ]; refine W.widen (k := mc) (n := ms) (by have h1 := hcs.1; omega) (by have h1 := hcs.2; omega) ?_; exact s_vret (K := K) hx hb hr hlocks hI h dJ2_add_2_22
  unfold w_J2_add_2 at h
  refine lv_iload_n hx hb dJ2_add_2_0 rfl (lv_at hl 3 rfl) ?_
  refine lv_aload_n hx hb dJ2_add_2_1 rfl (lv_at hl 2 rfl) ?_
  obtain ⟨n12, pf13, hg14, h⟩ := h
  refine t_rlen hx hb hK hI hg14 dJ2_add_2_2 (fun f15 => ?_)
  replace h := h f15
  refine nr_icmp_ne hx hb rx3 f15 dJ2_add_2_3 (tgt := 11) (by decide) (fun c16 => ?_) (fun c16 => ?_)
  · replace h := h.1 c16
    exact J11 x0 x1 x2 x3 S _ _ _ _ _ rx3 ⟨hI, hcs⟩ (lv_sub hl [0, 1, 2, 3] rfl) h
  · replace h := h.2 c16
    refine lv_aload_n hx hb dJ2_add_2_6 rfl (lv_at hl 0 rfl) ?_
    have hr20 := h.1; replace h := h.2
    obtain ⟨a17, b18, f19, h⟩ := h
    refine p_callVq (As := []) (rest := []) hF (t_J2_grow l hlt D dA ad (bset S a17 b18) _ x0 _ a17.toNat b18.toNat (bC_bset _ _ _).symm (bL_bset _ _ _).symm h) (by obtain ⟨fs, hg⟩ := hr20; exact s_recvP hK hI hg rfl) (cwV 0 hts (lw_V q665 q667 qs17 q114 q668) rfl rfl rfl (by decide +kernel) ⟨by have h1 := hR.1; have h2 : (rmD 4 a17.toNat b18.toNat).frames = 4 + 1 := rfl; omega, by have h1 := hR.2; have h2 : (rmD 4 a17.toNat b18.toNat).locals = 64 * 4 + 64 := rfl; omega⟩) hK hI hZ hcs f19 rfl hl.1 rfl (Nat.le_of_ble_eq_true rfl) dJ2_add_2_7 (fun r21 S22 S23 H locs cells slots h eS23 hI hcs => ?_)
    replace h := h S23 eS23
    obtain ⟨q25, e26, h⟩ := h
    rw [e26]
    show W p l e R s m args below meth c _ _ _ _ Q (F0 m _ ls [.ref q25])
    refine lv_astore_n (lv' := [(2, .ref q25), (0, .ref x0), (1, .ref x1), (3, iV x3)]) hx hb dJ2_add_2_10 rfl hl (by decide) rfl (fun ls hl => ?_)
    exact J11 x0 x1 q25 x3 S23 _ _ _ _ _ rx3 ⟨hI, hcs⟩ (lv_sub hl [1, 2, 0, 3] rfl) h
theorem gPJ2_63 {p : Program} {l : Launch} {e : Env} {R : Room} {s : State} {m : MethodId} {args : Array Value} {below : List Frame} {meth : Method} {c : Code} {H : Heap} {locs : List Loc} {Q : State → Prop} {cc : ByteArray} {nL pc : Nat} {ls : Array Slot} {rest : List Value} {cells slots : Nat} {w : Wd} {D : va_G} {dA : Nat → ClassId} {ad : Nat → Nat} {A : Nat → Prop} {H0 : Heap} {S : St} {q : Nat} {fs : List PV} {v : Int} (hF : CallFix p m c cc nL s args lw_all RJ2) (hK : gK D dA s) (hI : sI D dA w ad A H0 S H locs) (hg : gI S q = some (.inr (.inl (14, fs)))) (hv : fs[0]? = some (.inl v)) (hdg : decode cc pc = .ok (.getfield 63, 3)) (kk : InR v → W p l e R s m args below meth c H locs cells slots Q (F0 m (pc + 3) ls (iV v :: rest))) : W p l e R s m args below meth c H locs cells slots Q (F0 m (pc) ls (.ref q :: rest)) := s_pgiS hF.1 hF.2.1 hF.2.2.2.2 hF.2.2.2.1 hK hI hg rfl in_J2 0 (by decide) q382 (u_same (hF.2.2.2.2 _ q383)) hv hdg kk
theorem uPJ2_63 {p : Program} {l : Launch} {e : Env} {R : Room} {s : State} {m : MethodId} {args : Array Value} {below : List Frame} {meth : Method} {c : Code} {H : Heap} {locs : List Loc} {Q : State → Prop} {cc : ByteArray} {nL pc : Nat} {ls : Array Slot} {rest : List Value} {cells slots : Nat} {D : va_G} {dA : Nat → ClassId} {ad : Nat → Nat} {A : Nat → Prop} {H0 : Heap} {S : St} {q : Nat} {fs : List PV} {v : Int} (hF : CallFix p m c cc nL s args lw_all RJ2) (hK : gK D dA s) (hI : sI D dA wX ad A H0 S H locs) (hg : gI S q = some (.inr (.inl (14, fs)))) (hlen : fs.length = 3) (hv : InR v) (hdg : decode cc pc = .ok (.putfield 63, 3)) (kk : ∀ (S1 : St) (H1 : Heap) (locs1 : List Loc), S1 = gset S q (.inr (.inl (14, fs.set 0 (.inl v)))) → sI D dA wX ad A H0 S1 H1 locs1 → W p l e R s m args below meth c H1 locs1 cells slots Q (F0 m (pc + 3) ls (rest))) : W p l e R s m args below meth c H locs cells slots Q (F0 m (pc) ls (iV v :: .ref q :: rest)) := s_pputS (v := .inl v) hF.1 hF.2.1 tyJ2 tyJ2_ok nmJ2 hF.2.2.2.2 hF.2.2.2.1 hK hI (by decide) hg hlen rfl in_J2 0 (by decide) q382 (u_same (hF.2.2.2.2 _ q383)) hv rfl rfl rfl hdg kk
set_option maxHeartbeats 4000000 in
theorem t_J2_add (l : Launch) (hlt : l.stackTraces = false) (D : va_G) (dA : Nat → ClassId) (ad : Nat → Nat) (S : St) (sz : Nat) (x0 : Nat) (x1 : Nat) (K : Int → St → Prop) (mc ms : Nat) (hmc : mc = bC S) (hms : ms = bL S) (h : w_J2_add x0 x1 S K) : Met l yJ2_add (ws_ yJ2_add cJ2_add 2 (Option.some Jvm.ClassFile.FieldType.boolean)) (rmD 6 mc ms) (va_Pc [.ref x0, .ref x1] (tPre D dA ad S sz)) (va_Qi (fun r S' => (r.toInt = 0 ∨ r.toInt = 1) ∧ K r.toInt S') (sPost D dA wX ad (wA wX ad S sz)) (wA wX ad S sz)) mc ms (wA wX ad S sz) := by
  refine Met.ofW (cc := cJ2_add) (maxL := 2) (ret := (Option.some Jvm.ClassFile.FieldType.boolean)) (by decide) rfl ?_
  intro p e s m args below meth c s₁ B hml hv
  obtain ⟨rfl, ⟨hsz, hK, hC⟩, hZ⟩ := hv
  have hx := B.exec
  have hb := B.bytes
  have hr := B.returns
  have hlocks := B.notSynchronized
  have hts := atoms_spec (ws := (ws_ yJ2_add cJ2_add 2 (Option.some Jvm.ClassFile.FieldType.boolean))) B.pre
  have hts : ∀ w ∈ lw_all, w.before _ s = true := fun w h => hts w (List.mem_cons_of_mem _ h)
  have hown : s.vm.findClass RJ2 = some m.cls := findClass_of_methodNamed B.named
  clear B
  subst hsz
  have hI : sI D dA wX ad (wA wX ad S s.heap.size) s.heap S s.heap [] := hC.start
  clear hC
  generalize wA wX ad S s.heap.size = A at hI hZ ⊢
  have hl := lv_entry ([.ref x0, .ref x1] : List Value) (n := 2) (Nat.le_of_ble_eq_true rfl)
  rw [lg_entry_eq]
  generalize (lg_sl ([.ref x0, .ref x1] : List Value) ++ List.replicate (2 - (lg_sl ([.ref x0, .ref x1] : List Value)).length) Slot.unset).toArray = ls at hl ⊢
  have hl : lv_has ls 2 [(0, .ref x0), (1, .ref x1)] := hl
  have hF : CallFix p m c cJ2_add 2 s _ lw_all RJ2 := ⟨hx, hb, hml, hown, hts⟩
  have hR : (headSpec (ws_ yJ2_add cJ2_add 2 (Option.some Jvm.ClassFile.FieldType.boolean)) (rmD 6 mc ms)).room.frames = 6 + 1 ∧ (headSpec (ws_ yJ2_add cJ2_add 2 (Option.some Jvm.ClassFile.FieldType.boolean)) (rmD 6 mc ms)).room.locals = 64 * 6 + 64 := ⟨rfl, rfl⟩
  have hRc : (headSpec (ws_ yJ2_add cJ2_add 2 (Option.some Jvm.ClassFile.FieldType.boolean)) (rmD 6 mc ms)).room.cells = mc ∧ (headSpec (ws_ yJ2_add cJ2_add 2 (Option.some Jvm.ClassFile.FieldType.boolean)) (rmD 6 mc ms)).room.slots = ms := ⟨rfl, rfl⟩
  generalize (headSpec (ws_ yJ2_add cJ2_add 2 (Option.some Jvm.ClassFile.FieldType.boolean)) (rmD 6 mc ms)).room = R at hR hRc ⊢
  obtain ⟨hRc, hRs⟩ := hRc
  have hcs : bOK R S 0 0 := ⟨by omega, by omega⟩
  clear hmc hms
  have hcs0 := hcs
  generalize ([.ref x0, .ref x1] : List Value).toArray = args at hts hF ⊢
  generalize hQ : MQ below _ _ _ _ _ _ = Q
  unfold w_J2_add at h
  refine lv_aload_n hx hb dJ2_add_0 rfl (lv_at hl 0 rfl) ?_
  refine lv_dup hx hb dJ2_add_1 rfl ?_
  obtain ⟨fs1, v4, hg2, hv3, h⟩ := h
  refine gPJ2_63 hF hK hI hg2 hv3 dJ2_add_2 (fun f5 => ?_)
  replace h := h f5
  refine nr_iconst hx hb dJ2_add_5 ?_
  have f6 := h.1; replace h := h.2
  refine nr_iadd hx hb dJ2_add_6 ?_
  obtain ⟨fs7, hg8, hn9, h⟩ := h
  refine uPJ2_63 hF hK hI hg8 hn9 f6 dJ2_add_7 (fun S10 H locs eS10 hI => ?_)
  replace h := h S10 eS10
  have hcs := bOK.to (S' := S10) hcs (by rw [eS10]; exact ⟨rfl, rfl⟩)
  refine lv_aload_n hx hb dJ2_add_10 rfl (lv_at hl 0 rfl) ?_
  refine lv_aload_n hx hb dJ2_add_11 rfl (lv_at hl 1 rfl) ?_
  refine lv_aload_n hx hb dJ2_add_12 rfl (lv_at hl 0 rfl) ?_
  obtain ⟨fs11, v14, hg12, hv13, h⟩ := h
  refine gPJ2_9 (v := some v14) hF hK hI hg12 hv13 dJ2_add_13 ?_
  show W p l e R s m args below meth c _ _ _ _ Q (F0 m _ ls [.ref v14, .ref x1, .ref x0])
  refine lv_aload_n hx hb dJ2_add_16 rfl (lv_at hl 0 rfl) ?_
  obtain ⟨fs15, v18, hg16, hv17, h⟩ := h
  refine gPJ2_48 hF hK hI hg16 hv17 dJ2_add_17 (fun f19 => ?_)
  replace h := h f19
  have hr23 := h.1; replace h := h.2
  obtain ⟨a20, b21, f22, h⟩ := h
  refine p_callVv (As := [.ref x1, .ref v14, iV v18]) (rest := []) hF (t_J2_add_2 l hlt D dA ad (bset S10 a20 b21) _ x0 x1 v14 v18 _ f19 a20.toNat b21.toNat (bC_bset _ _ _).symm (bL_bset _ _ _).symm h) (by obtain ⟨fs, hg⟩ := hr23; exact s_recvP hK hI hg rfl) (cwV 3 hts (lw_V q661 q663 qs16 q114 q664) rfl rfl rfl (by decide +kernel) ⟨by have h1 := hR.1; have h2 : (rmD 5 a20.toNat b21.toNat).frames = 5 + 1 := rfl; omega, by have h1 := hR.2; have h2 : (rmD 5 a20.toNat b21.toNat).locals = 64 * 5 + 64 := rfl; omega⟩) hK hI hZ hcs f22 rfl hl.1 rfl (Nat.le_of_ble_eq_true rfl) dJ2_add_20 (fun S25 S26 H locs cells slots h eS26 hI hcs => ?_)
  replace h := h S26 eS26
  refine nr_iconst hx hb dJ2_add_23 ?_
  rw [← hQ]; refine W.widen (k := mc) (n := ms) (by have h1 := hcs.1; omega) (by have h1 := hcs.2; omega) ?_; exact s_zret (K := K) hx hb hr hlocks hI (by decide) h dJ2_add_24
theorem uPX7_7 {p : Program} {l : Launch} {e : Env} {R : Room} {s : State} {m : MethodId} {args : Array Value} {below : List Frame} {meth : Method} {c : Code} {H : Heap} {locs : List Loc} {Q : State → Prop} {cc : ByteArray} {nL pc : Nat} {ls : Array Slot} {rest : List Value} {cells slots : Nat} {D : va_G} {dA : Nat → ClassId} {ad : Nat → Nat} {A : Nat → Prop} {H0 : Heap} {S : St} {q : Nat} {fs : List PV} {v : Int} (hF : CallFix p m c cc nL s args lw_all RX7) (hK : gK D dA s) (hI : sI D dA wX ad A H0 S H locs) (hg : gI S q = some (.inr (.inl (7, fs)))) (hlen : fs.length = 1) (hv : InR v) (hinit : meth.name = "<init>") (hdg : decode cc pc = .ok (.putfield 7, 3)) (kk : ∀ (S1 : St) (H1 : Heap) (locs1 : List Loc), S1 = gset S q (.inr (.inl (7, fs.set 0 (.inl v)))) → sI D dA wX ad A H0 S1 H1 locs1 → W p l e R s m args below meth c H1 locs1 cells slots Q (F0 m (pc + 3) ls (rest))) : W p l e R s m args below meth c H locs cells slots Q (F0 m (pc) ls (iV v :: .ref q :: rest)) := s_pputF (v := .inl v) hF.1 hF.2.1 tyX7 tyX7_ok nmX7 hF.2.2.2.2 hF.2.2.2.1 hK hI (by decide) hg hlen rfl in_X7 0 (by decide) q585 rfl hv rfl (hinit) rfl rfl rfl hdg kk
set_option maxHeartbeats 4000000 in
theorem t_X7_init (l : Launch) (hlt : l.stackTraces = false) (D : va_G) (dA : Nat → ClassId) (ad : Nat → Nat) (S : St) (sz : Nat) (x0 : Nat) (x1 : Int) (K : St → Prop) (rx1 : InR x1) (mc ms : Nat) (hmc : mc = bC S) (hms : ms = bL S) (h : w_X7_init x0 x1 S K) : Met l yX7_init (ws_ yX7_init cX7_init 2 (Option.none : Option Jvm.ClassFile.FieldType)) (rmD 2 mc ms) (va_Pc [.ref x0, iV x1] (tPre D dA ad S sz)) (va_Qv (fun S' => K S') (sPost D dA wX ad (wA wX ad S sz)) (wA wX ad S sz)) mc ms (wA wX ad S sz) := by
  refine Met.ofW (cc := cX7_init) (maxL := 2) (ret := (Option.none : Option Jvm.ClassFile.FieldType)) (by decide) rfl ?_
  intro p e s m args below meth c s₁ B hml hv
  obtain ⟨rfl, ⟨hsz, hK, hC⟩, hZ⟩ := hv
  have hx := B.exec
  have hb := B.bytes
  have hr := B.returns
  have hlocks := B.notSynchronized
  have hinit : meth.name = "<init>" := (name_of_methodNamed B.named B.method).1
  have hts := atoms_spec (ws := (ws_ yX7_init cX7_init 2 (Option.none : Option Jvm.ClassFile.FieldType))) B.pre
  have hts : ∀ w ∈ lw_all, w.before _ s = true := fun w h => hts w (List.mem_cons_of_mem _ h)
  have hown : s.vm.findClass RX7 = some m.cls := findClass_of_methodNamed B.named
  clear B
  subst hsz
  have hI : sI D dA wX ad (wA wX ad S s.heap.size) s.heap S s.heap [] := hC.start
  clear hC
  generalize wA wX ad S s.heap.size = A at hI hZ ⊢
  have hl := lv_entry ([.ref x0, iV x1] : List Value) (n := 2) (Nat.le_of_ble_eq_true rfl)
  rw [lg_entry_eq]
  generalize (lg_sl ([.ref x0, iV x1] : List Value) ++ List.replicate (2 - (lg_sl ([.ref x0, iV x1] : List Value)).length) Slot.unset).toArray = ls at hl ⊢
  have hl : lv_has ls 2 [(0, .ref x0), (1, iV x1)] := hl
  have hF : CallFix p m c cX7_init 2 s _ lw_all RX7 := ⟨hx, hb, hml, hown, hts⟩
  have hR : (headSpec (ws_ yX7_init cX7_init 2 (Option.none : Option Jvm.ClassFile.FieldType)) (rmD 2 mc ms)).room.frames = 2 + 1 ∧ (headSpec (ws_ yX7_init cX7_init 2 (Option.none : Option Jvm.ClassFile.FieldType)) (rmD 2 mc ms)).room.locals = 64 * 2 + 64 := ⟨rfl, rfl⟩
  have hRc : (headSpec (ws_ yX7_init cX7_init 2 (Option.none : Option Jvm.ClassFile.FieldType)) (rmD 2 mc ms)).room.cells = mc ∧ (headSpec (ws_ yX7_init cX7_init 2 (Option.none : Option Jvm.ClassFile.FieldType)) (rmD 2 mc ms)).room.slots = ms := ⟨rfl, rfl⟩
  generalize (headSpec (ws_ yX7_init cX7_init 2 (Option.none : Option Jvm.ClassFile.FieldType)) (rmD 2 mc ms)).room = R at hR hRc ⊢
  obtain ⟨hRc, hRs⟩ := hRc
  have hcs : bOK R S 0 0 := ⟨by omega, by omega⟩
  clear hmc hms
  have hcs0 := hcs
  generalize ([.ref x0, iV x1] : List Value).toArray = args at hts hF ⊢
  generalize hQ : MQ below _ _ _ _ _ _ = Q
  unfold w_X7_init at h
  refine lv_aload_n hx hb dX7_init_0 rfl (lv_at hl 0 rfl) ?_
  obtain ⟨a1, b2, f3, h⟩ := h
  refine p_callIv (As := []) (rest := []) hF (t_J10_init l hlt D dA ad (bset S a1 b2) _ x0 _ a1.toNat b2.toNat (bC_bset _ _ _).symm (bL_bset _ _ _).symm h) (cwI 0 hts (lw_meth q583) rfl rfl rfl (hts _ q124) (hts _ q581) (hts _ q582) rfl (by decide +kernel) ⟨by have h1 := hR.1; have h2 : (rmD 1 a1.toNat b2.toNat).frames = 1 + 1 := rfl; omega, by have h1 := hR.2; have h2 : (rmD 1 a1.toNat b2.toNat).locals = 64 * 1 + 64 := rfl; omega⟩) hK hI hZ hcs f3 rfl hl.1 rfl (Nat.le_of_ble_eq_true rfl) dX7_init_1 (fun S5 S6 H locs cells slots h eS6 hI hcs => ?_)
  replace h := h S6 eS6
  refine lv_aload_n hx hb dX7_init_4 rfl (lv_at hl 0 rfl) ?_
  refine lv_iload_n hx hb dX7_init_5 rfl (lv_at hl 1 rfl) ?_
  obtain ⟨fs8, hg9, hn10, h⟩ := h
  refine uPX7_7 hF hK hI hg9 hn10 rx1 hinit dX7_init_6 (fun S11 H locs eS11 hI => ?_)
  replace h := h S11 eS11
  have hcs := bOK.to (S' := S11) hcs (by rw [eS11]; exact ⟨rfl, rfl⟩)
  rw [← hQ]; refine W.widen (k := mc) (n := ms) (by have h1 := hcs.1; omega) (by have h1 := hcs.2; omega) ?_; exact s_vret (K := K) hx hb hr hlocks hI h dX7_init_9
theorem uPX8_7 {p : Program} {l : Launch} {e : Env} {R : Room} {s : State} {m : MethodId} {args : Array Value} {below : List Frame} {meth : Method} {c : Code} {H : Heap} {locs : List Loc} {Q : State → Prop} {cc : ByteArray} {nL pc : Nat} {ls : Array Slot} {rest : List Value} {cells slots : Nat} {D : va_G} {dA : Nat → ClassId} {ad : Nat → Nat} {A : Nat → Prop} {H0 : Heap} {S : St} {q : Nat} {fs : List PV} {v : Int} (hF : CallFix p m c cc nL s args lw_all RX8) (hK : gK D dA s) (hI : sI D dA wX ad A H0 S H locs) (hg : gI S q = some (.inr (.inl (8, fs)))) (hlen : fs.length = 1) (hv : InR v) (hinit : meth.name = "<init>") (hdg : decode cc pc = .ok (.putfield 7, 3)) (kk : ∀ (S1 : St) (H1 : Heap) (locs1 : List Loc), S1 = gset S q (.inr (.inl (8, fs.set 0 (.inl v)))) → sI D dA wX ad A H0 S1 H1 locs1 → W p l e R s m args below meth c H1 locs1 cells slots Q (F0 m (pc + 3) ls (rest))) : W p l e R s m args below meth c H locs cells slots Q (F0 m (pc) ls (iV v :: .ref q :: rest)) := s_pputF (v := .inl v) hF.1 hF.2.1 tyX8 tyX8_ok nmX8 hF.2.2.2.2 hF.2.2.2.1 hK hI (by decide) hg hlen rfl in_X8 0 (by decide) q595 rfl hv rfl (hinit) rfl rfl rfl hdg kk
set_option maxHeartbeats 4000000 in
theorem t_X8_init (l : Launch) (hlt : l.stackTraces = false) (D : va_G) (dA : Nat → ClassId) (ad : Nat → Nat) (S : St) (sz : Nat) (x0 : Nat) (x1 : Int) (K : St → Prop) (rx1 : InR x1) (mc ms : Nat) (hmc : mc = bC S) (hms : ms = bL S) (h : w_X8_init x0 x1 S K) : Met l yX8_init (ws_ yX8_init cX8_init 2 (Option.none : Option Jvm.ClassFile.FieldType)) (rmD 2 mc ms) (va_Pc [.ref x0, iV x1] (tPre D dA ad S sz)) (va_Qv (fun S' => K S') (sPost D dA wX ad (wA wX ad S sz)) (wA wX ad S sz)) mc ms (wA wX ad S sz) := by
  refine Met.ofW (cc := cX8_init) (maxL := 2) (ret := (Option.none : Option Jvm.ClassFile.FieldType)) (by decide) rfl ?_
  intro p e s m args below meth c s₁ B hml hv
  obtain ⟨rfl, ⟨hsz, hK, hC⟩, hZ⟩ := hv
  have hx := B.exec
  have hb := B.bytes
  have hr := B.returns
  have hlocks := B.notSynchronized
  have hinit : meth.name = "<init>" := (name_of_methodNamed B.named B.method).1
  have hts := atoms_spec (ws := (ws_ yX8_init cX8_init 2 (Option.none : Option Jvm.ClassFile.FieldType))) B.pre
  have hts : ∀ w ∈ lw_all, w.before _ s = true := fun w h => hts w (List.mem_cons_of_mem _ h)
  have hown : s.vm.findClass RX8 = some m.cls := findClass_of_methodNamed B.named
  clear B
  subst hsz
  have hI : sI D dA wX ad (wA wX ad S s.heap.size) s.heap S s.heap [] := hC.start
  clear hC
  generalize wA wX ad S s.heap.size = A at hI hZ ⊢
  have hl := lv_entry ([.ref x0, iV x1] : List Value) (n := 2) (Nat.le_of_ble_eq_true rfl)
  rw [lg_entry_eq]
  generalize (lg_sl ([.ref x0, iV x1] : List Value) ++ List.replicate (2 - (lg_sl ([.ref x0, iV x1] : List Value)).length) Slot.unset).toArray = ls at hl ⊢
  have hl : lv_has ls 2 [(0, .ref x0), (1, iV x1)] := hl
  have hF : CallFix p m c cX8_init 2 s _ lw_all RX8 := ⟨hx, hb, hml, hown, hts⟩
  have hR : (headSpec (ws_ yX8_init cX8_init 2 (Option.none : Option Jvm.ClassFile.FieldType)) (rmD 2 mc ms)).room.frames = 2 + 1 ∧ (headSpec (ws_ yX8_init cX8_init 2 (Option.none : Option Jvm.ClassFile.FieldType)) (rmD 2 mc ms)).room.locals = 64 * 2 + 64 := ⟨rfl, rfl⟩
  have hRc : (headSpec (ws_ yX8_init cX8_init 2 (Option.none : Option Jvm.ClassFile.FieldType)) (rmD 2 mc ms)).room.cells = mc ∧ (headSpec (ws_ yX8_init cX8_init 2 (Option.none : Option Jvm.ClassFile.FieldType)) (rmD 2 mc ms)).room.slots = ms := ⟨rfl, rfl⟩
  generalize (headSpec (ws_ yX8_init cX8_init 2 (Option.none : Option Jvm.ClassFile.FieldType)) (rmD 2 mc ms)).room = R at hR hRc ⊢
  obtain ⟨hRc, hRs⟩ := hRc
  have hcs : bOK R S 0 0 := ⟨by omega, by omega⟩
  clear hmc hms
  have hcs0 := hcs
  generalize ([.ref x0, iV x1] : List Value).toArray = args at hts hF ⊢
  generalize hQ : MQ below _ _ _ _ _ _ = Q
  unfold w_X8_init at h
  refine lv_aload_n hx hb dX8_init_0 rfl (lv_at hl 0 rfl) ?_
  obtain ⟨a1, b2, f3, h⟩ := h
  refine p_callIv (As := []) (rest := []) hF (t_J10_init l hlt D dA ad (bset S a1 b2) _ x0 _ a1.toNat b2.toNat (bC_bset _ _ _).symm (bL_bset _ _ _).symm h) (cwI 0 hts (lw_meth q583) rfl rfl rfl (hts _ q124) (hts _ q594) (hts _ q582) rfl (by decide +kernel) ⟨by have h1 := hR.1; have h2 : (rmD 1 a1.toNat b2.toNat).frames = 1 + 1 := rfl; omega, by have h1 := hR.2; have h2 : (rmD 1 a1.toNat b2.toNat).locals = 64 * 1 + 64 := rfl; omega⟩) hK hI hZ hcs f3 rfl hl.1 rfl (Nat.le_of_ble_eq_true rfl) dX8_init_1 (fun S5 S6 H locs cells slots h eS6 hI hcs => ?_)
  replace h := h S6 eS6
  refine lv_aload_n hx hb dX8_init_4 rfl (lv_at hl 0 rfl) ?_
  refine lv_iload_n hx hb dX8_init_5 rfl (lv_at hl 1 rfl) ?_
  obtain ⟨fs8, hg9, hn10, h⟩ := h
  refine uPX8_7 hF hK hI hg9 hn10 rx1 hinit dX8_init_6 (fun S11 H locs eS11 hI => ?_)
  replace h := h S11 eS11
  have hcs := bOK.to (S' := S11) hcs (by rw [eS11]; exact ⟨rfl, rfl⟩)
  rw [← hQ]; refine W.widen (k := mc) (n := ms) (by have h1 := hcs.1; omega) (by have h1 := hcs.2; omega) ?_; exact s_vret (K := K) hx hb hr hlocks hI h dX8_init_9
theorem uPX9_7 {p : Program} {l : Launch} {e : Env} {R : Room} {s : State} {m : MethodId} {args : Array Value} {below : List Frame} {meth : Method} {c : Code} {H : Heap} {locs : List Loc} {Q : State → Prop} {cc : ByteArray} {nL pc : Nat} {ls : Array Slot} {rest : List Value} {cells slots : Nat} {D : va_G} {dA : Nat → ClassId} {ad : Nat → Nat} {A : Nat → Prop} {H0 : Heap} {S : St} {q : Nat} {fs : List PV} {r : Nat} (hF : CallFix p m c cc nL s args lw_all RX9) (hK : gK D dA s) (hI : sI D dA wX ad A H0 S H locs) (hg : gI S q = some (.inr (.inl (9, fs)))) (hlen : fs.length = 1) (hinit : meth.name = "<init>") (hdg : decode cc pc = .ok (.putfield 7, 3)) (kk : ∀ (S1 : St) (H1 : Heap) (locs1 : List Loc), S1 = gset S q (.inr (.inl (9, fs.set 0 (.inr (.inr (some r)))))) → sI D dA wX ad A H0 S1 H1 locs1 → W p l e R s m args below meth c H1 locs1 cells slots Q (F0 m (pc + 3) ls (rest))) : W p l e R s m args below meth c H locs cells slots Q (F0 m (pc) ls (.ref r :: .ref q :: rest)) := s_pputF (v := .inr (.inr (some r))) hF.1 hF.2.1 tyX9 tyX9_ok nmX9 hF.2.2.2.2 hF.2.2.2.1 hK hI (by decide) hg hlen rfl in_X9 0 (by decide) q613 rfl trivial rfl (hinit) rfl rfl rfl hdg kk
set_option maxHeartbeats 4000000 in
theorem t_X9_init (l : Launch) (hlt : l.stackTraces = false) (D : va_G) (dA : Nat → ClassId) (ad : Nat → Nat) (S : St) (sz : Nat) (x0 : Nat) (x1 : Nat) (K : St → Prop) (mc ms : Nat) (hmc : mc = bC S) (hms : ms = bL S) (h : w_X9_init x0 x1 S K) : Met l yX9_init (ws_ yX9_init cX9_init 2 (Option.none : Option Jvm.ClassFile.FieldType)) (rmD 2 mc ms) (va_Pc [.ref x0, .ref x1] (tPre D dA ad S sz)) (va_Qv (fun S' => K S') (sPost D dA wX ad (wA wX ad S sz)) (wA wX ad S sz)) mc ms (wA wX ad S sz) := by
  refine Met.ofW (cc := cX9_init) (maxL := 2) (ret := (Option.none : Option Jvm.ClassFile.FieldType)) (by decide) rfl ?_
  intro p e s m args below meth c s₁ B hml hv
  obtain ⟨rfl, ⟨hsz, hK, hC⟩, hZ⟩ := hv
  have hx := B.exec
  have hb := B.bytes
  have hr := B.returns
  have hlocks := B.notSynchronized
  have hinit : meth.name = "<init>" := (name_of_methodNamed B.named B.method).1
  have hts := atoms_spec (ws := (ws_ yX9_init cX9_init 2 (Option.none : Option Jvm.ClassFile.FieldType))) B.pre
  have hts : ∀ w ∈ lw_all, w.before _ s = true := fun w h => hts w (List.mem_cons_of_mem _ h)
  have hown : s.vm.findClass RX9 = some m.cls := findClass_of_methodNamed B.named
  clear B
  subst hsz
  have hI : sI D dA wX ad (wA wX ad S s.heap.size) s.heap S s.heap [] := hC.start
  clear hC
  generalize wA wX ad S s.heap.size = A at hI hZ ⊢
  have hl := lv_entry ([.ref x0, .ref x1] : List Value) (n := 2) (Nat.le_of_ble_eq_true rfl)
  rw [lg_entry_eq]
  generalize (lg_sl ([.ref x0, .ref x1] : List Value) ++ List.replicate (2 - (lg_sl ([.ref x0, .ref x1] : List Value)).length) Slot.unset).toArray = ls at hl ⊢
  have hl : lv_has ls 2 [(0, .ref x0), (1, .ref x1)] := hl
  have hF : CallFix p m c cX9_init 2 s _ lw_all RX9 := ⟨hx, hb, hml, hown, hts⟩
  have hR : (headSpec (ws_ yX9_init cX9_init 2 (Option.none : Option Jvm.ClassFile.FieldType)) (rmD 2 mc ms)).room.frames = 2 + 1 ∧ (headSpec (ws_ yX9_init cX9_init 2 (Option.none : Option Jvm.ClassFile.FieldType)) (rmD 2 mc ms)).room.locals = 64 * 2 + 64 := ⟨rfl, rfl⟩
  have hRc : (headSpec (ws_ yX9_init cX9_init 2 (Option.none : Option Jvm.ClassFile.FieldType)) (rmD 2 mc ms)).room.cells = mc ∧ (headSpec (ws_ yX9_init cX9_init 2 (Option.none : Option Jvm.ClassFile.FieldType)) (rmD 2 mc ms)).room.slots = ms := ⟨rfl, rfl⟩
  generalize (headSpec (ws_ yX9_init cX9_init 2 (Option.none : Option Jvm.ClassFile.FieldType)) (rmD 2 mc ms)).room = R at hR hRc ⊢
  obtain ⟨hRc, hRs⟩ := hRc
  have hcs : bOK R S 0 0 := ⟨by omega, by omega⟩
  clear hmc hms
  have hcs0 := hcs
  generalize ([.ref x0, .ref x1] : List Value).toArray = args at hts hF ⊢
  generalize hQ : MQ below _ _ _ _ _ _ = Q
  unfold w_X9_init at h
  refine lv_aload_n hx hb dX9_init_0 rfl (lv_at hl 0 rfl) ?_
  obtain ⟨a1, b2, f3, h⟩ := h
  refine p_callIv (As := []) (rest := []) hF (t_J10_init l hlt D dA ad (bset S a1 b2) _ x0 _ a1.toNat b2.toNat (bC_bset _ _ _).symm (bL_bset _ _ _).symm h) (cwI 0 hts (lw_meth q583) rfl rfl rfl (hts _ q124) (hts _ q612) (hts _ q582) rfl (by decide +kernel) ⟨by have h1 := hR.1; have h2 : (rmD 1 a1.toNat b2.toNat).frames = 1 + 1 := rfl; omega, by have h1 := hR.2; have h2 : (rmD 1 a1.toNat b2.toNat).locals = 64 * 1 + 64 := rfl; omega⟩) hK hI hZ hcs f3 rfl hl.1 rfl (Nat.le_of_ble_eq_true rfl) dX9_init_1 (fun S5 S6 H locs cells slots h eS6 hI hcs => ?_)
  replace h := h S6 eS6
  refine lv_aload_n hx hb dX9_init_4 rfl (lv_at hl 0 rfl) ?_
  refine lv_aload_n hx hb dX9_init_5 rfl (lv_at hl 1 rfl) ?_
  obtain ⟨fs8, hg9, hn10, h⟩ := h
  refine uPX9_7 hF hK hI hg9 hn10 hinit dX9_init_6 (fun S11 H locs eS11 hI => ?_)
  replace h := h S11 eS11
  have hcs := bOK.to (S' := S11) hcs (by rw [eS11]; exact ⟨rfl, rfl⟩)
  rw [← hQ]; refine W.widen (k := mc) (n := ms) (by have h1 := hcs.1; omega) (by have h1 := hcs.2; omega) ?_; exact s_vret (K := K) hx hb hr hlocks hI h dX9_init_9
theorem uPX10_7 {p : Program} {l : Launch} {e : Env} {R : Room} {s : State} {m : MethodId} {args : Array Value} {below : List Frame} {meth : Method} {c : Code} {H : Heap} {locs : List Loc} {Q : State → Prop} {cc : ByteArray} {nL pc : Nat} {ls : Array Slot} {rest : List Value} {cells slots : Nat} {D : va_G} {dA : Nat → ClassId} {ad : Nat → Nat} {A : Nat → Prop} {H0 : Heap} {S : St} {q : Nat} {fs : List PV} {r : Nat} (hF : CallFix p m c cc nL s args lw_all RX10) (hK : gK D dA s) (hI : sI D dA wX ad A H0 S H locs) (hg : gI S q = some (.inr (.inl (10, fs)))) (hlen : fs.length = 1) (hinit : meth.name = "<init>") (hdg : decode cc pc = .ok (.putfield 7, 3)) (kk : ∀ (S1 : St) (H1 : Heap) (locs1 : List Loc), S1 = gset S q (.inr (.inl (10, fs.set 0 (.inr (.inr (some r)))))) → sI D dA wX ad A H0 S1 H1 locs1 → W p l e R s m args below meth c H1 locs1 cells slots Q (F0 m (pc + 3) ls (rest))) : W p l e R s m args below meth c H locs cells slots Q (F0 m (pc) ls (.ref r :: .ref q :: rest)) := s_pputF (v := .inr (.inr (some r))) hF.1 hF.2.1 tyX10 tyX10_ok nmX10 hF.2.2.2.2 hF.2.2.2.1 hK hI (by decide) hg hlen rfl in_X10 0 (by decide) q744 rfl trivial rfl (hinit) rfl rfl rfl hdg kk
set_option maxHeartbeats 4000000 in
theorem t_X10_init (l : Launch) (hlt : l.stackTraces = false) (D : va_G) (dA : Nat → ClassId) (ad : Nat → Nat) (S : St) (sz : Nat) (x0 : Nat) (x1 : Nat) (K : St → Prop) (mc ms : Nat) (hmc : mc = bC S) (hms : ms = bL S) (h : w_X10_init x0 x1 S K) : Met l yX10_init (ws_ yX10_init cX10_init 2 (Option.none : Option Jvm.ClassFile.FieldType)) (rmD 2 mc ms) (va_Pc [.ref x0, .ref x1] (tPre D dA ad S sz)) (va_Qv (fun S' => K S') (sPost D dA wX ad (wA wX ad S sz)) (wA wX ad S sz)) mc ms (wA wX ad S sz) := by
  refine Met.ofW (cc := cX10_init) (maxL := 2) (ret := (Option.none : Option Jvm.ClassFile.FieldType)) (by decide) rfl ?_
  intro p e s m args below meth c s₁ B hml hv
  obtain ⟨rfl, ⟨hsz, hK, hC⟩, hZ⟩ := hv
  have hx := B.exec
  have hb := B.bytes
  have hr := B.returns
  have hlocks := B.notSynchronized
  have hinit : meth.name = "<init>" := (name_of_methodNamed B.named B.method).1
  have hts := atoms_spec (ws := (ws_ yX10_init cX10_init 2 (Option.none : Option Jvm.ClassFile.FieldType))) B.pre
  have hts : ∀ w ∈ lw_all, w.before _ s = true := fun w h => hts w (List.mem_cons_of_mem _ h)
  have hown : s.vm.findClass RX10 = some m.cls := findClass_of_methodNamed B.named
  clear B
  subst hsz
  have hI : sI D dA wX ad (wA wX ad S s.heap.size) s.heap S s.heap [] := hC.start
  clear hC
  generalize wA wX ad S s.heap.size = A at hI hZ ⊢
  have hl := lv_entry ([.ref x0, .ref x1] : List Value) (n := 2) (Nat.le_of_ble_eq_true rfl)
  rw [lg_entry_eq]
  generalize (lg_sl ([.ref x0, .ref x1] : List Value) ++ List.replicate (2 - (lg_sl ([.ref x0, .ref x1] : List Value)).length) Slot.unset).toArray = ls at hl ⊢
  have hl : lv_has ls 2 [(0, .ref x0), (1, .ref x1)] := hl
  have hF : CallFix p m c cX10_init 2 s _ lw_all RX10 := ⟨hx, hb, hml, hown, hts⟩
  have hR : (headSpec (ws_ yX10_init cX10_init 2 (Option.none : Option Jvm.ClassFile.FieldType)) (rmD 2 mc ms)).room.frames = 2 + 1 ∧ (headSpec (ws_ yX10_init cX10_init 2 (Option.none : Option Jvm.ClassFile.FieldType)) (rmD 2 mc ms)).room.locals = 64 * 2 + 64 := ⟨rfl, rfl⟩
  have hRc : (headSpec (ws_ yX10_init cX10_init 2 (Option.none : Option Jvm.ClassFile.FieldType)) (rmD 2 mc ms)).room.cells = mc ∧ (headSpec (ws_ yX10_init cX10_init 2 (Option.none : Option Jvm.ClassFile.FieldType)) (rmD 2 mc ms)).room.slots = ms := ⟨rfl, rfl⟩
  generalize (headSpec (ws_ yX10_init cX10_init 2 (Option.none : Option Jvm.ClassFile.FieldType)) (rmD 2 mc ms)).room = R at hR hRc ⊢
  obtain ⟨hRc, hRs⟩ := hRc
  have hcs : bOK R S 0 0 := ⟨by omega, by omega⟩
  clear hmc hms
  have hcs0 := hcs
  generalize ([.ref x0, .ref x1] : List Value).toArray = args at hts hF ⊢
  generalize hQ : MQ below _ _ _ _ _ _ = Q
  unfold w_X10_init at h
  refine lv_aload_n hx hb dX10_init_0 rfl (lv_at hl 0 rfl) ?_
  obtain ⟨a1, b2, f3, h⟩ := h
  refine p_callIv (As := []) (rest := []) hF (t_J10_init l hlt D dA ad (bset S a1 b2) _ x0 _ a1.toNat b2.toNat (bC_bset _ _ _).symm (bL_bset _ _ _).symm h) (cwI 0 hts (lw_meth q583) rfl rfl rfl (hts _ q124) (hts _ q743) (hts _ q582) rfl (by decide +kernel) ⟨by have h1 := hR.1; have h2 : (rmD 1 a1.toNat b2.toNat).frames = 1 + 1 := rfl; omega, by have h1 := hR.2; have h2 : (rmD 1 a1.toNat b2.toNat).locals = 64 * 1 + 64 := rfl; omega⟩) hK hI hZ hcs f3 rfl hl.1 rfl (Nat.le_of_ble_eq_true rfl) dX10_init_1 (fun S5 S6 H locs cells slots h eS6 hI hcs => ?_)
  replace h := h S6 eS6
  refine lv_aload_n hx hb dX10_init_4 rfl (lv_at hl 0 rfl) ?_
  refine lv_aload_n hx hb dX10_init_5 rfl (lv_at hl 1 rfl) ?_
  obtain ⟨fs8, hg9, hn10, h⟩ := h
  refine uPX10_7 hF hK hI hg9 hn10 hinit dX10_init_6 (fun S11 H locs eS11 hI => ?_)
  replace h := h S11 eS11
  have hcs := bOK.to (S' := S11) hcs (by rw [eS11]; exact ⟨rfl, rfl⟩)
  rw [← hQ]; refine W.widen (k := mc) (n := ms) (by have h1 := hcs.1; omega) (by have h1 := hcs.2; omega) ?_; exact s_vret (K := K) hx hb hr hlocks hI h dX10_init_9
