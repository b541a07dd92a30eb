set_option maxRecDepth 100000
set_option maxHeartbeats 4000000 in
theorem t_X6_add (l : Launch) (hlt : l.stackTraces = false) (D : va_G) (dA : Nat → ClassId) (ad : Nat → Nat) (S : St) (sz : Nat) (x0 : Nat) (x1 : Int) (x2 : Nat) (K : St → Prop) (rx1 : InR x1) (mc ms : Nat) (hmc : mc = bC S) (hms : ms = bL S) (h : w_X6_add x0 x1 x2 S K) : Met l yX6_add (ws_ yX6_add cX6_add 3 (Option.none : Option Jvm.ClassFile.FieldType)) (rmD 7 mc ms) (va_Pc [.ref x0, iV x1, .ref x2] (tPre D dA ad S sz)) (va_Qv (fun S' => K S') (sPost D dA wX ad (wA wX ad S sz)) (wA wX ad S sz)) mc ms (wA wX ad S sz) := by
  refine Met.ofW (cc := cX6_add) (maxL := 3) (ret := (Option.none : Option Jvm.ClassFile.FieldType)) (by decide) rfl ?_
  intro p e s m args below meth c s₁ B hml hv
  obtain ⟨rfl, ⟨hsz, hK, hC⟩, hZ⟩ := hv
  have hx := B.exec
  have hb := B.bytes
  have hr := B.returns
  have hlocks := B.notSynchronized
  have hts := atoms_spec (ws := (ws_ yX6_add cX6_add 3 (Option.none : Option Jvm.ClassFile.FieldType))) B.pre
  have hts : ∀ w ∈ lw_all, w.before _ s = true := fun w h => hts w (List.mem_cons_of_mem _ h)
  have hown : s.vm.findClass RX6 = some m.cls := findClass_of_methodNamed B.named
  clear B
  subst hsz
  have hI : sI D dA wX ad (wA wX ad S s.heap.size) s.heap S s.heap [] := hC.start
  clear hC
  generalize wA wX ad S s.heap.size = A at hI hZ ⊢
  have hl := lv_entry ([.ref x0, iV x1, .ref x2] : List Value) (n := 3) (Nat.le_of_ble_eq_true rfl)
  rw [lg_entry_eq]
  generalize (lg_sl ([.ref x0, iV x1, .ref x2] : List Value) ++ List.replicate (3 - (lg_sl ([.ref x0, iV x1, .ref x2] : List Value)).length) Slot.unset).toArray = ls at hl ⊢
  have hl : lv_has ls 3 [(0, .ref x0), (1, iV x1), (2, .ref x2)] := hl
  have hF : CallFix p m c cX6_add 3 s _ lw_all RX6 := ⟨hx, hb, hml, hown, hts⟩
  have hR : (headSpec (ws_ yX6_add cX6_add 3 (Option.none : Option Jvm.ClassFile.FieldType)) (rmD 7 mc ms)).room.frames = 7 + 1 ∧ (headSpec (ws_ yX6_add cX6_add 3 (Option.none : Option Jvm.ClassFile.FieldType)) (rmD 7 mc ms)).room.locals = 64 * 7 + 64 := ⟨rfl, rfl⟩
  have hRc : (headSpec (ws_ yX6_add cX6_add 3 (Option.none : Option Jvm.ClassFile.FieldType)) (rmD 7 mc ms)).room.cells = mc ∧ (headSpec (ws_ yX6_add cX6_add 3 (Option.none : Option Jvm.ClassFile.FieldType)) (rmD 7 mc ms)).room.slots = ms := ⟨rfl, rfl⟩
  generalize (headSpec (ws_ yX6_add cX6_add 3 (Option.none : Option Jvm.ClassFile.FieldType)) (rmD 7 mc ms)).room = R at hR hRc ⊢
  obtain ⟨hRc, hRs⟩ := hRc
  have hcs : bOK R S 0 0 := ⟨by omega, by omega⟩
  clear hmc hms
  have hcs0 := hcs
  generalize ([.ref x0, iV x1, .ref x2] : List Value).toArray = args at hts hF ⊢
  generalize hQ : MQ below _ _ _ _ _ _ = Q
  unfold w_X6_add at h
  refine lv_aload_n hx hb dX6_add_0 rfl (lv_at hl 0 rfl) ?_
  obtain ⟨fs1, v4, hg2, hv3, h⟩ := h
  refine gPX6_18 (v := some v4) hF hK hI hg2 hv3 dX6_add_1 ?_
  show W p l e R s m args below meth c _ _ _ _ Q (F0 m _ ls [.ref v4])
  refine lv_iload_n hx hb dX6_add_4 rfl (lv_at hl 1 rfl) ?_
  obtain ⟨a5, b6, f7, h⟩ := h
  refine p_callSq (As := [iV x1]) (rest := [.ref v4]) hF (t_J12_valueOf l hlt D dA ad (bset S a5 b6) _ x1 _ rx1 a5.toNat b6.toNat (bC_bset _ _ _).symm (bL_bset _ _ _).symm h) (va_cwS 1 hts (lw_S q637 q638 q129 q639) rfl rfl rfl (by decide +kernel) ⟨by have h1 := hR.1; have h2 : (rmD 0 a5.toNat b6.toNat).frames = 0 + 1 := rfl; omega, by have h1 := hR.2; have h2 : (rmD 0 a5.toNat b6.toNat).locals = 64 * 0 + 64 := rfl; omega⟩) hK hI hZ hcs f7 rfl hl.1 rfl (Nat.le_of_ble_eq_true rfl) dX6_add_5 (fun r8 S9 S10 H locs cells slots h eS10 hI hcs => ?_)
  replace h := h S10 eS10
  obtain ⟨q12, e13, h⟩ := h
  rw [e13]
  show W p l e R s m args below meth c _ _ _ _ Q (F0 m _ ls [.ref q12, .ref v4])
  have hr17 := h.1; replace h := h.2
  obtain ⟨a14, b15, f16, h⟩ := h
  refine p_callVz (As := [.ref q12]) (rest := []) hF (t_J2_add l hlt D dA ad (bset S10 a14 b15) _ v4 q12 _ a14.toNat b15.toNat (bC_bset _ _ _).symm (bL_bset _ _ _).symm h) (by obtain ⟨fs, hg⟩ := hr17; exact s_recvP hK hI hg rfl) (cwV 1 hts (lw_V q657 q658 q659 q114 q660) rfl rfl rfl (by decide +kernel) ⟨by have h1 := hR.1; have h2 : (rmD 6 a14.toNat b15.toNat).frames = 6 + 1 := rfl; omega, by have h1 := hR.2; have h2 : (rmD 6 a14.toNat b15.toNat).locals = 64 * 6 + 64 := rfl; omega⟩) hK hI hZ hcs f16 rfl hl.1 rfl (Nat.le_of_ble_eq_true rfl) dX6_add_8 (fun r18 S19 S20 H locs cells slots fr18 h eS20 hI hcs => ?_)
  replace h := h fr18
  replace h := h S20 eS20
  have gr18 : InR r18 := kdP_R (k := 2) (by decide) fr18
  refine lv_pop hx hb dX6_add_11 rfl ?_
  refine lv_aload_n hx hb dX6_add_12 rfl (lv_at hl 0 rfl) ?_
  obtain ⟨fs22, v25, hg23, hv24, h⟩ := h
  refine gPX6_12 (v := some v25) hF hK hI hg23 hv24 dX6_add_13 ?_
  show W p l e R s m args below meth c _ _ _ _ Q (F0 m _ ls [.ref v25])
  refine lv_aload_n hx hb dX6_add_16 rfl (lv_at hl 2 rfl) ?_
  have hr29 := h.1; replace h := h.2
  obtain ⟨a26, b27, f28, h⟩ := h
  refine p_callVz (As := [.ref x2]) (rest := []) hF (t_J2_add l hlt D dA ad (bset S20 a26 b27) _ v25 x2 _ a26.toNat b27.toNat (bC_bset _ _ _).symm (bL_bset _ _ _).symm h) (by obtain ⟨fs, hg⟩ := hr29; exact s_recvP hK hI hg rfl) (cwV 1 hts (lw_V q657 q658 q659 q114 q660) rfl rfl rfl (by decide +kernel) ⟨by have h1 := hR.1; have h2 : (rmD 6 a26.toNat b27.toNat).frames = 6 + 1 := rfl; omega, by have h1 := hR.2; have h2 : (rmD 6 a26.toNat b27.toNat).locals = 64 * 6 + 64 := rfl; omega⟩) hK hI hZ hcs f28 rfl hl.1 rfl (Nat.le_of_ble_eq_true rfl) dX6_add_17 (fun r30 S31 S32 H locs cells slots fr30 h eS32 hI hcs => ?_)
  replace h := h fr30
  replace h := h S32 eS32
  have gr30 : InR r30 := kdP_R (k := 2) (by decide) fr30
  refine lv_pop hx hb dX6_add_20 rfl ?_
  rw [← hQ]; refine W.widen (k := mc) (n := ms) (by have h1 := hcs.1; omega) (by have h1 := hcs.2; omega) ?_; exact s_vret (K := K) hx hb hr hlocks hI h dX6_add_21
theorem cXX6_35 {p : Program} {l : Launch} {e : Env} {R : Room} {s : State} {m : MethodId} {args : Array Value} {below : List Frame} {meth : Method} {c : Code} {H : Heap} {locs : List Loc} {Q : State → Prop} {cc : ByteArray} {nL pc : Nat} {ls : Array Slot} {rest : List Value} {cells slots : Nat} {D : va_G} {dA : Nat → ClassId} {ad : Nat → Nat} {A : Nat → Prop} {H0 : Heap} {S : St} {dk : Nat} (hF : CallFix p m c cc nL s args lw_all RX6) (hK : gK D dA s) (hI : sI D dA wX ad A H0 S H locs) (hls : ls.size = nL) (hR : R.frames = dk + 1 ∧ R.locals = 64 * dk + 64) (hd : 0 + 1 ≤ dk) (hW : (rest.map fun v => v.category).sum ≤ 8) (hf : cells ≤ R.cells ∧ slots ≤ R.slots) {x0 : Nat} {K : Int → Prop} (hg0 : ∃ fs : List PV, gI S x0 = some (.inr (.inl (14, fs)))) (h : w_J2_isEmpty x0 S K) (hdg : decode cc pc = .ok (.invokevirtual 35, 3)) (kk : ∀ (r : Int) (H1 : Heap) (locs1 : List Loc), (r = 0 ∨ r = 1) → K r → sI D dA wX ad A H0 S H1 locs1 → W p l e R s m args below meth c H1 locs1 cells slots Q (F0 m (pc + 3) ls (iV r :: rest))) : W p l e R s m args below meth c H locs cells slots Q (F0 m (pc) ls (.ref x0 :: rest)) := s_callVz (As := []) (rest := rest) (K := fun r S' => S' = S ∧ K r) hF (t_J2_isEmpty l D dA ad S H.size x0 K h) (by obtain ⟨fs, hg⟩ := hg0; exact s_recvP hK hI hg rfl) (cwV 0 hF.2.2.2.2 (lw_V q720 q721 q722 q114 q723) rfl rfl rfl (by decide +kernel) ⟨by have h1 := hR.1; have h2 : (rmD 0 0 0).frames = 0 + 1 := rfl; omega, by have h1 := hR.2; have h2 : (rmD 0 0 0).locals = 64 * 0 + 64 := rfl; omega⟩) hK hI rfl hls rfl hW hdg hf (fun r S1 H1 locs1 f hk hI1 => by obtain ⟨rfl, hk⟩ := hk; exact kk r H1 locs1 f hk hI1)
set_option maxHeartbeats 4000000 in
theorem t_X6_itself (l : Launch) (hlt : l.stackTraces = false) (D : va_G) (dA : Nat → ClassId) (ad : Nat → Nat) (S : St) (sz : Nat) (x0 : Nat) (K : Option Nat → St → Prop) (mc ms : Nat) (hmc : mc = bC S) (hms : ms = bL S) (h : w_X6_itself x0 S K) : Met l yX6_itself (ws_ yX6_itself cX6_itself 1 (Option.some (Jvm.ClassFile.FieldType.object "NineGraves$Sum"))) (rmD 1 mc ms) (va_Pc [.ref x0] (tPre D dA ad S sz)) (va_Qq (fun r S' => K r S') (sPost D dA wX ad (wA wX ad S sz)) (wA wX ad S sz)) mc ms (wA wX ad S sz) := by
  refine Met.ofW (cc := cX6_itself) (maxL := 1) (ret := (Option.some (Jvm.ClassFile.FieldType.object "NineGraves$Sum"))) (by decide) rfl ?_
  intro p e s m args below meth c s₁ B hml hv
  obtain ⟨rfl, ⟨hsz, hK, hC⟩, hZ⟩ := hv
  have hx := B.exec
  have hb := B.bytes
  have hr := B.returns
  have hlocks := B.notSynchronized
  have hts := atoms_spec (ws := (ws_ yX6_itself cX6_itself 1 (Option.some (Jvm.ClassFile.FieldType.object "NineGraves$Sum")))) B.pre
  have hts : ∀ w ∈ lw_all, w.before _ s = true := fun w h => hts w (List.mem_cons_of_mem _ h)
  have hown : s.vm.findClass RX6 = some m.cls := findClass_of_methodNamed B.named
  clear B
  subst hsz
  have hI : sI D dA wX ad (wA wX ad S s.heap.size) s.heap S s.heap [] := hC.start
  clear hC
  generalize wA wX ad S s.heap.size = A at hI hZ ⊢
  have hl := lv_entry ([.ref x0] : List Value) (n := 1) (Nat.le_of_ble_eq_true rfl)
  rw [lg_entry_eq]
  generalize (lg_sl ([.ref x0] : List Value) ++ List.replicate (1 - (lg_sl ([.ref x0] : List Value)).length) Slot.unset).toArray = ls at hl ⊢
  have hl : lv_has ls 1 [(0, .ref x0)] := hl
  have hF : CallFix p m c cX6_itself 1 s _ lw_all RX6 := ⟨hx, hb, hml, hown, hts⟩
  have hR : (headSpec (ws_ yX6_itself cX6_itself 1 (Option.some (Jvm.ClassFile.FieldType.object "NineGraves$Sum"))) (rmD 1 mc ms)).room.frames = 1 + 1 ∧ (headSpec (ws_ yX6_itself cX6_itself 1 (Option.some (Jvm.ClassFile.FieldType.object "NineGraves$Sum"))) (rmD 1 mc ms)).room.locals = 64 * 1 + 64 := ⟨rfl, rfl⟩
  have hRc : (headSpec (ws_ yX6_itself cX6_itself 1 (Option.some (Jvm.ClassFile.FieldType.object "NineGraves$Sum"))) (rmD 1 mc ms)).room.cells = mc ∧ (headSpec (ws_ yX6_itself cX6_itself 1 (Option.some (Jvm.ClassFile.FieldType.object "NineGraves$Sum"))) (rmD 1 mc ms)).room.slots = ms := ⟨rfl, rfl⟩
  generalize (headSpec (ws_ yX6_itself cX6_itself 1 (Option.some (Jvm.ClassFile.FieldType.object "NineGraves$Sum"))) (rmD 1 mc ms)).room = R at hR hRc ⊢
  obtain ⟨hRc, hRs⟩ := hRc
  have hcs : bOK R S 0 0 := ⟨by omega, by omega⟩
  clear hmc hms
  have hcs0 := hcs
  generalize ([.ref x0] : List Value).toArray = args at hts hF ⊢
  generalize hQ : MQ below _ _ _ _ _ _ = Q
  unfold w_X6_itself at h
  refine lv_aload_n hx hb dX6_itself_0 rfl (lv_at hl 0 rfl) ?_
  obtain ⟨fs1, v4, hg2, hv3, h⟩ := h
  refine gPX6_12 (v := some v4) hF hK hI hg2 hv3 dX6_itself_1 ?_
  show W p l e R s m args below meth c _ _ _ _ Q (F0 m _ ls [.ref v4])
  have hr5 := h.1; replace h := h.2
  refine cXX6_35 hF hK hI hl.1 hR (by decide) (Nat.le_of_ble_eq_true rfl) (cs0 hcs) hr5 h dX6_itself_4 (fun r6 H locs fr6 h hI => ?_)
  replace h := h fr6
  have gr6 : InR r6 := kdP_R (k := 2) (by decide) fr6
  refine nr_if_eq hx hb gr6 dX6_itself_7 (tgt := 17) (by decide) (fun c8 => ?_) (fun c8 => ?_)
  · replace h := h.1 c8
    refine lv_aload_n hx hb dX6_itself_17 rfl (lv_at hl 0 rfl) ?_
    rw [← hQ]; refine W.widen (k := mc) (n := ms) (by have h1 := hcs.1; omega) (by have h1 := hcs.2; omega) ?_; exact s_qret (v := (some x0)) (K := K) hx hb hr (Or.inl ⟨_, rfl⟩) hlocks hI h dX6_itself_18
  · replace h := h.2 c8
    refine lv_aload_n hx hb dX6_itself_10 rfl (lv_at hl 0 rfl) ?_
    obtain ⟨fs9, v12, hg10, hv11, h⟩ := h
    refine gPX6_21 (v := some v12) hF hK hI hg10 hv11 dX6_itself_11 ?_
    show W p l e R s m args below meth c _ _ _ _ Q (F0 m _ ls [.ref v12])
    refine lv_goto (tgt := 18) hx hb dX6_itself_14 (by decide) ?_
    rw [← hQ]; refine W.widen (k := mc) (n := ms) (by have h1 := hcs.1; omega) (by have h1 := hcs.2; omega) ?_; exact s_qret (v := (some v12)) (K := K) hx hb hr (Or.inl ⟨_, rfl⟩) hlocks hI h dX6_itself_18
theorem uPX3_9 {p : Program} {l : Launch} {e : Env} {R : Room} {s : State} {m : MethodId} {args : Array Value} {below : List Frame} {meth : Method} {c : Code} {H : Heap} {locs : List Loc} {Q : State → Prop} {cc : ByteArray} {nL pc : Nat} {ls : Array Slot} {rest : List Value} {cells slots : Nat} {D : va_G} {dA : Nat → ClassId} {ad : Nat → Nat} {A : Nat → Prop} {H0 : Heap} {S : St} {q : Nat} {fs : List PV} {r : Nat} (hF : CallFix p m c cc nL s args lw_all RX3) (hK : gK D dA s) (hI : sI D dA wX ad A H0 S H locs) (hg : gI S q = some (.inr (.inl (3, fs)))) (hlen : fs.length = 8) (hinit : meth.name = "<init>") (hdg : decode cc pc = .ok (.putfield 9, 3)) (kk : ∀ (S1 : St) (H1 : Heap) (locs1 : List Loc), S1 = gset S q (.inr (.inl (3, fs.set 0 (.inr (.inr (some r)))))) → sI D dA wX ad A H0 S1 H1 locs1 → W p l e R s m args below meth c H1 locs1 cells slots Q (F0 m (pc + 3) ls (rest))) : W p l e R s m args below meth c H locs cells slots Q (F0 m (pc) ls (.ref r :: .ref q :: rest)) := s_pputF (v := .inr (.inr (some r))) hF.1 hF.2.1 tyX3 tyX3_ok nmX3 hF.2.2.2.2 hF.2.2.2.1 hK hI (by decide) hg hlen rfl in_X3 0 (by decide) q330 rfl trivial rfl (hinit) rfl rfl rfl hdg kk
theorem uPX3_15 {p : Program} {l : Launch} {e : Env} {R : Room} {s : State} {m : MethodId} {args : Array Value} {below : List Frame} {meth : Method} {c : Code} {H : Heap} {locs : List Loc} {Q : State → Prop} {cc : ByteArray} {nL pc : Nat} {ls : Array Slot} {rest : List Value} {cells slots : Nat} {D : va_G} {dA : Nat → ClassId} {ad : Nat → Nat} {A : Nat → Prop} {H0 : Heap} {S : St} {q : Nat} {fs : List PV} {v : Int} (hF : CallFix p m c cc nL s args lw_all RX3) (hK : gK D dA s) (hI : sI D dA wX ad A H0 S H locs) (hg : gI S q = some (.inr (.inl (3, fs)))) (hlen : fs.length = 8) (hv : InR v) (hinit : meth.name = "<init>") (hdg : decode cc pc = .ok (.putfield 15, 3)) (kk : ∀ (S1 : St) (H1 : Heap) (locs1 : List Loc), S1 = gset S q (.inr (.inl (3, fs.set 1 (.inl v)))) → sI D dA wX ad A H0 S1 H1 locs1 → W p l e R s m args below meth c H1 locs1 cells slots Q (F0 m (pc + 3) ls (rest))) : W p l e R s m args below meth c H locs cells slots Q (F0 m (pc) ls (iV v :: .ref q :: rest)) := s_pputF (v := .inl v) hF.1 hF.2.1 tyX3 tyX3_ok nmX3 hF.2.2.2.2 hF.2.2.2.1 hK hI (by decide) hg hlen rfl in_X3 1 (by decide) q331 rfl hv rfl (hinit) rfl rfl rfl hdg kk
set_option maxHeartbeats 4000000 in
theorem t_X3_init (l : Launch) (hlt : l.stackTraces = false) (D : va_G) (dA : Nat → ClassId) (ad : Nat → Nat) (S : St) (sz : Nat) (x0 : Nat) (x1 : Nat) (x2 : Int) (K : St → Prop) (rx2 : InR x2) (mc ms : Nat) (hmc : mc = bC S) (hms : ms = bL S) (h : w_X3_init x0 x1 x2 S K) : Met l yX3_init (ws_ yX3_init cX3_init 3 (Option.none : Option Jvm.ClassFile.FieldType)) (rmD 1 mc ms) (va_Pc [.ref x0, .ref x1, iV x2] (tPre D dA ad S sz)) (va_Qv (fun S' => K S') (sPost D dA wX ad (wA wX ad S sz)) (wA wX ad S sz)) mc ms (wA wX ad S sz) := by
  refine Met.ofW (cc := cX3_init) (maxL := 3) (ret := (Option.none : Option Jvm.ClassFile.FieldType)) (by decide) rfl ?_
  intro p e s m args below meth c s₁ B hml hv
  obtain ⟨rfl, ⟨hsz, hK, hC⟩, hZ⟩ := hv
  have hx := B.exec
  have hb := B.bytes
  have hr := B.returns
  have hlocks := B.notSynchronized
  have hinit : meth.name = "<init>" := (name_of_methodNamed B.named B.method).1
  have hts := atoms_spec (ws := (ws_ yX3_init cX3_init 3 (Option.none : Option Jvm.ClassFile.FieldType))) B.pre
  have hts : ∀ w ∈ lw_all, w.before _ s = true := fun w h => hts w (List.mem_cons_of_mem _ h)
  have hown : s.vm.findClass RX3 = some m.cls := findClass_of_methodNamed B.named
  clear B
  subst hsz
  have hI : sI D dA wX ad (wA wX ad S s.heap.size) s.heap S s.heap [] := hC.start
  clear hC
  generalize wA wX ad S s.heap.size = A at hI hZ ⊢
  have hl := lv_entry ([.ref x0, .ref x1, iV x2] : List Value) (n := 3) (Nat.le_of_ble_eq_true rfl)
  rw [lg_entry_eq]
  generalize (lg_sl ([.ref x0, .ref x1, iV x2] : List Value) ++ List.replicate (3 - (lg_sl ([.ref x0, .ref x1, iV x2] : List Value)).length) Slot.unset).toArray = ls at hl ⊢
  have hl : lv_has ls 3 [(0, .ref x0), (1, .ref x1), (2, iV x2)] := hl
  have hF : CallFix p m c cX3_init 3 s _ lw_all RX3 := ⟨hx, hb, hml, hown, hts⟩
  have hR : (headSpec (ws_ yX3_init cX3_init 3 (Option.none : Option Jvm.ClassFile.FieldType)) (rmD 1 mc ms)).room.frames = 1 + 1 ∧ (headSpec (ws_ yX3_init cX3_init 3 (Option.none : Option Jvm.ClassFile.FieldType)) (rmD 1 mc ms)).room.locals = 64 * 1 + 64 := ⟨rfl, rfl⟩
  have hRc : (headSpec (ws_ yX3_init cX3_init 3 (Option.none : Option Jvm.ClassFile.FieldType)) (rmD 1 mc ms)).room.cells = mc ∧ (headSpec (ws_ yX3_init cX3_init 3 (Option.none : Option Jvm.ClassFile.FieldType)) (rmD 1 mc ms)).room.slots = ms := ⟨rfl, rfl⟩
  generalize (headSpec (ws_ yX3_init cX3_init 3 (Option.none : Option Jvm.ClassFile.FieldType)) (rmD 1 mc ms)).room = R at hR hRc ⊢
  obtain ⟨hRc, hRs⟩ := hRc
  have hcs : bOK R S 0 0 := ⟨by omega, by omega⟩
  clear hmc hms
  have hcs0 := hcs
  generalize ([.ref x0, .ref x1, iV x2] : List Value).toArray = args at hts hF ⊢
  generalize hQ : MQ below _ _ _ _ _ _ = Q
  unfold w_X3_init at h
  refine lv_aload_n hx hb dX3_init_0 rfl (lv_at hl 0 rfl) ?_
  refine W.objInit hx hb hown (hts _ q329) (hts _ q144) (hts _ q145) rfl (hl.1.trans hml.symm) rfl dX3_init_1 (by have h1 := hR.1; omega) (Nat.le_trans (m := 64) (Nat.le_of_ble_eq_true rfl) (by have h2 := hR.2; omega)) ?_
  show W p l e R s m args below meth c _ _ _ _ Q (F0 m _ ls [])
  refine lv_aload_n hx hb dX3_init_4 rfl (lv_at hl 0 rfl) ?_
  refine lv_aload_n hx hb dX3_init_5 rfl (lv_at hl 1 rfl) ?_
  obtain ⟨fs1, hg2, hn3, h⟩ := h
  refine uPX3_9 hF hK hI hg2 hn3 hinit dX3_init_6 (fun S4 H locs eS4 hI => ?_)
  replace h := h S4 eS4
  have hcs := bOK.to (S' := S4) hcs (by rw [eS4]; exact ⟨rfl, rfl⟩)
  refine lv_aload_n hx hb dX3_init_9 rfl (lv_at hl 0 rfl) ?_
  refine lv_iload_n hx hb dX3_init_10 rfl (lv_at hl 2 rfl) ?_
  obtain ⟨fs5, hg6, hn7, h⟩ := h
  refine uPX3_15 hF hK hI hg6 hn7 rx2 hinit dX3_init_11 (fun S8 H locs eS8 hI => ?_)
  replace h := h S8 eS8
  have hcs := bOK.to (S' := S8) hcs (by rw [eS8]; exact ⟨rfl, rfl⟩)
  rw [← hQ]; refine W.widen (k := mc) (n := ms) (by have h1 := hcs.1; omega) (by have h1 := hcs.2; omega) ?_; exact s_vret (K := K) hx hb hr hlocks hI h dX3_init_14
theorem gTX3_9 {p : Program} {l : Launch} {e : Env} {R : Room} {s : State} {m : MethodId} {args : Array Value} {below : List Frame} {meth : Method} {c : Code} {H : Heap} {locs : List Loc} {Q : State → Prop} {cc : ByteArray} {nL pc : Nat} {ls : Array Slot} {rest : List Value} {cells slots : Nat} {D : va_G} {dA : Nat → ClassId} {ad : Nat → Nat} {A : Nat → Prop} {H0 : Heap} {S : St} {q tq : Nat} {fs : List PV} (hF : CallFix p m c cc nL s args lw_all RX3) (hK : gK D dA s) (hI : sI D dA wX ad A H0 S H locs) (hg : gI S q = some (.inr (.inl (3, fs)))) (hv : fs[0]? = some (.inr (.inr (some tq)))) (ht : rI S 500 1 = some tq) (hdg : decode cc pc = .ok (.getfield 9, 3)) (kk : W p l e R s m args below meth c H locs cells slots Q (F0 m (pc + 3) ls (.ref (ad 8) :: rest))) : W p l e R s m args below meth c H locs cells slots Q (F0 m (pc) ls (.ref q :: rest)) := by
  have e : tq = ad 8 := Option.some.inj (ht.symm.trans (hI.1.2.2.2.2.2.2 (by decide)).2)
  subst e
  exact s_pgr (v := some (ad 8)) hF.1 hF.2.1 hF.2.2.2.2 hF.2.2.2.1 hK hI hg rfl in_X3 0 (by decide) q330 rfl hv hdg kk
theorem gPX3_22 {p : Program} {l : Launch} {e : Env} {R : Room} {s : State} {m : MethodId} {args : Array Value} {below : List Frame} {meth : Method} {c : Code} {H : Heap} {locs : List Loc} {Q : State → Prop} {cc : ByteArray} {nL pc : Nat} {ls : Array Slot} {rest : List Value} {cells slots : Nat} {w : Wd} {D : va_G} {dA : Nat → ClassId} {ad : Nat → Nat} {A : Nat → Prop} {H0 : Heap} {S : St} {q : Nat} {fs : List PV} {v : Int} (hF : CallFix p m c cc nL s args lw_all RX3) (hK : gK D dA s) (hI : sI D dA w ad A H0 S H locs) (hg : gI S q = some (.inr (.inl (3, fs)))) (hv : fs[3]? = some (.inl v)) (hdg : decode cc pc = .ok (.getfield 22, 3)) (kk : InR v → W p l e R s m args below meth c H locs cells slots Q (F0 m (pc + 3) ls (iV v :: rest))) : W p l e R s m args below meth c H locs cells slots Q (F0 m (pc) ls (.ref q :: rest)) := s_pgi hF.1 hF.2.1 hF.2.2.2.2 hF.2.2.2.1 hK hI hg rfl in_X3 3 (by decide) q333 rfl hv hdg kk
theorem gPX3_19 {p : Program} {l : Launch} {e : Env} {R : Room} {s : State} {m : MethodId} {args : Array Value} {below : List Frame} {meth : Method} {c : Code} {H : Heap} {locs : List Loc} {Q : State → Prop} {cc : ByteArray} {nL pc : Nat} {ls : Array Slot} {rest : List Value} {cells slots : Nat} {w : Wd} {D : va_G} {dA : Nat → ClassId} {ad : Nat → Nat} {A : Nat → Prop} {H0 : Heap} {S : St} {q : Nat} {fs : List PV} {v : Int} (hF : CallFix p m c cc nL s args lw_all RX3) (hK : gK D dA s) (hI : sI D dA w ad A H0 S H locs) (hg : gI S q = some (.inr (.inl (3, fs)))) (hv : fs[2]? = some (.inl v)) (hdg : decode cc pc = .ok (.getfield 19, 3)) (kk : InR v → W p l e R s m args below meth c H locs cells slots Q (F0 m (pc + 3) ls (iV v :: rest))) : W p l e R s m args below meth c H locs cells slots Q (F0 m (pc) ls (.ref q :: rest)) := s_pgi hF.1 hF.2.1 hF.2.2.2.2 hF.2.2.2.1 hK hI hg rfl in_X3 2 (by decide) q332 rfl hv hdg kk
set_option maxHeartbeats 4000000 in
theorem t_X3_isWord (l : Launch) (hlt : l.stackTraces = false) (D : va_G) (dA : Nat → ClassId) (ad : Nat → Nat) (S : St) (sz : Nat) (x0 : Nat) (x1 : Int) (K : Int → St → Prop) (mc ms : Nat) (hmc : mc = bC S) (hms : ms = bL S) (h : w_X3_isWord x0 x1 S K) : Met l yX3_isWord (ws_ yX3_isWord cX3_isWord 3 (Option.some Jvm.ClassFile.FieldType.boolean)) (rmD 6 mc ms) (va_Pc [.ref x0, .ref (ad (2001 + Int.toNat x1))] (tPre D dA ad S sz)) (va_Qi (fun r S' => (r.toInt = 0 ∨ r.toInt = 1) ∧ K r.toInt S') (sPost D dA wX ad (wA wX ad S sz)) (wA wX ad S sz)) mc ms (wA wX ad S sz) := by
  refine Met.ofW (cc := cX3_isWord) (maxL := 3) (ret := (Option.some Jvm.ClassFile.FieldType.boolean)) (by decide) rfl ?_
  intro p e s m args below meth c s₁ B hml hv
  obtain ⟨rfl, ⟨hsz, hK, hC⟩, hZ⟩ := hv
  have hx := B.exec
  have hb := B.bytes
  have hr := B.returns
  have hlocks := B.notSynchronized
  have hts := atoms_spec (ws := (ws_ yX3_isWord cX3_isWord 3 (Option.some Jvm.ClassFile.FieldType.boolean))) B.pre
  have hts : ∀ w ∈ lw_all, w.before _ s = true := fun w h => hts w (List.mem_cons_of_mem _ h)
  have hown : s.vm.findClass RX3 = some m.cls := findClass_of_methodNamed B.named
  clear B
  subst hsz
  have hI : sI D dA wX ad (wA wX ad S s.heap.size) s.heap S s.heap [] := hC.start
  clear hC
  generalize wA wX ad S s.heap.size = A at hI hZ ⊢
  have hl := lv_entry ([.ref x0, .ref (ad (2001 + Int.toNat x1))] : List Value) (n := 3) (Nat.le_of_ble_eq_true rfl)
  rw [lg_entry_eq]
  generalize (lg_sl ([.ref x0, .ref (ad (2001 + Int.toNat x1))] : List Value) ++ List.replicate (3 - (lg_sl ([.ref x0, .ref (ad (2001 + Int.toNat x1))] : List Value)).length) Slot.unset).toArray = ls at hl ⊢
  have hl : lv_has ls 3 [(0, .ref x0), (1, .ref (ad (2001 + Int.toNat x1)))] := hl
  have hF : CallFix p m c cX3_isWord 3 s _ lw_all RX3 := ⟨hx, hb, hml, hown, hts⟩
  have hR : (headSpec (ws_ yX3_isWord cX3_isWord 3 (Option.some Jvm.ClassFile.FieldType.boolean)) (rmD 6 mc ms)).room.frames = 6 + 1 ∧ (headSpec (ws_ yX3_isWord cX3_isWord 3 (Option.some Jvm.ClassFile.FieldType.boolean)) (rmD 6 mc ms)).room.locals = 64 * 6 + 64 := ⟨rfl, rfl⟩
  have hRc : (headSpec (ws_ yX3_isWord cX3_isWord 3 (Option.some Jvm.ClassFile.FieldType.boolean)) (rmD 6 mc ms)).room.cells = mc ∧ (headSpec (ws_ yX3_isWord cX3_isWord 3 (Option.some Jvm.ClassFile.FieldType.boolean)) (rmD 6 mc ms)).room.slots = ms := ⟨rfl, rfl⟩
  generalize (headSpec (ws_ yX3_isWord cX3_isWord 3 (Option.some Jvm.ClassFile.FieldType.boolean)) (rmD 6 mc ms)).room = R at hR hRc ⊢
  obtain ⟨hRc, hRs⟩ := hRc
  have hcs : bOK R S 0 0 := ⟨by omega, by omega⟩
  clear hmc hms
  have hcs0 := hcs
  generalize ([.ref x0, .ref (ad (2001 + Int.toNat x1))] : List Value).toArray = args at hts hF ⊢
  generalize hQ : MQ below _ _ _ _ _ _ = Q
  have L20 : ∀ (x0 : Nat) (x1 : Int), ∀ (n20 : Nat) (x2 : Int) (S : St) (H : Heap) (locs : List Loc) (ls : Array Slot) (cells slots : Nat), InR x2 → (sI D dA wX ad A s.heap S H locs ∧ bOK R S cells slots) → lv_has ls 3 [(0, .ref x0), (1, .ref (ad (2001 + Int.toNat x1))), (2, iV x2)] → l_X3_isWord_20 x0 x1 K n20 x2 S → W p l e R s m args below meth c H locs cells slots Q (F0 m 20 ls []) := by
    intro x0 x1 n20
    induction n20 with
    | zero => intro x2 S H locs ls cells slots rx2 hI hl h; exact False.elim h
    | succ n20 ih20 =>
      intro x2 S H locs ls cells slots rx2 hI hl h
      obtain ⟨hI, hcs⟩ := hI
      unfold l_X3_isWord_20 at h
      refine lv_iload_n hx hb dX3_isWord_20 rfl (lv_at hl 2 rfl) ?_
      refine lv_aload_n hx hb dX3_isWord_21 rfl (lv_at hl 1 rfl) ?_
      have f1 := h.1; replace h := h.2
      refine k_slen hF q430 hI hZ hcs hl.1 hR (by decide) f1 (Nat.le_of_ble_eq_true rfl) dX3_isWord_22 (fun H locs hI => ?_)
      refine nr_icmp_ge hx hb rx2 (wlen_R x1) dX3_isWord_25 (tgt := 55) (by decide) (fun c2 => ?_) (fun c2 => ?_)
      · replace h := h.1 c2
        refine nr_iconst hx hb dX3_isWord_55 ?_
        rw [← hQ]; refine W.widen (k := mc) (n := ms) (by have h1 := hcs.1; omega) (by have h1 := hcs.2; omega) ?_; exact s_zret (K := K) hx hb hr hlocks hI (by decide) h dX3_isWord_56
      · replace h := h.2 c2
        refine lv_aload_n hx hb dX3_isWord_28 rfl (lv_at hl 0 rfl) ?_
        obtain ⟨fs3, tq4, hg5, hv6, ht7, h⟩ := h
        refine gTX3_9 hF hK hI hg5 hv6 ht7 dX3_isWord_29 ?_
        refine lv_aload_n hx hb dX3_isWord_32 rfl (lv_at hl 0 rfl) ?_
        obtain ⟨fs8, v11, hg9, hv10, h⟩ := h
        refine gPX3_22 hF hK hI hg9 hv10 dX3_isWord_33 (fun f12 => ?_)
        replace h := h f12
        refine lv_iload_n hx hb dX3_isWord_36 rfl (lv_at hl 2 rfl) ?_
        have f13 := h.1; replace h := h.2
        refine nr_iadd hx hb dX3_isWord_37 ?_
        have f14 := h.1; replace h := h.2
        refine s_bald hx hb hK hI 8 (by decide) wX_8 f13 f14 dX3_isWord_38 (fun f15 f15z => ?_)
        replace h := h f15
        replace h := h f15z
        refine lv_aload_n hx hb dX3_isWord_39 rfl (lv_at hl 1 rfl) ?_
        refine lv_iload_n hx hb dX3_isWord_40 rfl (lv_at hl 2 rfl) ?_
        have f16 := h.1; replace h := h.2
        have f17 := h.1; replace h := h.2
        refine k_scha hF q440 hI hZ hcs hl.1 hR (by decide) f16 rx2 f17 (Nat.le_of_ble_eq_true rfl) dX3_isWord_41 (fun H locs hI => ?_)
        refine nr_icmp_eq hx hb f15 (wch_R x1 x2) dX3_isWord_44 (tgt := 49) (by decide) (fun c18 => ?_) (fun c18 => ?_)
        · replace h := h.1 c18
          have f19 := h.1; replace h := h.2
          refine nr_iinc (lv' := [(2, iV (x2 + 1)), (0, .ref x0), (1, .ref (ad (2001 + Int.toNat x1)))]) hx hb dX3_isWord_49 hl (k := 2) rfl (by decide) rfl (fun ls hl => ?_)
          refine lv_goto (tgt := 20) hx hb dX3_isWord_52 (by decide) ?_
          exact ih20 (x2 + 1) S _ _ _ _ _ f19 ⟨hI, hcs⟩ (lv_sub hl [1, 2, 0] rfl) h
        · replace h := h.2 c18
          refine nr_iconst hx hb dX3_isWord_47 ?_
          rw [← hQ]; refine W.widen (k := mc) (n := ms) (by have h1 := hcs.1; omega) (by have h1 := hcs.2; omega) ?_; exact s_zret (K := K) hx hb hr hlocks hI (by decide) h dX3_isWord_48
  unfold w_X3_isWord at h
  refine lv_aload_n hx hb dX3_isWord_0 rfl (lv_at hl 0 rfl) ?_
  obtain ⟨fs20, v23, hg21, hv22, h⟩ := h
  refine gPX3_19 hF hK hI hg21 hv22 dX3_isWord_1 (fun f24 => ?_)
  replace h := h f24
  refine lv_aload_n hx hb dX3_isWord_4 rfl (lv_at hl 0 rfl) ?_
  obtain ⟨fs25, v28, hg26, hv27, h⟩ := h
  refine gPX3_22 hF hK hI hg26 hv27 dX3_isWord_5 (fun f29 => ?_)
  replace h := h f29
  have f30 := h.1; replace h := h.2
  refine nr_isub hx hb dX3_isWord_8 ?_
  refine lv_aload_n hx hb dX3_isWord_9 rfl (lv_at hl 1 rfl) ?_
  have f31 := h.1; replace h := h.2
  refine k_slen hF q430 hI hZ hcs hl.1 hR (by decide) f31 (Nat.le_of_ble_eq_true rfl) dX3_isWord_10 (fun H locs hI => ?_)
  refine nr_icmp_eq hx hb f30 (wlen_R x1) dX3_isWord_13 (tgt := 18) (by decide) (fun c32 => ?_) (fun c32 => ?_)
  · replace h := h.1 c32
    refine nr_iconst hx hb dX3_isWord_18 ?_
    refine lv_istore_n (lv' := [(2, iV 0), (0, .ref x0), (1, .ref (ad (2001 + Int.toNat x1)))]) hx hb dX3_isWord_19 rfl hl (by decide) rfl (fun ls hl => ?_)
    obtain ⟨n0, h⟩ := h
    exact L20 x0 x1 n0 0 S _ _ _ _ _ (by decide) ⟨hI, hcs⟩ (lv_sub hl [1, 2, 0] rfl) h
  · replace h := h.2 c32
    refine nr_iconst hx hb dX3_isWord_16 ?_
    rw [← hQ]; refine W.widen (k := mc) (n := ms) (by have h1 := hcs.1; omega) (by have h1 := hcs.2; omega) ?_; exact s_zret (K := K) hx hb hr hlocks hI (by decide) h dX3_isWord_17
