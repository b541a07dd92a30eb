set_option maxRecDepth 100000
theorem uPX11_7 {p : Program} {l : Launch} {e : Env} {R : Room} {s : State} {m : MethodId} {args : Array Value} {below : List Frame} {meth : Method} {c : Code} {H : Heap} {locs : List Loc} {Q : State → Prop} {cc : ByteArray} {nL pc : Nat} {ls : Array Slot} {rest : List Value} {cells slots : Nat} {D : va_G} {dA : Nat → ClassId} {ad : Nat → Nat} {A : Nat → Prop} {H0 : Heap} {S : St} {q : Nat} {fs : List PV} {v : Int} (hF : CallFix p m c cc nL s args lw_all RX11) (hK : gK D dA s) (hI : sI D dA wX ad A H0 S H locs) (hg : gI S q = some (.inr (.inl (11, fs)))) (hlen : fs.length = 3) (hv : InR v) (hinit : meth.name = "<init>") (hdg : decode cc pc = .ok (.putfield 7, 3)) (kk : ∀ (S1 : St) (H1 : Heap) (locs1 : List Loc), S1 = gset S q (.inr (.inl (11, fs.set 0 (.inl v)))) → sI D dA wX ad A H0 S1 H1 locs1 → W p l e R s m args below meth c H1 locs1 cells slots Q (F0 m (pc + 3) ls (rest))) : W p l e R s m args below meth c H locs cells slots Q (F0 m (pc) ls (iV v :: .ref q :: rest)) := s_pputF (v := .inl v) hF.1 hF.2.1 tyX11 tyX11_ok nmX11 hF.2.2.2.2 hF.2.2.2.1 hK hI (by decide) hg hlen rfl in_X11 0 (by decide) q754 rfl hv rfl (hinit) rfl rfl rfl hdg kk
theorem uPX11_13 {p : Program} {l : Launch} {e : Env} {R : Room} {s : State} {m : MethodId} {args : Array Value} {below : List Frame} {meth : Method} {c : Code} {H : Heap} {locs : List Loc} {Q : State → Prop} {cc : ByteArray} {nL pc : Nat} {ls : Array Slot} {rest : List Value} {cells slots : Nat} {D : va_G} {dA : Nat → ClassId} {ad : Nat → Nat} {A : Nat → Prop} {H0 : Heap} {S : St} {q : Nat} {fs : List PV} {r : Nat} (hF : CallFix p m c cc nL s args lw_all RX11) (hK : gK D dA s) (hI : sI D dA wX ad A H0 S H locs) (hg : gI S q = some (.inr (.inl (11, fs)))) (hlen : fs.length = 3) (hinit : meth.name = "<init>") (hdg : decode cc pc = .ok (.putfield 13, 3)) (kk : ∀ (S1 : St) (H1 : Heap) (locs1 : List Loc), S1 = gset S q (.inr (.inl (11, fs.set 1 (.inr (.inr (some r)))))) → sI D dA wX ad A H0 S1 H1 locs1 → W p l e R s m args below meth c H1 locs1 cells slots Q (F0 m (pc + 3) ls (rest))) : W p l e R s m args below meth c H locs cells slots Q (F0 m (pc) ls (.ref r :: .ref q :: rest)) := s_pputF (v := .inr (.inr (some r))) hF.1 hF.2.1 tyX11 tyX11_ok nmX11 hF.2.2.2.2 hF.2.2.2.1 hK hI (by decide) hg hlen rfl in_X11 1 (by decide) q755 rfl trivial rfl (hinit) rfl rfl rfl hdg kk
theorem uPX11_17 {p : Program} {l : Launch} {e : Env} {R : Room} {s : State} {m : MethodId} {args : Array Value} {below : List Frame} {meth : Method} {c : Code} {H : Heap} {locs : List Loc} {Q : State → Prop} {cc : ByteArray} {nL pc : Nat} {ls : Array Slot} {rest : List Value} {cells slots : Nat} {D : va_G} {dA : Nat → ClassId} {ad : Nat → Nat} {A : Nat → Prop} {H0 : Heap} {S : St} {q : Nat} {fs : List PV} {r : Nat} (hF : CallFix p m c cc nL s args lw_all RX11) (hK : gK D dA s) (hI : sI D dA wX ad A H0 S H locs) (hg : gI S q = some (.inr (.inl (11, fs)))) (hlen : fs.length = 3) (hinit : meth.name = "<init>") (hdg : decode cc pc = .ok (.putfield 17, 3)) (kk : ∀ (S1 : St) (H1 : Heap) (locs1 : List Loc), S1 = gset S q (.inr (.inl (11, fs.set 2 (.inr (.inr (some r)))))) → sI D dA wX ad A H0 S1 H1 locs1 → W p l e R s m args below meth c H1 locs1 cells slots Q (F0 m (pc + 3) ls (rest))) : W p l e R s m args below meth c H locs cells slots Q (F0 m (pc) ls (.ref r :: .ref q :: rest)) := s_pputF (v := .inr (.inr (some r))) hF.1 hF.2.1 tyX11 tyX11_ok nmX11 hF.2.2.2.2 hF.2.2.2.1 hK hI (by decide) hg hlen rfl in_X11 2 (by decide) q756 rfl trivial rfl (hinit) rfl rfl rfl hdg kk
set_option maxHeartbeats 4000000 in
theorem t_X11_init (l : Launch) (hlt : l.stackTraces = false) (D : va_G) (dA : Nat → ClassId) (ad : Nat → Nat) (S : St) (sz : Nat) (x0 : Nat) (x1 : Int) (x2 : Nat) (x3 : Nat) (K : St → Prop) (rx1 : InR x1) (mc ms : Nat) (hmc : mc = bC S) (hms : ms = bL S) (h : w_X11_init x0 x1 x2 x3 S K) : Met l yX11_init (ws_ yX11_init cX11_init 4 (Option.none : Option Jvm.ClassFile.FieldType)) (rmD 2 mc ms) (va_Pc [.ref x0, iV x1, .ref x2, .ref x3] (tPre D dA ad S sz)) (va_Qv (fun S' => K S') (sPost D dA wX ad (wA wX ad S sz)) (wA wX ad S sz)) mc ms (wA wX ad S sz) := by
  refine Met.ofW (cc := cX11_init) (maxL := 4) (ret := (Option.none : Option Jvm.ClassFile.FieldType)) (by decide) rfl ?_
  intro p e s m args below meth c s₁ B hml hv
  obtain ⟨rfl, ⟨hsz, hK, hC⟩, hZ⟩ := hv
  have hx := B.exec
  have hb := B.bytes
  have hr := B.returns
  have hlocks := B.notSynchronized
  have hinit : meth.name = "<init>" := (name_of_methodNamed B.named B.method).1
  have hts := atoms_spec (ws := (ws_ yX11_init cX11_init 4 (Option.none : Option Jvm.ClassFile.FieldType))) B.pre
  have hts : ∀ w ∈ lw_all, w.before _ s = true := fun w h => hts w (List.mem_cons_of_mem _ h)
  have hown : s.vm.findClass RX11 = some m.cls := findClass_of_methodNamed B.named
  clear B
  subst hsz
  have hI : sI D dA wX ad (wA wX ad S s.heap.size) s.heap S s.heap [] := hC.start
  clear hC
  generalize wA wX ad S s.heap.size = A at hI hZ ⊢
  have hl := lv_entry ([.ref x0, iV x1, .ref x2, .ref x3] : List Value) (n := 4) (Nat.le_of_ble_eq_true rfl)
  rw [lg_entry_eq]
  generalize (lg_sl ([.ref x0, iV x1, .ref x2, .ref x3] : List Value) ++ List.replicate (4 - (lg_sl ([.ref x0, iV x1, .ref x2, .ref x3] : List Value)).length) Slot.unset).toArray = ls at hl ⊢
  have hl : lv_has ls 4 [(0, .ref x0), (1, iV x1), (2, .ref x2), (3, .ref x3)] := hl
  have hF : CallFix p m c cX11_init 4 s _ lw_all RX11 := ⟨hx, hb, hml, hown, hts⟩
  have hR : (headSpec (ws_ yX11_init cX11_init 4 (Option.none : Option Jvm.ClassFile.FieldType)) (rmD 2 mc ms)).room.frames = 2 + 1 ∧ (headSpec (ws_ yX11_init cX11_init 4 (Option.none : Option Jvm.ClassFile.FieldType)) (rmD 2 mc ms)).room.locals = 64 * 2 + 64 := ⟨rfl, rfl⟩
  have hRc : (headSpec (ws_ yX11_init cX11_init 4 (Option.none : Option Jvm.ClassFile.FieldType)) (rmD 2 mc ms)).room.cells = mc ∧ (headSpec (ws_ yX11_init cX11_init 4 (Option.none : Option Jvm.ClassFile.FieldType)) (rmD 2 mc ms)).room.slots = ms := ⟨rfl, rfl⟩
  generalize (headSpec (ws_ yX11_init cX11_init 4 (Option.none : Option Jvm.ClassFile.FieldType)) (rmD 2 mc ms)).room = R at hR hRc ⊢
  obtain ⟨hRc, hRs⟩ := hRc
  have hcs : bOK R S 0 0 := ⟨by omega, by omega⟩
  clear hmc hms
  have hcs0 := hcs
  generalize ([.ref x0, iV x1, .ref x2, .ref x3] : List Value).toArray = args at hts hF ⊢
  generalize hQ : MQ below _ _ _ _ _ _ = Q
  unfold w_X11_init at h
  refine lv_aload_n hx hb dX11_init_0 rfl (lv_at hl 0 rfl) ?_
  obtain ⟨a1, b2, f3, h⟩ := h
  refine p_callIv (As := []) (rest := []) hF (t_J10_init l hlt D dA ad (bset S a1 b2) _ x0 _ a1.toNat b2.toNat (bC_bset _ _ _).symm (bL_bset _ _ _).symm h) (cwI 0 hts (lw_meth q583) rfl rfl rfl (hts _ q124) (hts _ q753) (hts _ q582) rfl (by decide +kernel) ⟨by have h1 := hR.1; have h2 : (rmD 1 a1.toNat b2.toNat).frames = 1 + 1 := rfl; omega, by have h1 := hR.2; have h2 : (rmD 1 a1.toNat b2.toNat).locals = 64 * 1 + 64 := rfl; omega⟩) hK hI hZ hcs f3 rfl hl.1 rfl (Nat.le_of_ble_eq_true rfl) dX11_init_1 (fun S5 S6 H locs cells slots h eS6 hI hcs => ?_)
  replace h := h S6 eS6
  refine lv_aload_n hx hb dX11_init_4 rfl (lv_at hl 0 rfl) ?_
  refine lv_iload_n hx hb dX11_init_5 rfl (lv_at hl 1 rfl) ?_
  obtain ⟨fs8, hg9, hn10, h⟩ := h
  refine uPX11_7 hF hK hI hg9 hn10 rx1 hinit dX11_init_6 (fun S11 H locs eS11 hI => ?_)
  replace h := h S11 eS11
  have hcs := bOK.to (S' := S11) hcs (by rw [eS11]; exact ⟨rfl, rfl⟩)
  refine lv_aload_n hx hb dX11_init_9 rfl (lv_at hl 0 rfl) ?_
  refine lv_aload_n hx hb dX11_init_10 rfl (lv_at hl 2 rfl) ?_
  obtain ⟨fs12, hg13, hn14, h⟩ := h
  refine uPX11_13 hF hK hI hg13 hn14 hinit dX11_init_11 (fun S15 H locs eS15 hI => ?_)
  replace h := h S15 eS15
  have hcs := bOK.to (S' := S15) hcs (by rw [eS15]; exact ⟨rfl, rfl⟩)
  refine lv_aload_n hx hb dX11_init_14 rfl (lv_at hl 0 rfl) ?_
  refine lv_aload_n hx hb dX11_init_15 rfl (lv_at hl 3 rfl) ?_
  obtain ⟨fs16, hg17, hn18, h⟩ := h
  refine uPX11_17 hF hK hI hg17 hn18 hinit dX11_init_16 (fun S19 H locs eS19 hI => ?_)
  replace h := h S19 eS19
  have hcs := bOK.to (S' := S19) hcs (by rw [eS19]; exact ⟨rfl, rfl⟩)
  rw [← hQ]; refine W.widen (k := mc) (n := ms) (by have h1 := hcs.1; omega) (by have h1 := hcs.2; omega) ?_; exact s_vret (K := K) hx hb hr hlocks hI h dX11_init_19
theorem uPX12_7 {p : Program} {l : Launch} {e : Env} {R : Room} {s : State} {m : MethodId} {args : Array Value} {below : List Frame} {meth : Method} {c : Code} {H : Heap} {locs : List Loc} {Q : State → Prop} {cc : ByteArray} {nL pc : Nat} {ls : Array Slot} {rest : List Value} {cells slots : Nat} {D : va_G} {dA : Nat → ClassId} {ad : Nat → Nat} {A : Nat → Prop} {H0 : Heap} {S : St} {q : Nat} {fs : List PV} {v : Int} (hF : CallFix p m c cc nL s args lw_all RX12) (hK : gK D dA s) (hI : sI D dA wX ad A H0 S H locs) (hg : gI S q = some (.inr (.inl (12, fs)))) (hlen : fs.length = 2) (hv : v = 0 ∨ v = 1) (hinit : meth.name = "<init>") (hdg : decode cc pc = .ok (.putfield 7, 3)) (kk : ∀ (S1 : St) (H1 : Heap) (locs1 : List Loc), S1 = gset S q (.inr (.inl (12, fs.set 0 (.inl v)))) → sI D dA wX ad A H0 S1 H1 locs1 → W p l e R s m args below meth c H1 locs1 cells slots Q (F0 m (pc + 3) ls (rest))) : W p l e R s m args below meth c H locs cells slots Q (F0 m (pc) ls (iV v :: .ref q :: rest)) := s_pputF (v := .inl v) hF.1 hF.2.1 tyX12 tyX12_ok nmX12 hF.2.2.2.2 hF.2.2.2.1 hK hI (by decide) hg hlen rfl in_X12 0 (by decide) q788 rfl (kdP_R (k := 2) (by decide) hv) rfl (hinit) rfl (nar_z hv) (fit_z hv) hdg kk
theorem uPX12_13 {p : Program} {l : Launch} {e : Env} {R : Room} {s : State} {m : MethodId} {args : Array Value} {below : List Frame} {meth : Method} {c : Code} {H : Heap} {locs : List Loc} {Q : State → Prop} {cc : ByteArray} {nL pc : Nat} {ls : Array Slot} {rest : List Value} {cells slots : Nat} {D : va_G} {dA : Nat → ClassId} {ad : Nat → Nat} {A : Nat → Prop} {H0 : Heap} {S : St} {q : Nat} {fs : List PV} {r : Nat} (hF : CallFix p m c cc nL s args lw_all RX12) (hK : gK D dA s) (hI : sI D dA wX ad A H0 S H locs) (hg : gI S q = some (.inr (.inl (12, fs)))) (hlen : fs.length = 2) (hinit : meth.name = "<init>") (hdg : decode cc pc = .ok (.putfield 13, 3)) (kk : ∀ (S1 : St) (H1 : Heap) (locs1 : List Loc), S1 = gset S q (.inr (.inl (12, fs.set 1 (.inr (.inr (some r)))))) → sI D dA wX ad A H0 S1 H1 locs1 → W p l e R s m args below meth c H1 locs1 cells slots Q (F0 m (pc + 3) ls (rest))) : W p l e R s m args below meth c H locs cells slots Q (F0 m (pc) ls (.ref r :: .ref q :: rest)) := s_pputF (v := .inr (.inr (some r))) hF.1 hF.2.1 tyX12 tyX12_ok nmX12 hF.2.2.2.2 hF.2.2.2.1 hK hI (by decide) hg hlen rfl in_X12 1 (by decide) q789 rfl trivial rfl (hinit) rfl rfl rfl hdg kk
set_option maxHeartbeats 4000000 in
theorem t_X12_init (l : Launch) (hlt : l.stackTraces = false) (D : va_G) (dA : Nat → ClassId) (ad : Nat → Nat) (S : St) (sz : Nat) (x0 : Nat) (x1 : Int) (x2 : Nat) (K : St → Prop) (rx1 : InR x1) (mc ms : Nat) (hmc : mc = bC S) (hms : ms = bL S) (h : w_X12_init x0 x1 x2 S K) : Met l yX12_init (ws_ yX12_init cX12_init 3 (Option.none : Option Jvm.ClassFile.FieldType)) (rmD 2 mc ms) (va_Pc [.ref x0, iV x1, .ref x2] (tPre D dA ad S sz)) (va_Qv (fun S' => K S') (sPost D dA wX ad (wA wX ad S sz)) (wA wX ad S sz)) mc ms (wA wX ad S sz) := by
  refine Met.ofW (cc := cX12_init) (maxL := 3) (ret := (Option.none : Option Jvm.ClassFile.FieldType)) (by decide) rfl ?_
  intro p e s m args below meth c s₁ B hml hv
  obtain ⟨rfl, ⟨hsz, hK, hC⟩, hZ⟩ := hv
  have hx := B.exec
  have hb := B.bytes
  have hr := B.returns
  have hlocks := B.notSynchronized
  have hinit : meth.name = "<init>" := (name_of_methodNamed B.named B.method).1
  have hts := atoms_spec (ws := (ws_ yX12_init cX12_init 3 (Option.none : Option Jvm.ClassFile.FieldType))) B.pre
  have hts : ∀ w ∈ lw_all, w.before _ s = true := fun w h => hts w (List.mem_cons_of_mem _ h)
  have hown : s.vm.findClass RX12 = some m.cls := findClass_of_methodNamed B.named
  clear B
  subst hsz
  have hI : sI D dA wX ad (wA wX ad S s.heap.size) s.heap S s.heap [] := hC.start
  clear hC
  generalize wA wX ad S s.heap.size = A at hI hZ ⊢
  have hl := lv_entry ([.ref x0, iV x1, .ref x2] : List Value) (n := 3) (Nat.le_of_ble_eq_true rfl)
  rw [lg_entry_eq]
  generalize (lg_sl ([.ref x0, iV x1, .ref x2] : List Value) ++ List.replicate (3 - (lg_sl ([.ref x0, iV x1, .ref x2] : List Value)).length) Slot.unset).toArray = ls at hl ⊢
  have hl : lv_has ls 3 [(0, .ref x0), (1, iV x1), (2, .ref x2)] := hl
  have hF : CallFix p m c cX12_init 3 s _ lw_all RX12 := ⟨hx, hb, hml, hown, hts⟩
  have hR : (headSpec (ws_ yX12_init cX12_init 3 (Option.none : Option Jvm.ClassFile.FieldType)) (rmD 2 mc ms)).room.frames = 2 + 1 ∧ (headSpec (ws_ yX12_init cX12_init 3 (Option.none : Option Jvm.ClassFile.FieldType)) (rmD 2 mc ms)).room.locals = 64 * 2 + 64 := ⟨rfl, rfl⟩
  have hRc : (headSpec (ws_ yX12_init cX12_init 3 (Option.none : Option Jvm.ClassFile.FieldType)) (rmD 2 mc ms)).room.cells = mc ∧ (headSpec (ws_ yX12_init cX12_init 3 (Option.none : Option Jvm.ClassFile.FieldType)) (rmD 2 mc ms)).room.slots = ms := ⟨rfl, rfl⟩
  generalize (headSpec (ws_ yX12_init cX12_init 3 (Option.none : Option Jvm.ClassFile.FieldType)) (rmD 2 mc ms)).room = R at hR hRc ⊢
  obtain ⟨hRc, hRs⟩ := hRc
  have hcs : bOK R S 0 0 := ⟨by omega, by omega⟩
  clear hmc hms
  have hcs0 := hcs
  generalize ([.ref x0, iV x1, .ref x2] : List Value).toArray = args at hts hF ⊢
  generalize hQ : MQ below _ _ _ _ _ _ = Q
  unfold w_X12_init at h
  refine lv_aload_n hx hb dX12_init_0 rfl (lv_at hl 0 rfl) ?_
  obtain ⟨a1, b2, f3, h⟩ := h
  refine p_callIv (As := []) (rest := []) hF (t_J10_init l hlt D dA ad (bset S a1 b2) _ x0 _ a1.toNat b2.toNat (bC_bset _ _ _).symm (bL_bset _ _ _).symm h) (cwI 0 hts (lw_meth q583) rfl rfl rfl (hts _ q124) (hts _ q787) (hts _ q582) rfl (by decide +kernel) ⟨by have h1 := hR.1; have h2 : (rmD 1 a1.toNat b2.toNat).frames = 1 + 1 := rfl; omega, by have h1 := hR.2; have h2 : (rmD 1 a1.toNat b2.toNat).locals = 64 * 1 + 64 := rfl; omega⟩) hK hI hZ hcs f3 rfl hl.1 rfl (Nat.le_of_ble_eq_true rfl) dX12_init_1 (fun S5 S6 H locs cells slots h eS6 hI hcs => ?_)
  replace h := h S6 eS6
  refine lv_aload_n hx hb dX12_init_4 rfl (lv_at hl 0 rfl) ?_
  refine lv_iload_n hx hb dX12_init_5 rfl (lv_at hl 1 rfl) ?_
  obtain ⟨fs8, hg9, hn10, h⟩ := h
  have f12 := h.1; replace h := h.2
  refine uPX12_7 hF hK hI hg9 hn10 f12 hinit dX12_init_6 (fun S11 H locs eS11 hI => ?_)
  replace h := h S11 eS11
  have hcs := bOK.to (S' := S11) hcs (by rw [eS11]; exact ⟨rfl, rfl⟩)
  refine lv_aload_n hx hb dX12_init_9 rfl (lv_at hl 0 rfl) ?_
  refine lv_aload_n hx hb dX12_init_10 rfl (lv_at hl 2 rfl) ?_
  obtain ⟨fs13, hg14, hn15, h⟩ := h
  refine uPX12_13 hF hK hI hg14 hn15 hinit dX12_init_11 (fun S16 H locs eS16 hI => ?_)
  replace h := h S16 eS16
  have hcs := bOK.to (S' := S16) hcs (by rw [eS16]; exact ⟨rfl, rfl⟩)
  rw [← hQ]; refine W.widen (k := mc) (n := ms) (by have h1 := hcs.1; omega) (by have h1 := hcs.2; omega) ?_; exact s_vret (K := K) hx hb hr hlocks hI h dX12_init_14
theorem uPX13_7 {p : Program} {l : Launch} {e : Env} {R : Room} {s : State} {m : MethodId} {args : Array Value} {below : List Frame} {meth : Method} {c : Code} {H : Heap} {locs : List Loc} {Q : State → Prop} {cc : ByteArray} {nL pc : Nat} {ls : Array Slot} {rest : List Value} {cells slots : Nat} {D : va_G} {dA : Nat → ClassId} {ad : Nat → Nat} {A : Nat → Prop} {H0 : Heap} {S : St} {q : Nat} {fs : List PV} {v : Int} (hF : CallFix p m c cc nL s args lw_all RX13) (hK : gK D dA s) (hI : sI D dA wX ad A H0 S H locs) (hg : gI S q = some (.inr (.inl (13, fs)))) (hlen : fs.length = 5) (hv : InR v) (hinit : meth.name = "<init>") (hdg : decode cc pc = .ok (.putfield 7, 3)) (kk : ∀ (S1 : St) (H1 : Heap) (locs1 : List Loc), S1 = gset S q (.inr (.inl (13, fs.set 0 (.inl v)))) → sI D dA wX ad A H0 S1 H1 locs1 → W p l e R s m args below meth c H1 locs1 cells slots Q (F0 m (pc + 3) ls (rest))) : W p l e R s m args below meth c H locs cells slots Q (F0 m (pc) ls (iV v :: .ref q :: rest)) := s_pputF (v := .inl v) hF.1 hF.2.1 tyX13 tyX13_ok nmX13 hF.2.2.2.2 hF.2.2.2.1 hK hI (by decide) hg hlen rfl in_X13 0 (by decide) q809 rfl hv rfl (hinit) rfl rfl rfl hdg kk
theorem uPX13_13 {p : Program} {l : Launch} {e : Env} {R : Room} {s : State} {m : MethodId} {args : Array Value} {below : List Frame} {meth : Method} {c : Code} {H : Heap} {locs : List Loc} {Q : State → Prop} {cc : ByteArray} {nL pc : Nat} {ls : Array Slot} {rest : List Value} {cells slots : Nat} {D : va_G} {dA : Nat → ClassId} {ad : Nat → Nat} {A : Nat → Prop} {H0 : Heap} {S : St} {q : Nat} {fs : List PV} {v : Int} (hF : CallFix p m c cc nL s args lw_all RX13) (hK : gK D dA s) (hI : sI D dA wX ad A H0 S H locs) (hg : gI S q = some (.inr (.inl (13, fs)))) (hlen : fs.length = 5) (hv : InR v) (hinit : meth.name = "<init>") (hdg : decode cc pc = .ok (.putfield 13, 3)) (kk : ∀ (S1 : St) (H1 : Heap) (locs1 : List Loc), S1 = gset S q (.inr (.inl (13, fs.set 1 (.inl v)))) → sI D dA wX ad A H0 S1 H1 locs1 → W p l e R s m args below meth c H1 locs1 cells slots Q (F0 m (pc + 3) ls (rest))) : W p l e R s m args below meth c H locs cells slots Q (F0 m (pc) ls (iV v :: .ref q :: rest)) := s_pputF (v := .inl v) hF.1 hF.2.1 tyX13 tyX13_ok nmX13 hF.2.2.2.2 hF.2.2.2.1 hK hI (by decide) hg hlen rfl in_X13 1 (by decide) q810 rfl hv rfl (hinit) rfl rfl rfl hdg kk
theorem uPX13_16 {p : Program} {l : Launch} {e : Env} {R : Room} {s : State} {m : MethodId} {args : Array Value} {below : List Frame} {meth : Method} {c : Code} {H : Heap} {locs : List Loc} {Q : State → Prop} {cc : ByteArray} {nL pc : Nat} {ls : Array Slot} {rest : List Value} {cells slots : Nat} {D : va_G} {dA : Nat → ClassId} {ad : Nat → Nat} {A : Nat → Prop} {H0 : Heap} {S : St} {q : Nat} {fs : List PV} {v : Int} (hF : CallFix p m c cc nL s args lw_all RX13) (hK : gK D dA s) (hI : sI D dA wX ad A H0 S H locs) (hg : gI S q = some (.inr (.inl (13, fs)))) (hlen : fs.length = 5) (hv : InR v) (hinit : meth.name = "<init>") (hdg : decode cc pc = .ok (.putfield 16, 3)) (kk : ∀ (S1 : St) (H1 : Heap) (locs1 : List Loc), S1 = gset S q (.inr (.inl (13, fs.set 2 (.inl v)))) → sI D dA wX ad A H0 S1 H1 locs1 → W p l e R s m args below meth c H1 locs1 cells slots Q (F0 m (pc + 3) ls (rest))) : W p l e R s m args below meth c H locs cells slots Q (F0 m (pc) ls (iV v :: .ref q :: rest)) := s_pputF (v := .inl v) hF.1 hF.2.1 tyX13 tyX13_ok nmX13 hF.2.2.2.2 hF.2.2.2.1 hK hI (by decide) hg hlen rfl in_X13 2 (by decide) q811 rfl hv rfl (hinit) rfl rfl rfl hdg kk
theorem uPX13_19 {p : Program} {l : Launch} {e : Env} {R : Room} {s : State} {m : MethodId} {args : Array Value} {below : List Frame} {meth : Method} {c : Code} {H : Heap} {locs : List Loc} {Q : State → Prop} {cc : ByteArray} {nL pc : Nat} {ls : Array Slot} {rest : List Value} {cells slots : Nat} {D : va_G} {dA : Nat → ClassId} {ad : Nat → Nat} {A : Nat → Prop} {H0 : Heap} {S : St} {q : Nat} {fs : List PV} {v : Int} (hF : CallFix p m c cc nL s args lw_all RX13) (hK : gK D dA s) (hI : sI D dA wX ad A H0 S H locs) (hg : gI S q = some (.inr (.inl (13, fs)))) (hlen : fs.length = 5) (hv : InR v) (hinit : meth.name = "<init>") (hdg : decode cc pc = .ok (.putfield 19, 3)) (kk : ∀ (S1 : St) (H1 : Heap) (locs1 : List Loc), S1 = gset S q (.inr (.inl (13, fs.set 3 (.inl v)))) → sI D dA wX ad A H0 S1 H1 locs1 → W p l e R s m args below meth c H1 locs1 cells slots Q (F0 m (pc + 3) ls (rest))) : W p l e R s m args below meth c H locs cells slots Q (F0 m (pc) ls (iV v :: .ref q :: rest)) := s_pputF (v := .inl v) hF.1 hF.2.1 tyX13 tyX13_ok nmX13 hF.2.2.2.2 hF.2.2.2.1 hK hI (by decide) hg hlen rfl in_X13 3 (by decide) q812 rfl hv rfl (hinit) rfl rfl rfl hdg kk
theorem uPX13_22 {p : Program} {l : Launch} {e : Env} {R : Room} {s : State} {m : MethodId} {args : Array Value} {below : List Frame} {meth : Method} {c : Code} {H : Heap} {locs : List Loc} {Q : State → Prop} {cc : ByteArray} {nL pc : Nat} {ls : Array Slot} {rest : List Value} {cells slots : Nat} {D : va_G} {dA : Nat → ClassId} {ad : Nat → Nat} {A : Nat → Prop} {H0 : Heap} {S : St} {q : Nat} {fs : List PV} {v : Int} (hF : CallFix p m c cc nL s args lw_all RX13) (hK : gK D dA s) (hI : sI D dA wX ad A H0 S H locs) (hg : gI S q = some (.inr (.inl (13, fs)))) (hlen : fs.length = 5) (hv : InR v) (hinit : meth.name = "<init>") (hdg : decode cc pc = .ok (.putfield 22, 3)) (kk : ∀ (S1 : St) (H1 : Heap) (locs1 : List Loc), S1 = gset S q (.inr (.inl (13, fs.set 4 (.inl v)))) → sI D dA wX ad A H0 S1 H1 locs1 → W p l e R s m args below meth c H1 locs1 cells slots Q (F0 m (pc + 3) ls (rest))) : W p l e R s m args below meth c H locs cells slots Q (F0 m (pc) ls (iV v :: .ref q :: rest)) := s_pputF (v := .inl v) hF.1 hF.2.1 tyX13 tyX13_ok nmX13 hF.2.2.2.2 hF.2.2.2.1 hK hI (by decide) hg hlen rfl in_X13 4 (by decide) q813 rfl hv rfl (hinit) rfl rfl rfl hdg kk
set_option maxHeartbeats 4000000 in
theorem t_X13_init (l : Launch) (hlt : l.stackTraces = false) (D : va_G) (dA : Nat → ClassId) (ad : Nat → Nat) (S : St) (sz : Nat) (x0 : Nat) (x1 : Int) (x2 : Int) (x3 : Int) (x4 : Int) (x5 : Int) (K : St → Prop) (rx1 : InR x1) (rx2 : InR x2) (rx3 : InR x3) (rx4 : InR x4) (rx5 : InR x5) (mc ms : Nat) (hmc : mc = bC S) (hms : ms = bL S) (h : w_X13_init x0 x1 x2 x3 x4 x5 S K) : Met l yX13_init (ws_ yX13_init cX13_init 6 (Option.none : Option Jvm.ClassFile.FieldType)) (rmD 2 mc ms) (va_Pc [.ref x0, iV x1, iV x2, iV x3, iV x4, iV x5] (tPre D dA ad S sz)) (va_Qv (fun S' => K S') (sPost D dA wX ad (wA wX ad S sz)) (wA wX ad S sz)) mc ms (wA wX ad S sz) := by
  refine Met.ofW (cc := cX13_init) (maxL := 6) (ret := (Option.none : Option Jvm.ClassFile.FieldType)) (by decide) rfl ?_
  intro p e s m args below meth c s₁ B hml hv
  obtain ⟨rfl, ⟨hsz, hK, hC⟩, hZ⟩ := hv
  have hx := B.exec
  have hb := B.bytes
  have hr := B.returns
  have hlocks := B.notSynchronized
  have hinit : meth.name = "<init>" := (name_of_methodNamed B.named B.method).1
  have hts := atoms_spec (ws := (ws_ yX13_init cX13_init 6 (Option.none : Option Jvm.ClassFile.FieldType))) B.pre
  have hts : ∀ w ∈ lw_all, w.before _ s = true := fun w h => hts w (List.mem_cons_of_mem _ h)
  have hown : s.vm.findClass RX13 = some m.cls := findClass_of_methodNamed B.named
  clear B
  subst hsz
  have hI : sI D dA wX ad (wA wX ad S s.heap.size) s.heap S s.heap [] := hC.start
  clear hC
  generalize wA wX ad S s.heap.size = A at hI hZ ⊢
  have hl := lv_entry ([.ref x0, iV x1, iV x2, iV x3, iV x4, iV x5] : List Value) (n := 6) (Nat.le_of_ble_eq_true rfl)
  rw [lg_entry_eq]
  generalize (lg_sl ([.ref x0, iV x1, iV x2, iV x3, iV x4, iV x5] : List Value) ++ List.replicate (6 - (lg_sl ([.ref x0, iV x1, iV x2, iV x3, iV x4, iV x5] : List Value)).length) Slot.unset).toArray = ls at hl ⊢
  have hl : lv_has ls 6 [(0, .ref x0), (1, iV x1), (2, iV x2), (3, iV x3), (4, iV x4), (5, iV x5)] := hl
  have hF : CallFix p m c cX13_init 6 s _ lw_all RX13 := ⟨hx, hb, hml, hown, hts⟩
  have hR : (headSpec (ws_ yX13_init cX13_init 6 (Option.none : Option Jvm.ClassFile.FieldType)) (rmD 2 mc ms)).room.frames = 2 + 1 ∧ (headSpec (ws_ yX13_init cX13_init 6 (Option.none : Option Jvm.ClassFile.FieldType)) (rmD 2 mc ms)).room.locals = 64 * 2 + 64 := ⟨rfl, rfl⟩
  have hRc : (headSpec (ws_ yX13_init cX13_init 6 (Option.none : Option Jvm.ClassFile.FieldType)) (rmD 2 mc ms)).room.cells = mc ∧ (headSpec (ws_ yX13_init cX13_init 6 (Option.none : Option Jvm.ClassFile.FieldType)) (rmD 2 mc ms)).room.slots = ms := ⟨rfl, rfl⟩
  generalize (headSpec (ws_ yX13_init cX13_init 6 (Option.none : Option Jvm.ClassFile.FieldType)) (rmD 2 mc ms)).room = R at hR hRc ⊢
  obtain ⟨hRc, hRs⟩ := hRc
  have hcs : bOK R S 0 0 := ⟨by omega, by omega⟩
  clear hmc hms
  have hcs0 := hcs
  generalize ([.ref x0, iV x1, iV x2, iV x3, iV x4, iV x5] : List Value).toArray = args at hts hF ⊢
  generalize hQ : MQ below _ _ _ _ _ _ = Q
  unfold w_X13_init at h
  refine lv_aload_n hx hb dX13_init_0 rfl (lv_at hl 0 rfl) ?_
  obtain ⟨a1, b2, f3, h⟩ := h
  refine p_callIv (As := []) (rest := []) hF (t_J10_init l hlt D dA ad (bset S a1 b2) _ x0 _ a1.toNat b2.toNat (bC_bset _ _ _).symm (bL_bset _ _ _).symm h) (cwI 0 hts (lw_meth q583) rfl rfl rfl (hts _ q124) (hts _ q808) (hts _ q582) rfl (by decide +kernel) ⟨by have h1 := hR.1; have h2 : (rmD 1 a1.toNat b2.toNat).frames = 1 + 1 := rfl; omega, by have h1 := hR.2; have h2 : (rmD 1 a1.toNat b2.toNat).locals = 64 * 1 + 64 := rfl; omega⟩) hK hI hZ hcs f3 rfl hl.1 rfl (Nat.le_of_ble_eq_true rfl) dX13_init_1 (fun S5 S6 H locs cells slots h eS6 hI hcs => ?_)
  replace h := h S6 eS6
  refine lv_aload_n hx hb dX13_init_4 rfl (lv_at hl 0 rfl) ?_
  refine lv_iload_n hx hb dX13_init_5 rfl (lv_at hl 1 rfl) ?_
  obtain ⟨fs8, hg9, hn10, h⟩ := h
  refine uPX13_7 hF hK hI hg9 hn10 rx1 hinit dX13_init_6 (fun S11 H locs eS11 hI => ?_)
  replace h := h S11 eS11
  have hcs := bOK.to (S' := S11) hcs (by rw [eS11]; exact ⟨rfl, rfl⟩)
  refine lv_aload_n hx hb dX13_init_9 rfl (lv_at hl 0 rfl) ?_
  refine lv_iload_n hx hb dX13_init_10 rfl (lv_at hl 2 rfl) ?_
  obtain ⟨fs12, hg13, hn14, h⟩ := h
  refine uPX13_13 hF hK hI hg13 hn14 rx2 hinit dX13_init_11 (fun S15 H locs eS15 hI => ?_)
  replace h := h S15 eS15
  have hcs := bOK.to (S' := S15) hcs (by rw [eS15]; exact ⟨rfl, rfl⟩)
  refine lv_aload_n hx hb dX13_init_14 rfl (lv_at hl 0 rfl) ?_
  refine lv_iload_n hx hb dX13_init_15 rfl (lv_at hl 3 rfl) ?_
  obtain ⟨fs16, hg17, hn18, h⟩ := h
  refine uPX13_16 hF hK hI hg17 hn18 rx3 hinit dX13_init_16 (fun S19 H locs eS19 hI => ?_)
  replace h := h S19 eS19
  have hcs := bOK.to (S' := S19) hcs (by rw [eS19]; exact ⟨rfl, rfl⟩)
  refine lv_aload_n hx hb dX13_init_19 rfl (lv_at hl 0 rfl) ?_
  refine lv_iload hx hb dX13_init_20 (lv_at hl 4 rfl) ?_
  obtain ⟨fs20, hg21, hn22, h⟩ := h
  refine uPX13_19 hF hK hI hg21 hn22 rx4 hinit dX13_init_22 (fun S23 H locs eS23 hI => ?_)
  replace h := h S23 eS23
  have hcs := bOK.to (S' := S23) hcs (by rw [eS23]; exact ⟨rfl, rfl⟩)
  refine lv_aload_n hx hb dX13_init_25 rfl (lv_at hl 0 rfl) ?_
  refine lv_iload hx hb dX13_init_26 (lv_at hl 5 rfl) ?_
  obtain ⟨fs24, hg25, hn26, h⟩ := h
  refine uPX13_22 hF hK hI hg25 hn26 rx5 hinit dX13_init_28 (fun S27 H locs eS27 hI => ?_)
  replace h := h S27 eS27
  have hcs := bOK.to (S' := S27) hcs (by rw [eS27]; exact ⟨rfl, rfl⟩)
  rw [← hQ]; refine W.widen (k := mc) (n := ms) (by have h1 := hcs.1; omega) (by have h1 := hcs.2; omega) ?_; exact s_vret (K := K) hx hb hr hlocks hI h dX13_init_31
theorem uPX6_12 {p : Program} {l : Launch} {e : Env} {R : Room} {s : State} {m : MethodId} {args : Array Value} {below : List Frame} {meth : Method} {c : Code} {H : Heap} {locs : List Loc} {Q : State → Prop} {cc : ByteArray} {nL pc : Nat} {ls : Array Slot} {rest : List Value} {cells slots : Nat} {D : va_G} {dA : Nat → ClassId} {ad : Nat → Nat} {A : Nat → Prop} {H0 : Heap} {S : St} {q : Nat} {fs : List PV} {r : Nat} (hF : CallFix p m c cc nL s args lw_all RX6) (hK : gK D dA s) (hI : sI D dA wX ad A H0 S H locs) (hg : gI S q = some (.inr (.inl (6, fs)))) (hlen : fs.length = 3) (hinit : meth.name = "<init>") (hdg : decode cc pc = .ok (.putfield 12, 3)) (kk : ∀ (S1 : St) (H1 : Heap) (locs1 : List Loc), S1 = gset S q (.inr (.inl (6, fs.set 1 (.inr (.inr (some r)))))) → sI D dA wX ad A H0 S1 H1 locs1 → W p l e R s m args below meth c H1 locs1 cells slots Q (F0 m (pc + 3) ls (rest))) : W p l e R s m args below meth c H locs cells slots Q (F0 m (pc) ls (.ref r :: .ref q :: rest)) := s_pputF (v := .inr (.inr (some r))) hF.1 hF.2.1 tyX6 tyX6_ok nmX6 hF.2.2.2.2 hF.2.2.2.1 hK hI (by decide) hg hlen rfl in_X6 1 (by decide) q624 rfl trivial rfl (hinit) rfl rfl rfl hdg kk
theorem uPX6_18 {p : Program} {l : Launch} {e : Env} {R : Room} {s : State} {m : MethodId} {args : Array Value} {below : List Frame} {meth : Method} {c : Code} {H : Heap} {locs : List Loc} {Q : State → Prop} {cc : ByteArray} {nL pc : Nat} {ls : Array Slot} {rest : List Value} {cells slots : Nat} {D : va_G} {dA : Nat → ClassId} {ad : Nat → Nat} {A : Nat → Prop} {H0 : Heap} {S : St} {q : Nat} {fs : List PV} {r : Nat} (hF : CallFix p m c cc nL s args lw_all RX6) (hK : gK D dA s) (hI : sI D dA wX ad A H0 S H locs) (hg : gI S q = some (.inr (.inl (6, fs)))) (hlen : fs.length = 3) (hinit : meth.name = "<init>") (hdg : decode cc pc = .ok (.putfield 18, 3)) (kk : ∀ (S1 : St) (H1 : Heap) (locs1 : List Loc), S1 = gset S q (.inr (.inl (6, fs.set 2 (.inr (.inr (some r)))))) → sI D dA wX ad A H0 S1 H1 locs1 → W p l e R s m args below meth c H1 locs1 cells slots Q (F0 m (pc + 3) ls (rest))) : W p l e R s m args below meth c H locs cells slots Q (F0 m (pc) ls (.ref r :: .ref q :: rest)) := s_pputF (v := .inr (.inr (some r))) hF.1 hF.2.1 tyX6 tyX6_ok nmX6 hF.2.2.2.2 hF.2.2.2.1 hK hI (by decide) hg hlen rfl in_X6 2 (by decide) q625 rfl trivial rfl (hinit) rfl rfl rfl hdg kk
theorem uPX6_21 {p : Program} {l : Launch} {e : Env} {R : Room} {s : State} {m : MethodId} {args : Array Value} {below : List Frame} {meth : Method} {c : Code} {H : Heap} {locs : List Loc} {Q : State → Prop} {cc : ByteArray} {nL pc : Nat} {ls : Array Slot} {rest : List Value} {cells slots : Nat} {D : va_G} {dA : Nat → ClassId} {ad : Nat → Nat} {A : Nat → Prop} {H0 : Heap} {S : St} {q : Nat} {fs : List PV} {r : Nat} (hF : CallFix p m c cc nL s args lw_all RX6) (hK : gK D dA s) (hI : sI D dA wX ad A H0 S H locs) (hg : gI S q = some (.inr (.inl (6, fs)))) (hlen : fs.length = 3) (hinit : meth.name = "<init>") (hdg : decode cc pc = .ok (.putfield 21, 3)) (kk : ∀ (S1 : St) (H1 : Heap) (locs1 : List Loc), S1 = gset S q (.inr (.inl (6, fs.set 0 (.inr (.inr (some r)))))) → sI D dA wX ad A H0 S1 H1 locs1 → W p l e R s m args below meth c H1 locs1 cells slots Q (F0 m (pc + 3) ls (rest))) : W p l e R s m args below meth c H locs cells slots Q (F0 m (pc) ls (.ref r :: .ref q :: rest)) := s_pputF (v := .inr (.inr (some r))) hF.1 hF.2.1 tyX6 tyX6_ok nmX6 hF.2.2.2.2 hF.2.2.2.1 hK hI (by decide) hg hlen rfl in_X6 0 (by decide) q623 rfl trivial rfl (hinit) rfl rfl rfl hdg kk
set_option maxHeartbeats 4000000 in
theorem t_X6_init (l : Launch) (hlt : l.stackTraces = false) (D : va_G) (dA : Nat → ClassId) (ad : Nat → Nat) (S : St) (sz : Nat) (x0 : Nat) (x1 : Nat) (K : St → Prop) (mc ms : Nat) (hmc : mc = bC S) (hms : ms = bL S) (h : w_X6_init x0 x1 S K) : Met l yX6_init (ws_ yX6_init cX6_init 2 (Option.none : Option Jvm.ClassFile.FieldType)) (rmD 4 mc ms) (va_Pc [.ref x0, .ref x1] (tPre D dA ad S sz)) (va_Qv (fun S' => K S') (sPost D dA wX ad (wA wX ad S sz)) (wA wX ad S sz)) mc ms (wA wX ad S sz) := by
  refine Met.ofW (cc := cX6_init) (maxL := 2) (ret := (Option.none : Option Jvm.ClassFile.FieldType)) (by decide) rfl ?_
  intro p e s m args below meth c s₁ B hml hv
  obtain ⟨rfl, ⟨hsz, hK, hC⟩, hZ⟩ := hv
  have hx := B.exec
  have hb := B.bytes
  have hr := B.returns
  have hlocks := B.notSynchronized
  have hinit : meth.name = "<init>" := (name_of_methodNamed B.named B.method).1
  have hts := atoms_spec (ws := (ws_ yX6_init cX6_init 2 (Option.none : Option Jvm.ClassFile.FieldType))) B.pre
  have hts : ∀ w ∈ lw_all, w.before _ s = true := fun w h => hts w (List.mem_cons_of_mem _ h)
  have hown : s.vm.findClass RX6 = some m.cls := findClass_of_methodNamed B.named
  clear B
  subst hsz
  have hI : sI D dA wX ad (wA wX ad S s.heap.size) s.heap S s.heap [] := hC.start
  clear hC
  generalize wA wX ad S s.heap.size = A at hI hZ ⊢
  have hl := lv_entry ([.ref x0, .ref x1] : List Value) (n := 2) (Nat.le_of_ble_eq_true rfl)
  rw [lg_entry_eq]
  generalize (lg_sl ([.ref x0, .ref x1] : List Value) ++ List.replicate (2 - (lg_sl ([.ref x0, .ref x1] : List Value)).length) Slot.unset).toArray = ls at hl ⊢
  have hl : lv_has ls 2 [(0, .ref x0), (1, .ref x1)] := hl
  have hF : CallFix p m c cX6_init 2 s _ lw_all RX6 := ⟨hx, hb, hml, hown, hts⟩
  have hR : (headSpec (ws_ yX6_init cX6_init 2 (Option.none : Option Jvm.ClassFile.FieldType)) (rmD 4 mc ms)).room.frames = 4 + 1 ∧ (headSpec (ws_ yX6_init cX6_init 2 (Option.none : Option Jvm.ClassFile.FieldType)) (rmD 4 mc ms)).room.locals = 64 * 4 + 64 := ⟨rfl, rfl⟩
  have hRc : (headSpec (ws_ yX6_init cX6_init 2 (Option.none : Option Jvm.ClassFile.FieldType)) (rmD 4 mc ms)).room.cells = mc ∧ (headSpec (ws_ yX6_init cX6_init 2 (Option.none : Option Jvm.ClassFile.FieldType)) (rmD 4 mc ms)).room.slots = ms := ⟨rfl, rfl⟩
  generalize (headSpec (ws_ yX6_init cX6_init 2 (Option.none : Option Jvm.ClassFile.FieldType)) (rmD 4 mc ms)).room = R at hR hRc ⊢
  obtain ⟨hRc, hRs⟩ := hRc
  have hcs : bOK R S 0 0 := ⟨by omega, by omega⟩
  clear hmc hms
  have hcs0 := hcs
  generalize ([.ref x0, .ref x1] : List Value).toArray = args at hts hF ⊢
  generalize hQ : MQ below _ _ _ _ _ _ = Q
  unfold w_X6_init at h
  refine lv_aload_n hx hb dX6_init_0 rfl (lv_at hl 0 rfl) ?_
  refine W.objInit hx hb hown (hts _ q620) (hts _ q144) (hts _ q145) rfl (hl.1.trans hml.symm) rfl dX6_init_1 (by have h1 := hR.1; omega) (Nat.le_trans (m := 64) (Nat.le_of_ble_eq_true rfl) (by have h2 := hR.2; omega)) ?_
  show W p l e R s m args below meth c _ _ _ _ Q (F0 m _ ls [])
  refine lv_aload_n hx hb dX6_init_4 rfl (lv_at hl 0 rfl) ?_
  have f3 := h.1; replace h := h.2
  refine t_new (C := RJ2) (T := TJ2) (ci := 14) hx hb tyJ2 tyJ2_ok hts hown hK hI hcs rfl in_J2 q621 q366 q114 ([.inl 0, .inr (.inr none), .inl 0] : List PV) (by intro j hj; have hj2 : j = 0 ∨ j = 1 ∨ j = 2 := (by omega); rcases hj2 with rfl | rfl | rfl <;> rfl) (by intro v hv; simp only [List.mem_cons, List.not_mem_nil, or_false] at hv; rcases hv with rfl | rfl | rfl <;> first | exact ni_r0 | exact trivial) f3 dX6_init_5 (fun q1 S2 H cells slots hqq1 eS2 _ hI hcs => ?_)
  replace h := h q1 S2 hqq1 eS2
  refine lv_dup hx hb dX6_init_8 rfl ?_
  obtain ⟨a4, b5, f6, h⟩ := h
  refine p_callIv (As := []) (rest := [.ref q1, .ref x0]) hF (t_J2_init l hlt D dA ad (bset S2 a4 b5) _ q1 _ a4.toNat b5.toNat (bC_bset _ _ _).symm (bL_bset _ _ _).symm h) (cwI 0 hts (lw_meth q369) rfl rfl rfl (hts _ q114) (hts _ q622) (hts _ q368) rfl (by decide +kernel) ⟨by have h1 := hR.1; have h2 : (rmD 3 a4.toNat b5.toNat).frames = 3 + 1 := rfl; omega, by have h1 := hR.2; have h2 : (rmD 3 a4.toNat b5.toNat).locals = 64 * 3 + 64 := rfl; omega⟩) hK hI hZ hcs f6 rfl hl.1 rfl (Nat.le_of_ble_eq_true rfl) dX6_init_9 (fun S8 S9 H locs cells slots h eS9 hI hcs => ?_)
  replace h := h S9 eS9
  obtain ⟨fs11, hg12, hn13, h⟩ := h
  refine uPX6_12 hF hK hI hg12 hn13 hinit dX6_init_12 (fun S14 H locs eS14 hI => ?_)
  replace h := h S14 eS14
  have hcs := bOK.to (S' := S14) hcs (by rw [eS14]; exact ⟨rfl, rfl⟩)
  refine lv_aload_n hx hb dX6_init_15 rfl (lv_at hl 0 rfl) ?_
  have f17 := h.1; replace h := h.2
  refine t_new (C := RJ2) (T := TJ2) (ci := 14) hx hb tyJ2 tyJ2_ok hts hown hK hI hcs rfl in_J2 q621 q366 q114 ([.inl 0, .inr (.inr none), .inl 0] : List PV) (by intro j hj; have hj2 : j = 0 ∨ j = 1 ∨ j = 2 := (by omega); rcases hj2 with rfl | rfl | rfl <;> rfl) (by intro v hv; simp only [List.mem_cons, List.not_mem_nil, or_false] at hv; rcases hv with rfl | rfl | rfl <;> first | exact ni_r0 | exact trivial) f17 dX6_init_16 (fun q15 S16 H cells slots hqq15 eS16 _ hI hcs => ?_)
  replace h := h q15 S16 hqq15 eS16
  refine lv_dup hx hb dX6_init_19 rfl ?_
  obtain ⟨a18, b19, f20, h⟩ := h
  refine p_callIv (As := []) (rest := [.ref q15, .ref x0]) hF (t_J2_init l hlt D dA ad (bset S16 a18 b19) _ q15 _ a18.toNat b19.toNat (bC_bset _ _ _).symm (bL_bset _ _ _).symm h) (cwI 0 hts (lw_meth q369) rfl rfl rfl (hts _ q114) (hts _ q622) (hts _ q368) rfl (by decide +kernel) ⟨by have h1 := hR.1; have h2 : (rmD 3 a18.toNat b19.toNat).frames = 3 + 1 := rfl; omega, by have h1 := hR.2; have h2 : (rmD 3 a18.toNat b19.toNat).locals = 64 * 3 + 64 := rfl; omega⟩) hK hI hZ hcs f20 rfl hl.1 rfl (Nat.le_of_ble_eq_true rfl) dX6_init_20 (fun S22 S23 H locs cells slots h eS23 hI hcs => ?_)
  replace h := h S23 eS23
  obtain ⟨fs25, hg26, hn27, h⟩ := h
  refine uPX6_18 hF hK hI hg26 hn27 hinit dX6_init_23 (fun S28 H locs eS28 hI => ?_)
  replace h := h S28 eS28
  have hcs := bOK.to (S' := S28) hcs (by rw [eS28]; exact ⟨rfl, rfl⟩)
  refine lv_aload_n hx hb dX6_init_26 rfl (lv_at hl 0 rfl) ?_
  refine lv_aload_n hx hb dX6_init_27 rfl (lv_at hl 1 rfl) ?_
  obtain ⟨fs29, hg30, hn31, h⟩ := h
  refine uPX6_21 hF hK hI hg30 hn31 hinit dX6_init_28 (fun S32 H locs eS32 hI => ?_)
  replace h := h S32 eS32
  have hcs := bOK.to (S' := S32) hcs (by rw [eS32]; exact ⟨rfl, rfl⟩)
  rw [← hQ]; refine W.widen (k := mc) (n := ms) (by have h1 := hcs.1; omega) (by have h1 := hcs.2; omega) ?_; exact s_vret (K := K) hx hb hr hlocks hI h dX6_init_31
theorem uPX4_9 {p : Program} {l : Launch} {e : Env} {R : Room} {s : State} {m : MethodId} {args : Array Value} {below : List Frame} {meth : Method} {c : Code} {H : Heap} {locs : List Loc} {Q : State → Prop} {cc : ByteArray} {nL pc : Nat} {ls : Array Slot} {rest : List Value} {cells slots : Nat} {D : va_G} {dA : Nat → ClassId} {ad : Nat → Nat} {A : Nat → Prop} {H0 : Heap} {S : St} {q : Nat} {fs : List PV} {r : Nat} (hF : CallFix p m c cc nL s args lw_all RX4) (hK : gK D dA s) (hI : sI D dA wX ad A H0 S H locs) (hg : gI S q = some (.inr (.inl (4, fs)))) (hlen : fs.length = 6) (hinit : meth.name = "<init>") (hdg : decode cc pc = .ok (.putfield 9, 3)) (kk : ∀ (S1 : St) (H1 : Heap) (locs1 : List Loc), S1 = gset S q (.inr (.inl (4, fs.set 3 (.inr (.inr (some r)))))) → sI D dA wX ad A H0 S1 H1 locs1 → W p l e R s m args below meth c H1 locs1 cells slots Q (F0 m (pc + 3) ls (rest))) : W p l e R s m args below meth c H locs cells slots Q (F0 m (pc) ls (.ref r :: .ref q :: rest)) := s_pputF (v := .inr (.inr (some r))) hF.1 hF.2.1 tyX4 tyX4_ok nmX4 hF.2.2.2.2 hF.2.2.2.1 hK hI (by decide) hg hlen rfl in_X4 3 (by decide) q397 rfl trivial rfl (hinit) rfl rfl rfl hdg kk
theorem uPX4_18 {p : Program} {l : Launch} {e : Env} {R : Room} {s : State} {m : MethodId} {args : Array Value} {below : List Frame} {meth : Method} {c : Code} {H : Heap} {locs : List Loc} {Q : State → Prop} {cc : ByteArray} {nL pc : Nat} {ls : Array Slot} {rest : List Value} {cells slots : Nat} {D : va_G} {dA : Nat → ClassId} {ad : Nat → Nat} {A : Nat → Prop} {H0 : Heap} {S : St} {q : Nat} {fs : List PV} {r : Nat} (hF : CallFix p m c cc nL s args lw_all RX4) (hK : gK D dA s) (hI : sI D dA wX ad A H0 S H locs) (hg : gI S q = some (.inr (.inl (4, fs)))) (hlen : fs.length = 6) (hinit : meth.name = "<init>") (hdg : decode cc pc = .ok (.putfield 18, 3)) (kk : ∀ (S1 : St) (H1 : Heap) (locs1 : List Loc), S1 = gset S q (.inr (.inl (4, fs.set 4 (.inr (.inr (some r)))))) → sI D dA wX ad A H0 S1 H1 locs1 → W p l e R s m args below meth c H1 locs1 cells slots Q (F0 m (pc + 3) ls (rest))) : W p l e R s m args below meth c H locs cells slots Q (F0 m (pc) ls (.ref r :: .ref q :: rest)) := s_pputF (v := .inr (.inr (some r))) hF.1 hF.2.1 tyX4 tyX4_ok nmX4 hF.2.2.2.2 hF.2.2.2.1 hK hI (by decide) hg hlen rfl in_X4 4 (by decide) q400 rfl trivial rfl (hinit) rfl rfl rfl hdg kk
set_option maxHeartbeats 4000000 in
theorem t_X4_init (l : Launch) (hlt : l.stackTraces = false) (D : va_G) (dA : Nat → ClassId) (ad : Nat → Nat) (S : St) (sz : Nat) (x0 : Nat) (K : St → Prop) (mc ms : Nat) (hmc : mc = bC S) (hms : ms = bL S) (h : w_X4_init x0 S K) : Met l yX4_init (ws_ yX4_init cX4_init 1 (Option.none : Option Jvm.ClassFile.FieldType)) (rmD 4 mc ms) (va_Pc [.ref x0] (tPre D dA ad S sz)) (va_Qv (fun S' => K S') (sPost D dA wX ad (wA wX ad S sz)) (wA wX ad S sz)) mc ms (wA wX ad S sz) := by
  refine Met.ofW (cc := cX4_init) (maxL := 1) (ret := (Option.none : Option Jvm.ClassFile.FieldType)) (by decide) rfl ?_
  intro p e s m args below meth c s₁ B hml hv
  obtain ⟨rfl, ⟨hsz, hK, hC⟩, hZ⟩ := hv
  have hx := B.exec
  have hb := B.bytes
  have hr := B.returns
  have hlocks := B.notSynchronized
  have hinit : meth.name = "<init>" := (name_of_methodNamed B.named B.method).1
  have hts := atoms_spec (ws := (ws_ yX4_init cX4_init 1 (Option.none : Option Jvm.ClassFile.FieldType))) B.pre
  have hts : ∀ w ∈ lw_all, w.before _ s = true := fun w h => hts w (List.mem_cons_of_mem _ h)
  have hown : s.vm.findClass RX4 = some m.cls := findClass_of_methodNamed B.named
  clear B
  subst hsz
  have hI : sI D dA wX ad (wA wX ad S s.heap.size) s.heap S s.heap [] := hC.start
  clear hC
  generalize wA wX ad S s.heap.size = A at hI hZ ⊢
  have hl := lv_entry ([.ref x0] : List Value) (n := 1) (Nat.le_of_ble_eq_true rfl)
  rw [lg_entry_eq]
  generalize (lg_sl ([.ref x0] : List Value) ++ List.replicate (1 - (lg_sl ([.ref x0] : List Value)).length) Slot.unset).toArray = ls at hl ⊢
  have hl : lv_has ls 1 [(0, .ref x0)] := hl
  have hF : CallFix p m c cX4_init 1 s _ lw_all RX4 := ⟨hx, hb, hml, hown, hts⟩
  have hR : (headSpec (ws_ yX4_init cX4_init 1 (Option.none : Option Jvm.ClassFile.FieldType)) (rmD 4 mc ms)).room.frames = 4 + 1 ∧ (headSpec (ws_ yX4_init cX4_init 1 (Option.none : Option Jvm.ClassFile.FieldType)) (rmD 4 mc ms)).room.locals = 64 * 4 + 64 := ⟨rfl, rfl⟩
  have hRc : (headSpec (ws_ yX4_init cX4_init 1 (Option.none : Option Jvm.ClassFile.FieldType)) (rmD 4 mc ms)).room.cells = mc ∧ (headSpec (ws_ yX4_init cX4_init 1 (Option.none : Option Jvm.ClassFile.FieldType)) (rmD 4 mc ms)).room.slots = ms := ⟨rfl, rfl⟩
  generalize (headSpec (ws_ yX4_init cX4_init 1 (Option.none : Option Jvm.ClassFile.FieldType)) (rmD 4 mc ms)).room = R at hR hRc ⊢
  obtain ⟨hRc, hRs⟩ := hRc
  have hcs : bOK R S 0 0 := ⟨by omega, by omega⟩
  clear hmc hms
  have hcs0 := hcs
  generalize ([.ref x0] : List Value).toArray = args at hts hF ⊢
  generalize hQ : MQ below _ _ _ _ _ _ = Q
  unfold w_X4_init at h
  refine lv_aload_n hx hb dX4_init_0 rfl (lv_at hl 0 rfl) ?_
  refine W.objInit hx hb hown (hts _ q364) (hts _ q144) (hts _ q145) rfl (hl.1.trans hml.symm) rfl dX4_init_1 (by have h1 := hR.1; omega) (Nat.le_trans (m := 64) (Nat.le_of_ble_eq_true rfl) (by have h2 := hR.2; omega)) ?_
  show W p l e R s m args below meth c _ _ _ _ Q (F0 m _ ls [])
  refine lv_aload_n hx hb dX4_init_4 rfl (lv_at hl 0 rfl) ?_
  refine nr_bipush hx hb dX4_init_5 (by decide) ?_
  have f3 := h.1; replace h := h.2
  refine t_newi hx hb (hts _ q185) hK hI hcs (v := 20) (by decide) (by decide) f3 dX4_init_7 (fun q1 S2 H cells slots hqq1 eS2 hI hcs => ?_)
  replace h := h q1 S2 hqq1 eS2
  obtain ⟨fs4, hg5, hn6, h⟩ := h
  refine uPX4_9 hF hK hI hg5 hn6 hinit dX4_init_9 (fun S7 H locs eS7 hI => ?_)
  replace h := h S7 eS7
  have hcs := bOK.to (S' := S7) hcs (by rw [eS7]; exact ⟨rfl, rfl⟩)
  refine lv_aload_n hx hb dX4_init_12 rfl (lv_at hl 0 rfl) ?_
  have f10 := h.1; replace h := h.2
  refine t_new (C := RJ2) (T := TJ2) (ci := 14) hx hb tyJ2 tyJ2_ok hts hown hK hI hcs rfl in_J2 q365 q366 q114 ([.inl 0, .inr (.inr none), .inl 0] : List PV) (by intro j hj; have hj2 : j = 0 ∨ j = 1 ∨ j = 2 := (by omega); rcases hj2 with rfl | rfl | rfl <;> rfl) (by intro v hv; simp only [List.mem_cons, List.not_mem_nil, or_false] at hv; rcases hv with rfl | rfl | rfl <;> first | exact ni_r0 | exact trivial) f10 dX4_init_13 (fun q8 S9 H cells slots hqq8 eS9 _ hI hcs => ?_)
  replace h := h q8 S9 hqq8 eS9
  refine lv_dup hx hb dX4_init_16 rfl ?_
  obtain ⟨a11, b12, f13, h⟩ := h
  refine p_callIv (As := []) (rest := [.ref q8, .ref x0]) hF (t_J2_init l hlt D dA ad (bset S9 a11 b12) _ q8 _ a11.toNat b12.toNat (bC_bset _ _ _).symm (bL_bset _ _ _).symm h) (cwI 0 hts (lw_meth q369) rfl rfl rfl (hts _ q114) (hts _ q367) (hts _ q368) rfl (by decide +kernel) ⟨by have h1 := hR.1; have h2 : (rmD 3 a11.toNat b12.toNat).frames = 3 + 1 := rfl; omega, by have h1 := hR.2; have h2 : (rmD 3 a11.toNat b12.toNat).locals = 64 * 3 + 64 := rfl; omega⟩) hK hI hZ hcs f13 rfl hl.1 rfl (Nat.le_of_ble_eq_true rfl) dX4_init_17 (fun S15 S16 H locs cells slots h eS16 hI hcs => ?_)
  replace h := h S16 eS16
  obtain ⟨fs18, hg19, hn20, h⟩ := h
  refine uPX4_18 hF hK hI hg19 hn20 hinit dX4_init_20 (fun S21 H locs eS21 hI => ?_)
  replace h := h S21 eS21
  have hcs := bOK.to (S' := S21) hcs (by rw [eS21]; exact ⟨rfl, rfl⟩)
  rw [← hQ]; refine W.widen (k := mc) (n := ms) (by have h1 := hcs.1; omega) (by have h1 := hcs.2; omega) ?_; exact s_vret (K := K) hx hb hr hlocks hI h dX4_init_23
