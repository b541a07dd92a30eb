set_option maxRecDepth 100000
theorem gPX3_25 {p : Program} {l : Launch} {e : Env} {R : Room} {s : State} {m : MethodId} {args : Array Value} {below : List Frame} {meth : Method} {c : Code} {H : Heap} {locs : List Loc} {Q : State → Prop} {cc : ByteArray} {nL pc : Nat} {ls : Array Slot} {rest : List Value} {cells slots : Nat} {w : Wd} {D : va_G} {dA : Nat → ClassId} {ad : Nat → Nat} {A : Nat → Prop} {H0 : Heap} {S : St} {q : Nat} {fs : List PV} {v : Int} (hF : CallFix p m c cc nL s args lw_all RX3) (hK : gK D dA s) (hI : sI D dA w ad A H0 S H locs) (hg : gI S q = some (.inr (.inl (3, fs)))) (hv : fs[4]? = some (.inl v)) (hdg : decode cc pc = .ok (.getfield 25, 3)) (kk : InR v → W p l e R s m args below meth c H locs cells slots Q (F0 m (pc + 3) ls (iV v :: rest))) : W p l e R s m args below meth c H locs cells slots Q (F0 m (pc) ls (.ref q :: rest)) := s_pgi hF.1 hF.2.1 hF.2.2.2.2 hF.2.2.2.1 hK hI hg rfl in_X3 4 (by decide) q334 rfl hv hdg kk
set_option maxHeartbeats 4000000 in
theorem t_X3_want (l : Launch) (hlt : l.stackTraces = false) (D : va_G) (dA : Nat → ClassId) (ad : Nat → Nat) (S : St) (sz : Nat) (x0 : Nat) (x1 : Int) (K : Option Nat → St → Prop) (rx1 : InR x1) (mc ms : Nat) (hmc : mc = bC S) (hms : ms = bL S) (h : w_X3_want x0 x1 S K) : vz_Met l yX3_want (ws_ yX3_want cX3_want 2 (Option.none : Option Jvm.ClassFile.FieldType)) (rmD 9 mc ms) (va_Pc [.ref x0, iV x1] (tPre D dA ad S sz)) (va_Qv (fun S' => K none S') (sPost D dA wX ad (wA wX ad S sz)) (wA wX ad S sz)) (vz_X (fun _ : St => True) (xB D dA ad (wA wX ad S sz) (fun q S' => K (some q) S')) (wA wX ad S sz)) mc ms (wA wX ad S sz) := by
  refine vz_ofW (cc := cX3_want) (maxL := 2) (ret := (Option.none : Option Jvm.ClassFile.FieldType)) (by decide) rfl ?_
  intro p e s m args below meth c s₁ B hml hout hv
  obtain ⟨rfl, ⟨hsz, hK, hC⟩, hZ⟩ := hv
  have hx := B.exec
  have hb := B.bytes
  have hr := B.returns
  have hlocks := B.notSynchronized
  have hts := atoms_spec (ws := (ws_ yX3_want cX3_want 2 (Option.none : Option Jvm.ClassFile.FieldType))) B.pre
  have hts : ∀ w ∈ lw_all, w.before _ s = true := fun w h => hts w (List.mem_cons_of_mem _ h)
  have hown : s.vm.findClass RX3 = some m.cls := findClass_of_methodNamed B.named
  clear B
  subst hsz
  have hI : sI D dA wX ad (wA wX ad S s.heap.size) s.heap S s.heap [] := hC.start
  clear hC
  generalize wA wX ad S s.heap.size = A at hI hZ ⊢
  have hl := lv_entry ([.ref x0, iV x1] : List Value) (n := 2) (Nat.le_of_ble_eq_true rfl)
  rw [lg_entry_eq]
  generalize (lg_sl ([.ref x0, iV x1] : List Value) ++ List.replicate (2 - (lg_sl ([.ref x0, iV x1] : List Value)).length) Slot.unset).toArray = ls at hl ⊢
  have hl : lv_has ls 2 [(0, .ref x0), (1, iV x1)] := hl
  have hF : CallFix p m c cX3_want 2 s _ lw_all RX3 := ⟨hx, hb, hml, hown, hts⟩
  have hR : (headSpec (ws_ yX3_want cX3_want 2 (Option.none : Option Jvm.ClassFile.FieldType)) (rmD 9 mc ms)).room.frames = 9 + 1 ∧ (headSpec (ws_ yX3_want cX3_want 2 (Option.none : Option Jvm.ClassFile.FieldType)) (rmD 9 mc ms)).room.locals = 64 * 9 + 64 := ⟨rfl, rfl⟩
  have hRc : (headSpec (ws_ yX3_want cX3_want 2 (Option.none : Option Jvm.ClassFile.FieldType)) (rmD 9 mc ms)).room.cells = mc ∧ (headSpec (ws_ yX3_want cX3_want 2 (Option.none : Option Jvm.ClassFile.FieldType)) (rmD 9 mc ms)).room.slots = ms := ⟨rfl, rfl⟩
  generalize (headSpec (ws_ yX3_want cX3_want 2 (Option.none : Option Jvm.ClassFile.FieldType)) (rmD 9 mc ms)).room = R at hR hRc ⊢
  obtain ⟨hRc, hRs⟩ := hRc
  have hcs : bOK R S 0 0 := ⟨by omega, by omega⟩
  clear hmc hms
  have hcs0 := hcs
  generalize ([.ref x0, iV x1] : List Value).toArray = args at hts hF ⊢
  generalize hQ : vz_MQ below _ _ _ _ _ _ _ = Q
  unfold w_X3_want at h
  refine lv_aload_n hx hb dX3_want_0 rfl (lv_at hl 0 rfl) ?_
  obtain ⟨fs1, v4, hg2, hv3, h⟩ := h
  refine gPX3_25 hF hK hI hg2 hv3 dX3_want_1 (fun f5 => ?_)
  replace h := h f5
  refine lv_iload_n hx hb dX3_want_4 rfl (lv_at hl 1 rfl) ?_
  refine nr_icmp_eq hx hb f5 rx1 dX3_want_5 (tgt := 14) (by decide) (fun c6 => ?_) (fun c6 => ?_)
  · replace h := h.1 c6
    refine lv_aload_n hx hb dX3_want_14 rfl (lv_at hl 0 rfl) ?_
    have hr10 := h.1; replace h := h.2
    obtain ⟨a7, b8, f9, h⟩ := h
    refine p_callVv (As := []) (rest := []) hF (t_X3_next l hlt D dA ad (bset S a7 b8) _ x0 _ a7.toNat b8.toNat (bC_bset _ _ _).symm (bL_bset _ _ _).symm h) (by obtain ⟨fs, hg⟩ := hr10; exact s_recvP hK hI hg rfl) (cwV 0 hts (lw_V q417 q419 qs5 q110 q420) rfl rfl rfl (by decide +kernel) ⟨by have h1 := hR.1; have h2 : (rmD 7 a7.toNat b8.toNat).frames = 7 + 1 := rfl; omega, by have h1 := hR.2; have h2 : (rmD 7 a7.toNat b8.toNat).locals = 64 * 7 + 64 := rfl; omega⟩) hK hI hZ hcs f9 rfl hl.1 rfl (Nat.le_of_ble_eq_true rfl) dX3_want_15 (fun S12 S13 H locs cells slots h eS13 hI hcs => ?_)
    replace h := h S13 eS13
    rw [← hQ]; refine vz_ret ?_; refine W.widen (k := mc) (n := ms) (by have h1 := hcs.1; omega) (by have h1 := hcs.2; omega) ?_; exact s_vret (K := (K none)) hx hb hr hlocks hI h dX3_want_18
  · replace h := h.2 c6
    refine lv_aload_n hx hb dX3_want_8 rfl (lv_at hl 0 rfl) ?_
    refine nr_iconst hx hb dX3_want_9 ?_
    have hr18 := h.1; replace h := h.2
    obtain ⟨a15, b16, f17, h⟩ := h
    refine p_callVq (As := [iV 1]) (rest := []) hF (t_X3_wrong l hlt D dA ad (bset S a15 b16) _ x0 1 _ (by decide) a15.toNat b16.toNat (bC_bset _ _ _).symm (bL_bset _ _ _).symm h) (by obtain ⟨fs, hg⟩ := hr18; exact s_recvP hK hI hg rfl) (cwV 1 hts (lw_V q486 q488 qs7 q110 q489) rfl rfl rfl (by decide +kernel) ⟨by have h1 := hR.1; have h2 : (rmD 8 a15.toNat b16.toNat).frames = 8 + 1 := rfl; omega, by have h1 := hR.2; have h2 : (rmD 8 a15.toNat b16.toNat).locals = 64 * 8 + 64 := rfl; omega⟩) hK hI hZ hcs f17 rfl hl.1 rfl (Nat.le_of_ble_eq_true rfl) dX3_want_10 (fun r19 S20 S21 H locs cells slots h eS21 hI hcs => ?_)
    replace h := h S21 eS21
    obtain ⟨q23, e24, h⟩ := h
    rw [e24]
    show W p l e R s m args below meth c _ _ _ _ Q (F0 m _ ls [.ref q23])
    refine vz_athrow hx hb dX3_want_13 ?_
    rw [← hQ]; exact x_out hout hlocks hK hI ⟨by have h1 := hcs.1; omega, by have h1 := hcs.2; omega⟩ h.1 h.2
set_option maxHeartbeats 4000000 in
theorem t_X3_number (l : Launch) (hlt : l.stackTraces = false) (D : va_G) (dA : Nat → ClassId) (ad : Nat → Nat) (S : St) (sz : Nat) (x0 : Nat) (x1 : Int) (x2 : Int) (K : Option Nat → Int → St → Prop) (rx1 : InR x1) (rx2 : InR x2) (mc ms : Nat) (hmc : mc = bC S) (hms : ms = bL S) (h : w_X3_number x0 x1 x2 S K) : vz_Met l yX3_number (ws_ yX3_number cX3_number 4 (Option.some Jvm.ClassFile.FieldType.int)) (rmD 9 mc ms) (va_Pc [.ref x0, iV x1, iV x2] (tPre D dA ad S sz)) (va_Qi (fun r S' => K none r.toInt S') (sPost D dA wX ad (wA wX ad S sz)) (wA wX ad S sz)) (vz_X (fun _ : St => True) (xB D dA ad (wA wX ad S sz) (fun q S' => K (some q) 0 S')) (wA wX ad S sz)) mc ms (wA wX ad S sz) := by
  refine vz_ofW (cc := cX3_number) (maxL := 4) (ret := (Option.some Jvm.ClassFile.FieldType.int)) (by decide) rfl ?_
  intro p e s m args below meth c s₁ B hml hout hv
  obtain ⟨rfl, ⟨hsz, hK, hC⟩, hZ⟩ := hv
  have hx := B.exec
  have hb := B.bytes
  have hr := B.returns
  have hlocks := B.notSynchronized
  have hts := atoms_spec (ws := (ws_ yX3_number cX3_number 4 (Option.some Jvm.ClassFile.FieldType.int))) B.pre
  have hts : ∀ w ∈ lw_all, w.before _ s = true := fun w h => hts w (List.mem_cons_of_mem _ h)
  have hown : s.vm.findClass RX3 = some m.cls := findClass_of_methodNamed B.named
  clear B
  subst hsz
  have hI : sI D dA wX ad (wA wX ad S s.heap.size) s.heap S s.heap [] := hC.start
  clear hC
  generalize wA wX ad S s.heap.size = A at hI hZ ⊢
  have hl := lv_entry ([.ref x0, iV x1, iV x2] : List Value) (n := 4) (Nat.le_of_ble_eq_true rfl)
  rw [lg_entry_eq]
  generalize (lg_sl ([.ref x0, iV x1, iV x2] : List Value) ++ List.replicate (4 - (lg_sl ([.ref x0, iV x1, iV x2] : List Value)).length) Slot.unset).toArray = ls at hl ⊢
  have hl : lv_has ls 4 [(0, .ref x0), (1, iV x1), (2, iV x2)] := hl
  have hF : CallFix p m c cX3_number 4 s _ lw_all RX3 := ⟨hx, hb, hml, hown, hts⟩
  have hR : (headSpec (ws_ yX3_number cX3_number 4 (Option.some Jvm.ClassFile.FieldType.int)) (rmD 9 mc ms)).room.frames = 9 + 1 ∧ (headSpec (ws_ yX3_number cX3_number 4 (Option.some Jvm.ClassFile.FieldType.int)) (rmD 9 mc ms)).room.locals = 64 * 9 + 64 := ⟨rfl, rfl⟩
  have hRc : (headSpec (ws_ yX3_number cX3_number 4 (Option.some Jvm.ClassFile.FieldType.int)) (rmD 9 mc ms)).room.cells = mc ∧ (headSpec (ws_ yX3_number cX3_number 4 (Option.some Jvm.ClassFile.FieldType.int)) (rmD 9 mc ms)).room.slots = ms := ⟨rfl, rfl⟩
  generalize (headSpec (ws_ yX3_number cX3_number 4 (Option.some Jvm.ClassFile.FieldType.int)) (rmD 9 mc ms)).room = R at hR hRc ⊢
  obtain ⟨hRc, hRs⟩ := hRc
  have hcs : bOK R S 0 0 := ⟨by omega, by omega⟩
  clear hmc hms
  have hcs0 := hcs
  generalize ([.ref x0, iV x1, iV x2] : List Value).toArray = args at hts hF ⊢
  generalize hQ : vz_MQ below _ _ _ _ _ _ _ = Q
  unfold w_X3_number at h
  refine lv_aload_n hx hb dX3_number_0 rfl (lv_at hl 0 rfl) ?_
  obtain ⟨fs1, v4, hg2, hv3, h⟩ := h
  refine gPX3_25 hF hK hI hg2 hv3 dX3_number_1 (fun f5 => ?_)
  replace h := h f5
  refine nr_sipush hx hb dX3_number_4 (by decide) ?_
  refine nr_icmp_eq hx hb f5 (by decide) dX3_number_7 (tgt := 16) (by decide) (fun c6 => ?_) (fun c6 => ?_)
  · replace h := h.1 c6
    refine lv_aload_n hx hb dX3_number_16 rfl (lv_at hl 0 rfl) ?_
    obtain ⟨fs7, v10, hg8, hv9, h⟩ := h
    refine gPX3_43 hF hK hI hg8 hv9 dX3_number_17 (fun f11 => ?_)
    replace h := h f11
    refine lv_iload_n hx hb dX3_number_20 rfl (lv_at hl 1 rfl) ?_
    refine nr_icmp_lt hx hb f11 rx1 dX3_number_21 (tgt := 32) (by decide) (fun c12 => ?_) (fun c12 => ?_)
    · replace h := h.1 c12
      refine lv_aload_n hx hb dX3_number_32 rfl (lv_at hl 0 rfl) ?_
      refine nr_iconst hx hb dX3_number_33 ?_
      have hr16 := h.1; replace h := h.2
      obtain ⟨a13, b14, f15, h⟩ := h
      refine p_callVq (As := [iV 2]) (rest := []) hF (t_X3_wrong l hlt D dA ad (bset S a13 b14) _ x0 2 _ (by decide) a13.toNat b14.toNat (bC_bset _ _ _).symm (bL_bset _ _ _).symm h) (by obtain ⟨fs, hg⟩ := hr16; exact s_recvP hK hI hg rfl) (cwV 1 hts (lw_V q486 q488 qs7 q110 q489) rfl rfl rfl (by decide +kernel) ⟨by have h1 := hR.1; have h2 : (rmD 8 a13.toNat b14.toNat).frames = 8 + 1 := rfl; omega, by have h1 := hR.2; have h2 : (rmD 8 a13.toNat b14.toNat).locals = 64 * 8 + 64 := rfl; omega⟩) hK hI hZ hcs f15 rfl hl.1 rfl (Nat.le_of_ble_eq_true rfl) dX3_number_34 (fun r17 S18 S19 H locs cells slots h eS19 hI hcs => ?_)
      replace h := h S19 eS19
      obtain ⟨q21, e22, h⟩ := h
      rw [e22]
      show W p l e R s m args below meth c _ _ _ _ Q (F0 m _ ls [.ref q21])
      refine vz_athrow hx hb dX3_number_37 ?_
      rw [← hQ]; exact x_out hout hlocks hK hI ⟨by have h1 := hcs.1; omega, by have h1 := hcs.2; omega⟩ h.1 h.2
    · replace h := h.2 c12
      refine lv_aload_n hx hb dX3_number_24 rfl (lv_at hl 0 rfl) ?_
      obtain ⟨fs24, v27, hg25, hv26, h⟩ := h
      refine gPX3_43 hF hK hI hg25 hv26 dX3_number_25 (fun f28 => ?_)
      replace h := h f28
      refine lv_iload_n hx hb dX3_number_28 rfl (lv_at hl 2 rfl) ?_
      refine nr_icmp_le hx hb f28 rx2 dX3_number_29 (tgt := 38) (by decide) (fun c29 => ?_) (fun c29 => ?_)
      · replace h := h.1 c29
        refine lv_aload_n hx hb dX3_number_38 rfl (lv_at hl 0 rfl) ?_
        obtain ⟨fs30, v33, hg31, hv32, h⟩ := h
        refine gPX3_43 hF hK hI hg31 hv32 dX3_number_39 (fun f34 => ?_)
        replace h := h f34
        refine lv_istore_n (lv' := [(3, iV v33), (0, .ref x0), (1, iV x1), (2, iV x2)]) hx hb dX3_number_42 rfl hl (by decide) rfl (fun ls hl => ?_)
        refine lv_aload_n hx hb dX3_number_43 rfl (lv_at hl 1 rfl) ?_
        have hr38 := h.1; replace h := h.2
        obtain ⟨a35, b36, f37, h⟩ := h
        refine p_callVv (As := []) (rest := []) hF (t_X3_next l hlt D dA ad (bset S a35 b36) _ x0 _ a35.toNat b36.toNat (bC_bset _ _ _).symm (bL_bset _ _ _).symm h) (by obtain ⟨fs, hg⟩ := hr38; exact s_recvP hK hI hg rfl) (cwV 0 hts (lw_V q417 q419 qs5 q110 q420) rfl rfl rfl (by decide +kernel) ⟨by have h1 := hR.1; have h2 : (rmD 7 a35.toNat b36.toNat).frames = 7 + 1 := rfl; omega, by have h1 := hR.2; have h2 : (rmD 7 a35.toNat b36.toNat).locals = 64 * 7 + 64 := rfl; omega⟩) hK hI hZ hcs f37 rfl hl.1 rfl (Nat.le_of_ble_eq_true rfl) dX3_number_44 (fun S40 S41 H locs cells slots h eS41 hI hcs => ?_)
        replace h := h S41 eS41
        refine lv_iload_n hx hb dX3_number_47 rfl (lv_at hl 0 rfl) ?_
        rw [← hQ]; refine vz_ret ?_; refine W.widen (k := mc) (n := ms) (by have h1 := hcs.1; omega) (by have h1 := hcs.2; omega) ?_; exact s_iret (K := (K none)) hx hb hr hlocks hI f34 h dX3_number_48
      · replace h := h.2 c29
        refine lv_aload_n hx hb dX3_number_32 rfl (lv_at hl 0 rfl) ?_
        refine nr_iconst hx hb dX3_number_33 ?_
        have hr46 := h.1; replace h := h.2
        obtain ⟨a43, b44, f45, h⟩ := h
        refine p_callVq (As := [iV 2]) (rest := []) hF (t_X3_wrong l hlt D dA ad (bset S a43 b44) _ x0 2 _ (by decide) a43.toNat b44.toNat (bC_bset _ _ _).symm (bL_bset _ _ _).symm h) (by obtain ⟨fs, hg⟩ := hr46; exact s_recvP hK hI hg rfl) (cwV 1 hts (lw_V q486 q488 qs7 q110 q489) rfl rfl rfl (by decide +kernel) ⟨by have h1 := hR.1; have h2 : (rmD 8 a43.toNat b44.toNat).frames = 8 + 1 := rfl; omega, by have h1 := hR.2; have h2 : (rmD 8 a43.toNat b44.toNat).locals = 64 * 8 + 64 := rfl; omega⟩) hK hI hZ hcs f45 rfl hl.1 rfl (Nat.le_of_ble_eq_true rfl) dX3_number_34 (fun r47 S48 S49 H locs cells slots h eS49 hI hcs => ?_)
        replace h := h S49 eS49
        obtain ⟨q51, e52, h⟩ := h
        rw [e52]
        show W p l e R s m args below meth c _ _ _ _ Q (F0 m _ ls [.ref q51])
        refine vz_athrow hx hb dX3_number_37 ?_
        rw [← hQ]; exact x_out hout hlocks hK hI ⟨by have h1 := hcs.1; omega, by have h1 := hcs.2; omega⟩ h.1 h.2
  · replace h := h.2 c6
    refine lv_aload_n hx hb dX3_number_10 rfl (lv_at hl 0 rfl) ?_
    refine nr_iconst hx hb dX3_number_11 ?_
    have hr57 := h.1; replace h := h.2
    obtain ⟨a54, b55, f56, h⟩ := h
    refine p_callVq (As := [iV 1]) (rest := []) hF (t_X3_wrong l hlt D dA ad (bset S a54 b55) _ x0 1 _ (by decide) a54.toNat b55.toNat (bC_bset _ _ _).symm (bL_bset _ _ _).symm h) (by obtain ⟨fs, hg⟩ := hr57; exact s_recvP hK hI hg rfl) (cwV 1 hts (lw_V q486 q488 qs7 q110 q489) rfl rfl rfl (by decide +kernel) ⟨by have h1 := hR.1; have h2 : (rmD 8 a54.toNat b55.toNat).frames = 8 + 1 := rfl; omega, by have h1 := hR.2; have h2 : (rmD 8 a54.toNat b55.toNat).locals = 64 * 8 + 64 := rfl; omega⟩) hK hI hZ hcs f56 rfl hl.1 rfl (Nat.le_of_ble_eq_true rfl) dX3_number_12 (fun r58 S59 S60 H locs cells slots h eS60 hI hcs => ?_)
    replace h := h S60 eS60
    obtain ⟨q62, e63, h⟩ := h
    rw [e63]
    show W p l e R s m args below meth c _ _ _ _ Q (F0 m _ ls [.ref q62])
    refine vz_athrow hx hb dX3_number_15 ?_
    rw [← hQ]; exact x_out hout hlocks hK hI ⟨by have h1 := hcs.1; omega, by have h1 := hcs.2; omega⟩ h.1 h.2
theorem gPX3_77 {p : Program} {l : Launch} {e : Env} {R : Room} {s : State} {m : MethodId} {args : Array Value} {below : List Frame} {meth : Method} {c : Code} {H : Heap} {locs : List Loc} {Q : State → Prop} {cc : ByteArray} {nL pc : Nat} {ls : Array Slot} {rest : List Value} {cells slots : Nat} {w : Wd} {D : va_G} {dA : Nat → ClassId} {ad : Nat → Nat} {A : Nat → Prop} {H0 : Heap} {S : St} {q : Nat} {fs : List PV} {v : Int} (hF : CallFix p m c cc nL s args lw_all RX3) (hK : gK D dA s) (hI : sI D dA w ad A H0 S H locs) (hg : gI S q = some (.inr (.inl (3, fs)))) (hv : fs[6]? = some (.inl v)) (hdg : decode cc pc = .ok (.getfield 77, 3)) (kk : InR v → W p l e R s m args below meth c H locs cells slots Q (F0 m (pc + 3) ls (iV v :: rest))) : W p l e R s m args below meth c H locs cells slots Q (F0 m (pc) ls (.ref q :: rest)) := s_pgi hF.1 hF.2.1 hF.2.2.2.2 hF.2.2.2.1 hK hI hg rfl in_X3 6 (by decide) q336 rfl hv hdg kk
theorem uPX3_77 {p : Program} {l : Launch} {e : Env} {R : Room} {s : State} {m : MethodId} {args : Array Value} {below : List Frame} {meth : Method} {c : Code} {H : Heap} {locs : List Loc} {Q : State → Prop} {cc : ByteArray} {nL pc : Nat} {ls : Array Slot} {rest : List Value} {cells slots : Nat} {D : va_G} {dA : Nat → ClassId} {ad : Nat → Nat} {A : Nat → Prop} {H0 : Heap} {S : St} {q : Nat} {fs : List PV} {v : Int} (hF : CallFix p m c cc nL s args lw_all RX3) (hK : gK D dA s) (hI : sI D dA wX ad A H0 S H locs) (hg : gI S q = some (.inr (.inl (3, fs)))) (hlen : fs.length = 8) (hv : InR v) (hdg : decode cc pc = .ok (.putfield 77, 3)) (kk : ∀ (S1 : St) (H1 : Heap) (locs1 : List Loc), S1 = gset S q (.inr (.inl (3, fs.set 6 (.inl v)))) → sI D dA wX ad A H0 S1 H1 locs1 → W p l e R s m args below meth c H1 locs1 cells slots Q (F0 m (pc + 3) ls (rest))) : W p l e R s m args below meth c H locs cells slots Q (F0 m (pc) ls (iV v :: .ref q :: rest)) := s_pput (v := .inl v) hF.1 hF.2.1 tyX3 tyX3_ok nmX3 hF.2.2.2.2 hF.2.2.2.1 hK hI (by decide) hg hlen rfl in_X3 6 (by decide) q336 rfl hv rfl rfl rfl hdg kk
set_option maxHeartbeats 4000000 in
theorem t_X3_opens (l : Launch) (hlt : l.stackTraces = false) (D : va_G) (dA : Nat → ClassId) (ad : Nat → Nat) (S : St) (sz : Nat) (x0 : Nat) (K : Option Nat → St → Prop) (mc ms : Nat) (hmc : mc = bC S) (hms : ms = bL S) (h : w_X3_opens x0 S K) : vz_Met l yX3_opens (ws_ yX3_opens cX3_opens 1 (Option.none : Option Jvm.ClassFile.FieldType)) (rmD 9 mc ms) (va_Pc [.ref x0] (tPre D dA ad S sz)) (va_Qv (fun S' => K none S') (sPost D dA wX ad (wA wX ad S sz)) (wA wX ad S sz)) (vz_X (fun _ : St => True) (xB D dA ad (wA wX ad S sz) (fun q S' => K (some q) S')) (wA wX ad S sz)) mc ms (wA wX ad S sz) := by
  refine vz_ofW (cc := cX3_opens) (maxL := 1) (ret := (Option.none : Option Jvm.ClassFile.FieldType)) (by decide) rfl ?_
  intro p e s m args below meth c s₁ B hml hout hv
  obtain ⟨rfl, ⟨hsz, hK, hC⟩, hZ⟩ := hv
  have hx := B.exec
  have hb := B.bytes
  have hr := B.returns
  have hlocks := B.notSynchronized
  have hts := atoms_spec (ws := (ws_ yX3_opens cX3_opens 1 (Option.none : Option Jvm.ClassFile.FieldType))) B.pre
  have hts : ∀ w ∈ lw_all, w.before _ s = true := fun w h => hts w (List.mem_cons_of_mem _ h)
  have hown : s.vm.findClass RX3 = some m.cls := findClass_of_methodNamed B.named
  clear B
  subst hsz
  have hI : sI D dA wX ad (wA wX ad S s.heap.size) s.heap S s.heap [] := hC.start
  clear hC
  generalize wA wX ad S s.heap.size = A at hI hZ ⊢
  have hl := lv_entry ([.ref x0] : List Value) (n := 1) (Nat.le_of_ble_eq_true rfl)
  rw [lg_entry_eq]
  generalize (lg_sl ([.ref x0] : List Value) ++ List.replicate (1 - (lg_sl ([.ref x0] : List Value)).length) Slot.unset).toArray = ls at hl ⊢
  have hl : lv_has ls 1 [(0, .ref x0)] := hl
  have hF : CallFix p m c cX3_opens 1 s _ lw_all RX3 := ⟨hx, hb, hml, hown, hts⟩
  have hR : (headSpec (ws_ yX3_opens cX3_opens 1 (Option.none : Option Jvm.ClassFile.FieldType)) (rmD 9 mc ms)).room.frames = 9 + 1 ∧ (headSpec (ws_ yX3_opens cX3_opens 1 (Option.none : Option Jvm.ClassFile.FieldType)) (rmD 9 mc ms)).room.locals = 64 * 9 + 64 := ⟨rfl, rfl⟩
  have hRc : (headSpec (ws_ yX3_opens cX3_opens 1 (Option.none : Option Jvm.ClassFile.FieldType)) (rmD 9 mc ms)).room.cells = mc ∧ (headSpec (ws_ yX3_opens cX3_opens 1 (Option.none : Option Jvm.ClassFile.FieldType)) (rmD 9 mc ms)).room.slots = ms := ⟨rfl, rfl⟩
  generalize (headSpec (ws_ yX3_opens cX3_opens 1 (Option.none : Option Jvm.ClassFile.FieldType)) (rmD 9 mc ms)).room = R at hR hRc ⊢
  obtain ⟨hRc, hRs⟩ := hRc
  have hcs : bOK R S 0 0 := ⟨by omega, by omega⟩
  clear hmc hms
  have hcs0 := hcs
  generalize ([.ref x0] : List Value).toArray = args at hts hF ⊢
  generalize hQ : vz_MQ below _ _ _ _ _ _ _ = Q
  unfold w_X3_opens at h
  refine lv_aload_n hx hb dX3_opens_0 rfl (lv_at hl 0 rfl) ?_
  obtain ⟨fs1, v4, hg2, hv3, h⟩ := h
  refine gPX3_77 hF hK hI hg2 hv3 dX3_opens_1 (fun f5 => ?_)
  replace h := h f5
  refine nr_bipush hx hb dX3_opens_4 (by decide) ?_
  refine nr_icmp_ne hx hb f5 (by decide) dX3_opens_6 (tgt := 15) (by decide) (fun c6 => ?_) (fun c6 => ?_)
  · replace h := h.1 c6
    refine lv_aload_n hx hb dX3_opens_15 rfl (lv_at hl 0 rfl) ?_
    refine lv_dup hx hb dX3_opens_16 rfl ?_
    obtain ⟨fs7, v10, hg8, hv9, h⟩ := h
    refine gPX3_77 hF hK hI hg8 hv9 dX3_opens_17 (fun f11 => ?_)
    replace h := h f11
    refine nr_iconst hx hb dX3_opens_20 ?_
    have f12 := h.1; replace h := h.2
    refine nr_iadd hx hb dX3_opens_21 ?_
    obtain ⟨fs13, hg14, hn15, h⟩ := h
    refine uPX3_77 hF hK hI hg14 hn15 f12 dX3_opens_22 (fun S16 H locs eS16 hI => ?_)
    replace h := h S16 eS16
    have hcs := bOK.to (S' := S16) hcs (by rw [eS16]; exact ⟨rfl, rfl⟩)
    refine lv_aload_n hx hb dX3_opens_25 rfl (lv_at hl 0 rfl) ?_
    have hr20 := h.1; replace h := h.2
    obtain ⟨a17, b18, f19, h⟩ := h
    refine p_callVv (As := []) (rest := []) hF (t_X3_next l hlt D dA ad (bset S16 a17 b18) _ x0 _ a17.toNat b18.toNat (bC_bset _ _ _).symm (bL_bset _ _ _).symm h) (by obtain ⟨fs, hg⟩ := hr20; exact s_recvP hK hI hg rfl) (cwV 0 hts (lw_V q417 q419 qs5 q110 q420) rfl rfl rfl (by decide +kernel) ⟨by have h1 := hR.1; have h2 : (rmD 7 a17.toNat b18.toNat).frames = 7 + 1 := rfl; omega, by have h1 := hR.2; have h2 : (rmD 7 a17.toNat b18.toNat).locals = 64 * 7 + 64 := rfl; omega⟩) hK hI hZ hcs f19 rfl hl.1 rfl (Nat.le_of_ble_eq_true rfl) dX3_opens_26 (fun S22 S23 H locs cells slots h eS23 hI hcs => ?_)
    replace h := h S23 eS23
    rw [← hQ]; refine vz_ret ?_; refine W.widen (k := mc) (n := ms) (by have h1 := hcs.1; omega) (by have h1 := hcs.2; omega) ?_; exact s_vret (K := (K none)) hx hb hr hlocks hI h dX3_opens_29
  · replace h := h.2 c6
    refine lv_aload_n hx hb dX3_opens_9 rfl (lv_at hl 0 rfl) ?_
    refine nr_iconst hx hb dX3_opens_10 ?_
    have hr28 := h.1; replace h := h.2
    obtain ⟨a25, b26, f27, h⟩ := h
    refine p_callVq (As := [iV 3]) (rest := []) hF (t_X3_wrong l hlt D dA ad (bset S a25 b26) _ x0 3 _ (by decide) a25.toNat b26.toNat (bC_bset _ _ _).symm (bL_bset _ _ _).symm h) (by obtain ⟨fs, hg⟩ := hr28; exact s_recvP hK hI hg rfl) (cwV 1 hts (lw_V q486 q488 qs7 q110 q489) rfl rfl rfl (by decide +kernel) ⟨by have h1 := hR.1; have h2 : (rmD 8 a25.toNat b26.toNat).frames = 8 + 1 := rfl; omega, by have h1 := hR.2; have h2 : (rmD 8 a25.toNat b26.toNat).locals = 64 * 8 + 64 := rfl; omega⟩) hK hI hZ hcs f27 rfl hl.1 rfl (Nat.le_of_ble_eq_true rfl) dX3_opens_11 (fun r29 S30 S31 H locs cells slots h eS31 hI hcs => ?_)
    replace h := h S31 eS31
    obtain ⟨q33, e34, h⟩ := h
    rw [e34]
    show W p l e R s m args below meth c _ _ _ _ Q (F0 m _ ls [.ref q33])
    refine vz_athrow hx hb dX3_opens_14 ?_
    rw [← hQ]; exact x_out hout hlocks hK hI ⟨by have h1 := hcs.1; omega, by have h1 := hcs.2; omega⟩ h.1 h.2
