set_option maxRecDepth 100000
theorem gPX3_132 {p : Program} {l : Launch} {e : Env} {R : Room} {s : State} {m : MethodId} {args : Array Value} {below : List Frame} {meth : Method} {c : Code} {H : Heap} {locs : List Loc} {Q : State → Prop} {cc : ByteArray} {nL pc : Nat} {ls : Array Slot} {rest : List Value} {cells slots : Nat} {w : Wd} {D : va_G} {dA : Nat → ClassId} {ad : Nat → Nat} {A : Nat → Prop} {H0 : Heap} {S : St} {q : Nat} {fs : List PV} {v : Option Nat} (hF : CallFix p m c cc nL s args lw_all RX3) (hK : gK D dA s) (hI : sI D dA w ad A H0 S H locs) (hg : gI S q = some (.inr (.inl (4, fs)))) (hv : fs[3]? = some (.inr (.inr v))) (hdg : decode cc pc = .ok (.getfield 132, 3)) (kk : W p l e R s m args below meth c H locs cells slots Q (F0 m (pc + 3) ls (va_rf v :: rest))) : W p l e R s m args below meth c H locs cells slots Q (F0 m (pc) ls (.ref q :: rest)) := s_pgrN hF.1 hF.2.1 hF.2.2.2.2 hF.2.2.2.1 hK hI hg rfl in_X4 3 (by decide) (nFl_17 hK.2) rfl hv hdg kk
set_option maxHeartbeats 4000000 in
theorem t_X3_kind (l : Launch) (hlt : l.stackTraces = false) (D : va_G) (dA : Nat → ClassId) (ad : Nat → Nat) (S : St) (sz : Nat) (x0 : Nat) (x1 : Nat) (K : Option Nat → St → Prop) (mc ms : Nat) (hmc : mc = bC S) (hms : ms = bL S) (h : w_X3_kind x0 x1 S K) : vz_Met l yX3_kind (ws_ yX3_kind cX3_kind 3 (Option.none : Option Jvm.ClassFile.FieldType)) (rmD 10 mc ms) (va_Pc [.ref x0, .ref x1] (tPre D dA ad S sz)) (va_Qv (fun S' => K none S') (sPost D dA wX ad (wA wX ad S sz)) (wA wX ad S sz)) (vz_X (fun _ : St => True) (xB D dA ad (wA wX ad S sz) (fun q S' => K (some q) S')) (wA wX ad S sz)) mc ms (wA wX ad S sz) := by
  refine vz_ofW (cc := cX3_kind) (maxL := 3) (ret := (Option.none : Option Jvm.ClassFile.FieldType)) (by decide) rfl ?_
  intro p e s m args below meth c s₁ B hml hout hv
  obtain ⟨rfl, ⟨hsz, hK, hC⟩, hZ⟩ := hv
  have hx := B.exec
  have hb := B.bytes
  have hr := B.returns
  have hlocks := B.notSynchronized
  have hts := atoms_spec (ws := (ws_ yX3_kind cX3_kind 3 (Option.none : Option Jvm.ClassFile.FieldType))) B.pre
  have hts : ∀ w ∈ lw_all, w.before _ s = true := fun w h => hts w (List.mem_cons_of_mem _ h)
  have hown : s.vm.findClass RX3 = some m.cls := findClass_of_methodNamed B.named
  clear B
  subst hsz
  have hI : sI D dA wX ad (wA wX ad S s.heap.size) s.heap S s.heap [] := hC.start
  clear hC
  generalize wA wX ad S s.heap.size = A at hI hZ ⊢
  have hl := lv_entry ([.ref x0, .ref x1] : List Value) (n := 3) (Nat.le_of_ble_eq_true rfl)
  rw [lg_entry_eq]
  generalize (lg_sl ([.ref x0, .ref x1] : List Value) ++ List.replicate (3 - (lg_sl ([.ref x0, .ref x1] : List Value)).length) Slot.unset).toArray = ls at hl ⊢
  have hl : lv_has ls 3 [(0, .ref x0), (1, .ref x1)] := hl
  have hF : CallFix p m c cX3_kind 3 s _ lw_all RX3 := ⟨hx, hb, hml, hown, hts⟩
  have hR : (headSpec (ws_ yX3_kind cX3_kind 3 (Option.none : Option Jvm.ClassFile.FieldType)) (rmD 10 mc ms)).room.frames = 10 + 1 ∧ (headSpec (ws_ yX3_kind cX3_kind 3 (Option.none : Option Jvm.ClassFile.FieldType)) (rmD 10 mc ms)).room.locals = 64 * 10 + 64 := ⟨rfl, rfl⟩
  have hRc : (headSpec (ws_ yX3_kind cX3_kind 3 (Option.none : Option Jvm.ClassFile.FieldType)) (rmD 10 mc ms)).room.cells = mc ∧ (headSpec (ws_ yX3_kind cX3_kind 3 (Option.none : Option Jvm.ClassFile.FieldType)) (rmD 10 mc ms)).room.slots = ms := ⟨rfl, rfl⟩
  generalize (headSpec (ws_ yX3_kind cX3_kind 3 (Option.none : Option Jvm.ClassFile.FieldType)) (rmD 10 mc ms)).room = R at hR hRc ⊢
  obtain ⟨hRc, hRs⟩ := hRc
  have hcs : bOK R S 0 0 := ⟨by omega, by omega⟩
  clear hmc hms
  have hcs0 := hcs
  generalize ([.ref x0, .ref x1] : List Value).toArray = args at hts hF ⊢
  generalize hQ : vz_MQ below _ _ _ _ _ _ _ = Q
  have J37 : ∀ (x0 : Nat) (x1 : Nat) (S : St) (H : Heap) (locs : List Loc) (ls : Array Slot) (cells slots : Nat), (sI D dA wX ad A s.heap S H locs ∧ bOK R S cells slots) → lv_has ls 3 [(0, .ref x0), (1, .ref x1)] → j_X3_kind_37 x0 x1 S K → W p l e R s m args below meth c H locs cells slots Q (F0 m 37 ls []) := by
    intro x0 x1 S H locs ls cells slots hI hl h
    obtain ⟨hI, hcs⟩ := hI
    unfold j_X3_kind_37 at h
    refine lv_aload_n hx hb dX3_kind_37 rfl (lv_at hl 0 rfl) ?_
    refine nr_iconst hx hb dX3_kind_38 ?_
    refine nr_bipush hx hb dX3_kind_39 (by decide) ?_
    have hr4 := h.1; replace h := h.2
    obtain ⟨a1, b2, f3, h⟩ := h
    refine x_callVi (As := [iV 0, iV 19]) (rest := []) hF (t_X3_number l hlt D dA ad (bset S a1 b2) _ x0 0 19 _ (by decide) (by decide) a1.toNat b2.toNat (bC_bset _ _ _).symm (bL_bset _ _ _).symm h) (by obtain ⟨fs, hg⟩ := hr4; exact s_recvP hK hI hg rfl) (cwV 2 hts (lw_V q574 q576 qs13 q110 q577) rfl rfl rfl (by decide +kernel) ⟨by have h1 := hR.1; have h2 : (rmD 9 a1.toNat b2.toNat).frames = 9 + 1 := rfl; omega, by have h1 := hR.2; have h2 : (rmD 9 a1.toNat b2.toNat).locals = 64 * 9 + 64 := rfl; omega⟩) hK hI hZ hcs f3 rfl hl.1 rfl (Nat.le_of_ble_eq_true rfl) dX3_kind_41 (fun q S6 S7 H locs cells slots h eS7 hg hI hcs => ?_) (fun r5 S6 S7 H locs cells slots fr5 h eS7 hI hcs => ?_)
    · replace h := (h S7 eS7).1 q rfl
      rw [← hQ]; exact x_out hout hlocks hK hI ⟨by have h1 := hcs.1; omega, by have h1 := hcs.2; omega⟩ hg h
    replace h := (h S7 eS7).2 rfl
    replace h := h fr5
    refine lv_istore_n (lv' := [(2, iV r5), (0, .ref x0), (1, .ref x1)]) hx hb dX3_kind_44 rfl hl (by decide) rfl (fun ls hl => ?_)
    refine lv_aload_n hx hb dX3_kind_45 rfl (lv_at hl 1 rfl) ?_
    refine nr_sipush hx hb dX3_kind_46 (by decide) ?_
    have hr12 := h.1; replace h := h.2
    obtain ⟨a9, b10, f11, h⟩ := h
    refine x_callVv (As := [iV 209]) (rest := []) hF (t_X3_want l hlt D dA ad (bset S7 a9 b10) _ x0 209 _ (by decide) a9.toNat b10.toNat (bC_bset _ _ _).symm (bL_bset _ _ _).symm h) (by obtain ⟨fs, hg⟩ := hr12; exact s_recvP hK hI hg rfl) (cwV 1 hts (lw_V q603 q605 qs15 q110 q606) rfl rfl rfl (by decide +kernel) ⟨by have h1 := hR.1; have h2 : (rmD 9 a9.toNat b10.toNat).frames = 9 + 1 := rfl; omega, by have h1 := hR.2; have h2 : (rmD 9 a9.toNat b10.toNat).locals = 64 * 9 + 64 := rfl; omega⟩) hK hI hZ hcs f11 rfl hl.1 rfl (Nat.le_of_ble_eq_true rfl) dX3_kind_49 (fun q S14 S15 H locs cells slots h eS15 hg hI hcs => ?_) (fun S14 S15 H locs cells slots h eS15 hI hcs => ?_)
    · replace h := (h S15 eS15).1 q rfl
      rw [← hQ]; exact x_out hout hlocks hK hI ⟨by have h1 := hcs.1; omega, by have h1 := hcs.2; omega⟩ hg h
    replace h := (h S15 eS15).2 rfl
    refine lv_aload_n hx hb dX3_kind_52 rfl (lv_at hl 2 rfl) ?_
    obtain ⟨fs17, v20, hg18, hv19, h⟩ := h
    refine gPX3_132 (v := some v20) hF hK hI hg18 hv19 dX3_kind_53 ?_
    show W p l e R s m args below meth c _ _ _ _ Q (F0 m _ ls [.ref v20])
    refine lv_iload_n hx hb dX3_kind_56 rfl (lv_at hl 0 rfl) ?_
    refine lv_aload_n hx hb dX3_kind_57 rfl (lv_at hl 1 rfl) ?_
    refine nr_iconst hx hb dX3_kind_58 ?_
    refine nr_bipush hx hb dX3_kind_59 (by decide) ?_
    have hr24 := h.1; replace h := h.2
    obtain ⟨a21, b22, f23, h⟩ := h
    refine x_callVi (As := [iV 1, iV 9]) (rest := [iV r5, .ref v20]) hF (t_X3_number l hlt D dA ad (bset S15 a21 b22) _ x0 1 9 _ (by decide) (by decide) a21.toNat b22.toNat (bC_bset _ _ _).symm (bL_bset _ _ _).symm h) (by obtain ⟨fs, hg⟩ := hr24; exact s_recvP hK hI hg rfl) (cwV 2 hts (lw_V q574 q576 qs13 q110 q577) rfl rfl rfl (by decide +kernel) ⟨by have h1 := hR.1; have h2 : (rmD 9 a21.toNat b22.toNat).frames = 9 + 1 := rfl; omega, by have h1 := hR.2; have h2 : (rmD 9 a21.toNat b22.toNat).locals = 64 * 9 + 64 := rfl; omega⟩) hK hI hZ hcs f23 rfl hl.1 rfl (Nat.le_of_ble_eq_true rfl) dX3_kind_61 (fun q S26 S27 H locs cells slots h eS27 hg hI hcs => ?_) (fun r25 S26 S27 H locs cells slots fr25 h eS27 hI hcs => ?_)
    · replace h := (h S27 eS27).1 q rfl
      rw [← hQ]; exact x_out hout hlocks hK hI ⟨by have h1 := hcs.1; omega, by have h1 := hcs.2; omega⟩ hg h
    replace h := (h S27 eS27).2 rfl
    replace h := h fr25
    obtain ⟨pn29, pf30, hp31, h⟩ := h
    have f32 := h.1; replace h := h.2
    refine s_past hx hb hK hI hp31 fr5 f32 fr25 dX3_kind_64 (fun S33 H locs eS33 hI => ?_)
    replace h := h S33 eS33
    have hcs := bOK.to (S' := S33) hcs (by rw [eS33]; exact ⟨rfl, rfl⟩)
    rw [← hQ]; refine vz_ret ?_; refine W.widen (k := mc) (n := ms) (by have h1 := hcs.1; omega) (by have h1 := hcs.2; omega) ?_; exact s_vret (K := (K none)) hx hb hr hlocks hI h dX3_kind_65
  unfold w_X3_kind at h
  refine lv_aload_n hx hb dX3_kind_0 rfl (lv_at hl 0 rfl) ?_
  obtain ⟨fs34, v37, hg35, hv36, h⟩ := h
  refine gPX3_25 hF hK hI hg35 hv36 dX3_kind_1 (fun f38 => ?_)
  replace h := h f38
  refine nr_sipush hx hb dX3_kind_4 (by decide) ?_
  refine nr_icmp_ne hx hb f38 (by decide) dX3_kind_7 (tgt := 37) (by decide) (fun c39 => ?_) (fun c39 => ?_)
  · replace h := h.1 c39
    exact J37 x0 x1 S _ _ _ _ _ ⟨hI, hcs⟩ (lv_sub hl [0, 1] rfl) h
  · replace h := h.2 c39
    refine lv_aload_n hx hb dX3_kind_10 rfl (lv_at hl 0 rfl) ?_
    obtain ⟨fs40, v43, hg41, hv42, h⟩ := h
    refine gPX3_43 hF hK hI hg41 hv42 dX3_kind_11 (fun f44 => ?_)
    replace h := h f44
    refine nr_bipush hx hb dX3_kind_14 (by decide) ?_
    refine nr_icmp_ge hx hb f44 (by decide) dX3_kind_16 (tgt := 37) (by decide) (fun c45 => ?_) (fun c45 => ?_)
    · replace h := h.1 c45
      exact J37 x0 x1 S _ _ _ _ _ ⟨hI, hcs⟩ (lv_sub hl [0, 1] rfl) h
    · replace h := h.2 c45
      refine lv_aload_n hx hb dX3_kind_19 rfl (lv_at hl 1 rfl) ?_
      obtain ⟨fs46, v49, hg47, hv48, h⟩ := h
      refine gPX3_132 (v := some v49) hF hK hI hg47 hv48 dX3_kind_20 ?_
      show W p l e R s m args below meth c _ _ _ _ Q (F0 m _ ls [.ref v49])
      refine lv_aload_n hx hb dX3_kind_23 rfl (lv_at hl 0 rfl) ?_
      obtain ⟨fs50, v53, hg51, hv52, h⟩ := h
      refine gPX3_43 hF hK hI hg51 hv52 dX3_kind_24 (fun f54 => ?_)
      replace h := h f54
      obtain ⟨pn55, pf56, hp57, h⟩ := h
      have f58 := h.1; replace h := h.2
      refine s_pald hx hb hK hI hp57 f54 f58 dX3_kind_27 (fun f59 => ?_)
      replace h := h f59
      refine nr_if_le hx hb f59 dX3_kind_28 (tgt := 37) (by decide) (fun c60 => ?_) (fun c60 => ?_)
      · replace h := h.1 c60
        exact J37 x0 x1 S _ _ _ _ _ ⟨hI, hcs⟩ (lv_sub hl [0, 1] rfl) h
      · replace h := h.2 c60
        refine lv_aload_n hx hb dX3_kind_31 rfl (lv_at hl 0 rfl) ?_
        refine nr_iconst hx hb dX3_kind_32 ?_
        have hr64 := h.1; replace h := h.2
        obtain ⟨a61, b62, f63, h⟩ := h
        refine p_callVq (As := [iV 4]) (rest := []) hF (t_X3_wrong l hlt D dA ad (bset S a61 b62) _ x0 4 _ (by decide) a61.toNat b62.toNat (bC_bset _ _ _).symm (bL_bset _ _ _).symm h) (by obtain ⟨fs, hg⟩ := hr64; exact s_recvP hK hI hg rfl) (cwV 1 hts (lw_V q486 q488 qs7 q110 q489) rfl rfl rfl (by decide +kernel) ⟨by have h1 := hR.1; have h2 : (rmD 8 a61.toNat b62.toNat).frames = 8 + 1 := rfl; omega, by have h1 := hR.2; have h2 : (rmD 8 a61.toNat b62.toNat).locals = 64 * 8 + 64 := rfl; omega⟩) hK hI hZ hcs f63 rfl hl.1 rfl (Nat.le_of_ble_eq_true rfl) dX3_kind_33 (fun r65 S66 S67 H locs cells slots h eS67 hI hcs => ?_)
        replace h := h S67 eS67
        obtain ⟨q69, e70, h⟩ := h
        rw [e70]
        show W p l e R s m args below meth c _ _ _ _ Q (F0 m _ ls [.ref q69])
        refine vz_athrow hx hb dX3_kind_36 ?_
        rw [← hQ]; exact x_out hout hlocks hK hI ⟨by have h1 := hcs.1; omega, by have h1 := hcs.2; omega⟩ h.1 h.2
set_option maxHeartbeats 4000000 in
theorem t_X3_doing (l : Launch) (hlt : l.stackTraces = false) (D : va_G) (dA : Nat → ClassId) (ad : Nat → Nat) (S : St) (sz : Nat) (x0 : Nat) (x1 : Int) (K : Option Nat → Option Nat → St → Prop) (rx1 : InR x1) (mc ms : Nat) (hmc : mc = bC S) (hms : ms = bL S) (h : w_X3_doing x0 x1 S K) : vz_Met l yX3_doing (ws_ yX3_doing cX3_doing 4 (Option.some (Jvm.ClassFile.FieldType.object "NineGraves$Doing"))) (rmD 10 mc ms) (va_Pc [.ref x0, iV x1] (tPre D dA ad S sz)) (va_Qq (fun r S' => K none r S') (sPost D dA wX ad (wA wX ad S sz)) (wA wX ad S sz)) (vz_X (fun _ : St => True) (xB D dA ad (wA wX ad S sz) (fun q S' => K (some q) none S')) (wA wX ad S sz)) mc ms (wA wX ad S sz) := by
  refine vz_ofW (cc := cX3_doing) (maxL := 4) (ret := (Option.some (Jvm.ClassFile.FieldType.object "NineGraves$Doing"))) (by decide) rfl ?_
  intro p e s m args below meth c s₁ B hml hout hv
  obtain ⟨rfl, ⟨hsz, hK, hC⟩, hZ⟩ := hv
  have hx := B.exec
  have hb := B.bytes
  have hr := B.returns
  have hlocks := B.notSynchronized
  have hts := atoms_spec (ws := (ws_ yX3_doing cX3_doing 4 (Option.some (Jvm.ClassFile.FieldType.object "NineGraves$Doing")))) B.pre
  have hts : ∀ w ∈ lw_all, w.before _ s = true := fun w h => hts w (List.mem_cons_of_mem _ h)
  have hown : s.vm.findClass RX3 = some m.cls := findClass_of_methodNamed B.named
  clear B
  subst hsz
  have hI : sI D dA wX ad (wA wX ad S s.heap.size) s.heap S s.heap [] := hC.start
  clear hC
  generalize wA wX ad S s.heap.size = A at hI hZ ⊢
  have hl := lv_entry ([.ref x0, iV x1] : List Value) (n := 4) (Nat.le_of_ble_eq_true rfl)
  rw [lg_entry_eq]
  generalize (lg_sl ([.ref x0, iV x1] : List Value) ++ List.replicate (4 - (lg_sl ([.ref x0, iV x1] : List Value)).length) Slot.unset).toArray = ls at hl ⊢
  have hl : lv_has ls 4 [(0, .ref x0), (1, iV x1)] := hl
  have hF : CallFix p m c cX3_doing 4 s _ lw_all RX3 := ⟨hx, hb, hml, hown, hts⟩
  have hR : (headSpec (ws_ yX3_doing cX3_doing 4 (Option.some (Jvm.ClassFile.FieldType.object "NineGraves$Doing"))) (rmD 10 mc ms)).room.frames = 10 + 1 ∧ (headSpec (ws_ yX3_doing cX3_doing 4 (Option.some (Jvm.ClassFile.FieldType.object "NineGraves$Doing"))) (rmD 10 mc ms)).room.locals = 64 * 10 + 64 := ⟨rfl, rfl⟩
  have hRc : (headSpec (ws_ yX3_doing cX3_doing 4 (Option.some (Jvm.ClassFile.FieldType.object "NineGraves$Doing"))) (rmD 10 mc ms)).room.cells = mc ∧ (headSpec (ws_ yX3_doing cX3_doing 4 (Option.some (Jvm.ClassFile.FieldType.object "NineGraves$Doing"))) (rmD 10 mc ms)).room.slots = ms := ⟨rfl, rfl⟩
  generalize (headSpec (ws_ yX3_doing cX3_doing 4 (Option.some (Jvm.ClassFile.FieldType.object "NineGraves$Doing"))) (rmD 10 mc ms)).room = R at hR hRc ⊢
  obtain ⟨hRc, hRs⟩ := hRc
  have hcs : bOK R S 0 0 := ⟨by omega, by omega⟩
  clear hmc hms
  have hcs0 := hcs
  generalize ([.ref x0, iV x1] : List Value).toArray = args at hts hF ⊢
  generalize hQ : vz_MQ below _ _ _ _ _ _ _ = Q
  have J116 : ∀ (x0 : Nat) (x1 : Int) (x2 : Int) (y0 : Nat) (y1 : Int) (y2 : Int) (S : St) (H : Heap) (locs : List Loc) (ls : Array Slot) (cells slots : Nat), InR x1 → InR x2 → InR y1 → InR y2 → (sI D dA wX ad A s.heap S H locs ∧ bOK R S cells slots) → lv_has ls 4 [(0, .ref x0), (1, iV x1), (2, iV x2)] → j_X3_doing_116 x0 x1 x2 y0 y1 y2 S K → W p l e R s m args below meth c H locs cells slots Q (F0 m 116 ls [iV y2, iV y1, .ref y0]) := by
    intro x0 x1 x2 y0 y1 y2 S H locs ls cells slots rx1 rx2 ry1 ry2 hI hl h
    obtain ⟨hI, hcs⟩ := hI
    unfold j_X3_doing_116 at h
    have hr4 := h.1; replace h := h.2
    obtain ⟨a1, b2, f3, h⟩ := h
    refine x_callVi (As := [iV y1, iV y2]) (rest := []) hF (t_X3_number l hlt D dA ad (bset S a1 b2) _ y0 y1 y2 _ ry1 ry2 a1.toNat b2.toNat (bC_bset _ _ _).symm (bL_bset _ _ _).symm h) (by obtain ⟨fs, hg⟩ := hr4; exact s_recvP hK hI hg rfl) (cwV 2 hts (lw_V q574 q576 qs13 q110 q577) rfl rfl rfl (by decide +kernel) ⟨by have h1 := hR.1; have h2 : (rmD 9 a1.toNat b2.toNat).frames = 9 + 1 := rfl; omega, by have h1 := hR.2; have h2 : (rmD 9 a1.toNat b2.toNat).locals = 64 * 9 + 64 := rfl; omega⟩) hK hI hZ hcs f3 rfl hl.1 rfl (Nat.le_of_ble_eq_true rfl) dX3_doing_116 (fun q S6 S7 H locs cells slots h eS7 hg hI hcs => ?_) (fun r5 S6 S7 H locs cells slots fr5 h eS7 hI hcs => ?_)
    · replace h := (h S7 eS7).1 q rfl
      rw [← hQ]; exact x_out hout hlocks hK hI ⟨by have h1 := hcs.1; omega, by have h1 := hcs.2; omega⟩ hg h
    replace h := (h S7 eS7).2 rfl
    replace h := h fr5
    refine lv_istore_n (lv' := [(3, iV r5), (0, .ref x0), (1, iV x1), (2, iV x2)]) hx hb dX3_doing_119 rfl hl (by decide) rfl (fun ls hl => ?_)
    refine lv_aload_n hx hb dX3_doing_120 rfl (lv_at hl 1 rfl) ?_
    obtain ⟨fs9, v12, hg10, hv11, h⟩ := h
    refine gPX3_83 hF hK hI hg10 hv11 dX3_doing_121 (fun f13 => ?_)
    replace h := h f13
    refine nr_sipush hx hb dX3_doing_124 (by decide) ?_
    refine nr_icmp_eq hx hb f13 (by decide) dX3_doing_127 (tgt := 146) (by decide) (fun c14 => ?_) (fun c14 => ?_)
    · replace h := h.1 c14
      refine lv_aload_n hx hb dX3_doing_146 rfl (lv_at hl 1 rfl) ?_
      refine nr_sipush hx hb dX3_doing_147 (by decide) ?_
      have hr18 := h.1; replace h := h.2
      obtain ⟨a15, b16, f17, h⟩ := h
      refine x_callVv (As := [iV 211]) (rest := []) hF (t_X3_want l hlt D dA ad (bset S7 a15 b16) _ x0 211 _ (by decide) a15.toNat b16.toNat (bC_bset _ _ _).symm (bL_bset _ _ _).symm h) (by obtain ⟨fs, hg⟩ := hr18; exact s_recvP hK hI hg rfl) (cwV 1 hts (lw_V q603 q605 qs15 q110 q606) rfl rfl rfl (by decide +kernel) ⟨by have h1 := hR.1; have h2 : (rmD 9 a15.toNat b16.toNat).frames = 9 + 1 := rfl; omega, by have h1 := hR.2; have h2 : (rmD 9 a15.toNat b16.toNat).locals = 64 * 9 + 64 := rfl; omega⟩) hK hI hZ hcs f17 rfl hl.1 rfl (Nat.le_of_ble_eq_true rfl) dX3_doing_150 (fun q S20 S21 H locs cells slots h eS21 hg hI hcs => ?_) (fun S20 S21 H locs cells slots h eS21 hI hcs => ?_)
      · replace h := (h S21 eS21).1 q rfl
        rw [← hQ]; exact x_out hout hlocks hK hI ⟨by have h1 := hcs.1; omega, by have h1 := hcs.2; omega⟩ hg h
      replace h := (h S21 eS21).2 rfl
      have f25 := h.1; replace h := h.2
      refine t_new (C := RX13) (T := TX13) (ci := 13) hx hb tyX13 tyX13_ok hts hown hK hI hcs rfl in_X13 q803 q804 q137 ([.inl 0, .inl 0, .inl 0, .inl 0, .inl 0] : List PV) (by intro j hj; have hj2 : j = 0 ∨ j = 1 ∨ j = 2 ∨ j = 3 ∨ j = 4 := (by omega); rcases hj2 with rfl | rfl | rfl | rfl | rfl <;> rfl) (by intro v hv; simp only [List.mem_cons, List.not_mem_nil, or_false] at hv; rcases hv with rfl | rfl | rfl | rfl | rfl <;> first | exact ni_r0 | exact trivial) f25 dX3_doing_153 (fun q23 S24 H cells slots hqq23 eS24 _ hI hcs => ?_)
      replace h := h q23 S24 hqq23 eS24
      refine lv_dup hx hb dX3_doing_156 rfl ?_
      refine lv_aload_n hx hb dX3_doing_157 rfl (lv_at hl 1 rfl) ?_
      obtain ⟨fs26, v29, hg27, hv28, h⟩ := h
      refine gPX3_83 hF hK hI hg27 hv28 dX3_doing_158 (fun f30 => ?_)
      replace h := h f30
      refine lv_iload_n hx hb dX3_doing_161 rfl (lv_at hl 3 rfl) ?_
      refine lv_iload_n hx hb dX3_doing_162 rfl (lv_at hl 0 rfl) ?_
      refine lv_aload_n hx hb dX3_doing_163 rfl (lv_at hl 1 rfl) ?_
      refine nr_iconst hx hb dX3_doing_164 ?_
      refine nr_bipush hx hb dX3_doing_165 (by decide) ?_
      have hr34 := h.1; replace h := h.2
      obtain ⟨a31, b32, f33, h⟩ := h
      refine x_callVi (As := [iV 1, iV 99]) (rest := [iV r5, iV x2, iV v29, .ref q23, .ref q23]) hF (t_X3_number l hlt D dA ad (bset S24 a31 b32) _ x0 1 99 _ (by decide) (by decide) a31.toNat b32.toNat (bC_bset _ _ _).symm (bL_bset _ _ _).symm h) (by obtain ⟨fs, hg⟩ := hr34; exact s_recvP hK hI hg rfl) (cwV 2 hts (lw_V q574 q576 qs13 q110 q577) rfl rfl rfl (by decide +kernel) ⟨by have h1 := hR.1; have h2 : (rmD 9 a31.toNat b32.toNat).frames = 9 + 1 := rfl; omega, by have h1 := hR.2; have h2 : (rmD 9 a31.toNat b32.toNat).locals = 64 * 9 + 64 := rfl; omega⟩) hK hI hZ hcs f33 rfl hl.1 rfl (Nat.le_of_ble_eq_true rfl) dX3_doing_167 (fun q S36 S37 H locs cells slots h eS37 hg hI hcs => ?_) (fun r35 S36 S37 H locs cells slots fr35 h eS37 hI hcs => ?_)
      · replace h := (h S37 eS37).1 q rfl
        rw [← hQ]; exact x_out hout hlocks hK hI ⟨by have h1 := hcs.1; omega, by have h1 := hcs.2; omega⟩ hg h
      replace h := (h S37 eS37).2 rfl
      replace h := h fr35
      refine lv_iload_n hx hb dX3_doing_170 rfl (lv_at hl 2 rfl) ?_
      obtain ⟨a39, b40, f41, h⟩ := h
      refine p_callINv (As := [iV v29, iV x2, iV r5, iV r35, iV x1]) (rest := [.ref q23]) hF (t_X13_init l hlt D dA ad (bset S37 a39 b40) _ q23 v29 x2 r5 r35 x1 _ f30 rx2 fr5 fr35 rx1 a39.toNat b40.toNat (bC_bset _ _ _).symm (bL_bset _ _ _).symm h) ⟨va_cnB 5 hts (lw_meth q807) rfl rfl rfl (nMl_8 hK.2) (hts _ q137) (by decide +kernel) ⟨by have h1 := hR.1; have h2 : (rmD 2 a39.toNat b40.toNat).frames = 2 + 1 := rfl; omega, by have h1 := hR.2; have h2 : (rmD 2 a39.toNat b40.toNat).locals = 64 * 2 + 64 := rfl; omega⟩, rfl, hts _ q806⟩ hK hI hZ hcs f41 rfl hl.1 rfl (Nat.le_of_ble_eq_true rfl) dX3_doing_171 (fun S43 S44 H locs cells slots h eS44 hI hcs => ?_)
      replace h := h S44 eS44
      rw [← hQ]; refine vz_ret ?_; refine W.widen (k := mc) (n := ms) (by have h1 := hcs.1; omega) (by have h1 := hcs.2; omega) ?_; exact s_qret (v := (some q23)) (K := (K none)) hx hb hr (Or.inl ⟨_, rfl⟩) hlocks hI h dX3_doing_174
    · replace h := h.2 c14
      have f48 := h.1; replace h := h.2
      refine t_new (C := RX13) (T := TX13) (ci := 13) hx hb tyX13 tyX13_ok hts hown hK hI hcs rfl in_X13 q803 q804 q137 ([.inl 0, .inl 0, .inl 0, .inl 0, .inl 0] : List PV) (by intro j hj; have hj2 : j = 0 ∨ j = 1 ∨ j = 2 ∨ j = 3 ∨ j = 4 := (by omega); rcases hj2 with rfl | rfl | rfl | rfl | rfl <;> rfl) (by intro v hv; simp only [List.mem_cons, List.not_mem_nil, or_false] at hv; rcases hv with rfl | rfl | rfl | rfl | rfl <;> first | exact ni_r0 | exact trivial) f48 dX3_doing_130 (fun q46 S47 H cells slots hqq46 eS47 _ hI hcs => ?_)
      replace h := h q46 S47 hqq46 eS47
      refine lv_dup hx hb dX3_doing_133 rfl ?_
      refine lv_aload_n hx hb dX3_doing_134 rfl (lv_at hl 1 rfl) ?_
      obtain ⟨fs49, v52, hg50, hv51, h⟩ := h
      refine gPX3_83 hF hK hI hg50 hv51 dX3_doing_135 (fun f53 => ?_)
      replace h := h f53
      refine lv_iload_n hx hb dX3_doing_138 rfl (lv_at hl 3 rfl) ?_
      refine lv_iload_n hx hb dX3_doing_139 rfl (lv_at hl 0 rfl) ?_
      refine nr_iconst hx hb dX3_doing_140 ?_
      refine lv_iload_n hx hb dX3_doing_141 rfl (lv_at hl 2 rfl) ?_
      obtain ⟨a54, b55, f56, h⟩ := h
      refine p_callINv (As := [iV v52, iV x2, iV r5, iV (-1), iV x1]) (rest := [.ref q46]) hF (t_X13_init l hlt D dA ad (bset S47 a54 b55) _ q46 v52 x2 r5 (-1) x1 _ f53 rx2 fr5 (by decide) rx1 a54.toNat b55.toNat (bC_bset _ _ _).symm (bL_bset _ _ _).symm h) ⟨va_cnB 5 hts (lw_meth q807) rfl rfl rfl (nMl_8 hK.2) (hts _ q137) (by decide +kernel) ⟨by have h1 := hR.1; have h2 : (rmD 2 a54.toNat b55.toNat).frames = 2 + 1 := rfl; omega, by have h1 := hR.2; have h2 : (rmD 2 a54.toNat b55.toNat).locals = 64 * 2 + 64 := rfl; omega⟩, rfl, hts _ q806⟩ hK hI hZ hcs f56 rfl hl.1 rfl (Nat.le_of_ble_eq_true rfl) dX3_doing_142 (fun S58 S59 H locs cells slots h eS59 hI hcs => ?_)
      replace h := h S59 eS59
      rw [← hQ]; refine vz_ret ?_; refine W.widen (k := mc) (n := ms) (by have h1 := hcs.1; omega) (by have h1 := hcs.2; omega) ?_; exact s_qret (v := (some q46)) (K := (K none)) hx hb hr (Or.inl ⟨_, rfl⟩) hlocks hI h dX3_doing_145
  have J94 : ∀ (x0 : Nat) (x1 : Int) (x2 : Int) (y0 : Nat) (y1 : Int) (S : St) (H : Heap) (locs : List Loc) (ls : Array Slot) (cells slots : Nat), InR x1 → InR x2 → InR y1 → (sI D dA wX ad A s.heap S H locs ∧ bOK R S cells slots) → lv_has ls 4 [(0, .ref x0), (1, iV x1), (2, iV x2)] → j_X3_doing_94 x0 x1 x2 y0 y1 S K → W p l e R s m args below meth c H locs cells slots Q (F0 m 94 ls [iV y1, .ref y0]) := by
    intro x0 x1 x2 y0 y1 S H locs ls cells slots rx1 rx2 ry1 hI hl h
    obtain ⟨hI, hcs⟩ := hI
    unfold j_X3_doing_94 at h
    have hr64 := h.1; replace h := h.2
    obtain ⟨a61, b62, f63, h⟩ := h
    refine x_callVv (As := [iV y1]) (rest := []) hF (t_X3_want l hlt D dA ad (bset S a61 b62) _ y0 y1 _ ry1 a61.toNat b62.toNat (bC_bset _ _ _).symm (bL_bset _ _ _).symm h) (by obtain ⟨fs, hg⟩ := hr64; exact s_recvP hK hI hg rfl) (cwV 1 hts (lw_V q603 q605 qs15 q110 q606) rfl rfl rfl (by decide +kernel) ⟨by have h1 := hR.1; have h2 : (rmD 9 a61.toNat b62.toNat).frames = 9 + 1 := rfl; omega, by have h1 := hR.2; have h2 : (rmD 9 a61.toNat b62.toNat).locals = 64 * 9 + 64 := rfl; omega⟩) hK hI hZ hcs f63 rfl hl.1 rfl (Nat.le_of_ble_eq_true rfl) dX3_doing_94 (fun q S66 S67 H locs cells slots h eS67 hg hI hcs => ?_) (fun S66 S67 H locs cells slots h eS67 hI hcs => ?_)
    · replace h := (h S67 eS67).1 q rfl
      rw [← hQ]; exact x_out hout hlocks hK hI ⟨by have h1 := hcs.1; omega, by have h1 := hcs.2; omega⟩ hg h
    replace h := (h S67 eS67).2 rfl
    refine lv_aload_n hx hb dX3_doing_97 rfl (lv_at hl 0 rfl) ?_
    refine nr_iconst hx hb dX3_doing_98 ?_
    refine lv_aload_n hx hb dX3_doing_99 rfl (lv_at hl 0 rfl) ?_
    obtain ⟨fs69, v72, hg70, hv71, h⟩ := h
    refine gPX3_83 hF hK hI hg70 hv71 dX3_doing_100 (fun f73 => ?_)
    replace h := h f73
    refine nr_sipush hx hb dX3_doing_103 (by decide) ?_
    refine nr_icmp_ne hx hb f73 (by decide) dX3_doing_106 (tgt := 114) (by decide) (fun c74 => ?_) (fun c74 => ?_)
    · replace h := h.1 c74
      refine nr_bipush hx hb dX3_doing_114 (by decide) ?_
      exact J116 x0 x1 x2 x0 0 9 S67 _ _ _ _ _ rx1 rx2 (by decide) (by decide) ⟨hI, hcs⟩ (lv_sub hl [0, 1, 2] rfl) h
    · replace h := h.2 c74
      refine nr_bipush hx hb dX3_doing_109 (by decide) ?_
      refine lv_goto (tgt := 116) hx hb dX3_doing_111 (by decide) ?_
      exact J116 x0 x1 x2 x0 0 15 S67 _ _ _ _ _ rx1 rx2 (by decide) (by decide) ⟨hI, hcs⟩ (lv_sub hl [0, 1, 2] rfl) h
  have J58 : ∀ (x0 : Nat) (x1 : Int) (x2 : Int) (S : St) (H : Heap) (locs : List Loc) (ls : Array Slot) (cells slots : Nat), InR x1 → InR x2 → (sI D dA wX ad A s.heap S H locs ∧ bOK R S cells slots) → lv_has ls 4 [(0, .ref x0), (1, iV x1), (2, iV x2)] → j_X3_doing_58 x0 x1 x2 S K → W p l e R s m args below meth c H locs cells slots Q (F0 m 58 ls []) := by
    intro x0 x1 x2 S H locs ls cells slots rx1 rx2 hI hl h
    obtain ⟨hI, hcs⟩ := hI
    unfold j_X3_doing_58 at h
    have f77 := h.1; replace h := h.2
    refine t_new (C := RX13) (T := TX13) (ci := 13) hx hb tyX13 tyX13_ok hts hown hK hI hcs rfl in_X13 q803 q804 q137 ([.inl 0, .inl 0, .inl 0, .inl 0, .inl 0] : List PV) (by intro j hj; have hj2 : j = 0 ∨ j = 1 ∨ j = 2 ∨ j = 3 ∨ j = 4 := (by omega); rcases hj2 with rfl | rfl | rfl | rfl | rfl <;> rfl) (by intro v hv; simp only [List.mem_cons, List.not_mem_nil, or_false] at hv; rcases hv with rfl | rfl | rfl | rfl | rfl <;> first | exact ni_r0 | exact trivial) f77 dX3_doing_58 (fun q75 S76 H cells slots hqq75 eS76 _ hI hcs => ?_)
    replace h := h q75 S76 hqq75 eS76
    refine lv_dup hx hb dX3_doing_61 rfl ?_
    refine lv_aload_n hx hb dX3_doing_62 rfl (lv_at hl 0 rfl) ?_
    obtain ⟨fs78, v81, hg79, hv80, h⟩ := h
    refine gPX3_83 hF hK hI hg79 hv80 dX3_doing_63 (fun f82 => ?_)
    replace h := h f82
    refine lv_iload_n hx hb dX3_doing_66 rfl (lv_at hl 2 rfl) ?_
    refine nr_iconst hx hb dX3_doing_67 ?_
    refine nr_iconst hx hb dX3_doing_68 ?_
    refine lv_iload_n hx hb dX3_doing_69 rfl (lv_at hl 1 rfl) ?_
    obtain ⟨a83, b84, f85, h⟩ := h
    refine p_callINv (As := [iV v81, iV x2, iV (-1), iV (-1), iV x1]) (rest := [.ref q75]) hF (t_X13_init l hlt D dA ad (bset S76 a83 b84) _ q75 v81 x2 (-1) (-1) x1 _ f82 rx2 (by decide) (by decide) rx1 a83.toNat b84.toNat (bC_bset _ _ _).symm (bL_bset _ _ _).symm h) ⟨va_cnB 5 hts (lw_meth q807) rfl rfl rfl (nMl_8 hK.2) (hts _ q137) (by decide +kernel) ⟨by have h1 := hR.1; have h2 : (rmD 2 a83.toNat b84.toNat).frames = 2 + 1 := rfl; omega, by have h1 := hR.2; have h2 : (rmD 2 a83.toNat b84.toNat).locals = 64 * 2 + 64 := rfl; omega⟩, rfl, hts _ q806⟩ hK hI hZ hcs f85 rfl hl.1 rfl (Nat.le_of_ble_eq_true rfl) dX3_doing_70 (fun S87 S88 H locs cells slots h eS88 hI hcs => ?_)
    replace h := h S88 eS88
    rw [← hQ]; refine vz_ret ?_; refine W.widen (k := mc) (n := ms) (by have h1 := hcs.1; omega) (by have h1 := hcs.2; omega) ?_; exact s_qret (v := (some q75)) (K := (K none)) hx hb hr (Or.inl ⟨_, rfl⟩) hlocks hI h dX3_doing_73
  have J34 : ∀ (x0 : Nat) (x1 : Int) (y0 : Nat) (y1 : Int) (y2 : Int) (S : St) (H : Heap) (locs : List Loc) (ls : Array Slot) (cells slots : Nat), InR x1 → InR y1 → InR y2 → (sI D dA wX ad A s.heap S H locs ∧ bOK R S cells slots) → lv_has ls 4 [(0, .ref x0), (1, iV x1)] → j_X3_doing_34 x0 x1 y0 y1 y2 S K → W p l e R s m args below meth c H locs cells slots Q (F0 m 34 ls [iV y2, iV y1, .ref y0]) := by
    intro x0 x1 y0 y1 y2 S H locs ls cells slots rx1 ry1 ry2 hI hl h
    obtain ⟨hI, hcs⟩ := hI
    unfold j_X3_doing_34 at h
    have hr93 := h.1; replace h := h.2
    obtain ⟨a90, b91, f92, h⟩ := h
    refine x_callVi (As := [iV y1, iV y2]) (rest := []) hF (t_X3_number l hlt D dA ad (bset S a90 b91) _ y0 y1 y2 _ ry1 ry2 a90.toNat b91.toNat (bC_bset _ _ _).symm (bL_bset _ _ _).symm h) (by obtain ⟨fs, hg⟩ := hr93; exact s_recvP hK hI hg rfl) (cwV 2 hts (lw_V q574 q576 qs13 q110 q577) rfl rfl rfl (by decide +kernel) ⟨by have h1 := hR.1; have h2 : (rmD 9 a90.toNat b91.toNat).frames = 9 + 1 := rfl; omega, by have h1 := hR.2; have h2 : (rmD 9 a90.toNat b91.toNat).locals = 64 * 9 + 64 := rfl; omega⟩) hK hI hZ hcs f92 rfl hl.1 rfl (Nat.le_of_ble_eq_true rfl) dX3_doing_34 (fun q S95 S96 H locs cells slots h eS96 hg hI hcs => ?_) (fun r94 S95 S96 H locs cells slots fr94 h eS96 hI hcs => ?_)
    · replace h := (h S96 eS96).1 q rfl
      rw [← hQ]; exact x_out hout hlocks hK hI ⟨by have h1 := hcs.1; omega, by have h1 := hcs.2; omega⟩ hg h
    replace h := (h S96 eS96).2 rfl
    replace h := h fr94
    refine lv_istore_n (lv' := [(2, iV r94), (0, .ref x0), (1, iV x1)]) hx hb dX3_doing_37 rfl hl (by decide) rfl (fun ls hl => ?_)
    refine lv_aload_n hx hb dX3_doing_38 rfl (lv_at hl 1 rfl) ?_
    obtain ⟨fs98, v101, hg99, hv100, h⟩ := h
    refine gPX3_83 hF hK hI hg99 hv100 dX3_doing_39 (fun f102 => ?_)
    replace h := h f102
    refine nr_sipush hx hb dX3_doing_42 (by decide) ?_
    refine nr_icmp_eq hx hb f102 (by decide) dX3_doing_45 (tgt := 58) (by decide) (fun c103 => ?_) (fun c103 => ?_)
    · replace h := h.1 c103
      exact J58 x0 x1 r94 S96 _ _ _ _ _ rx1 fr94 ⟨hI, hcs⟩ (lv_sub hl [1, 2, 0] rfl) h
    · replace h := h.2 c103
      refine lv_aload_n hx hb dX3_doing_48 rfl (lv_at hl 1 rfl) ?_
      obtain ⟨fs104, v107, hg105, hv106, h⟩ := h
      refine gPX3_83 hF hK hI hg105 hv106 dX3_doing_49 (fun f108 => ?_)
      replace h := h f108
      refine nr_sipush hx hb dX3_doing_52 (by decide) ?_
      refine nr_icmp_ne hx hb f108 (by decide) dX3_doing_55 (tgt := 74) (by decide) (fun c109 => ?_) (fun c109 => ?_)
      · replace h := h.1 c109
        refine lv_aload_n hx hb dX3_doing_74 rfl (lv_at hl 1 rfl) ?_
        refine lv_aload_n hx hb dX3_doing_75 rfl (lv_at hl 1 rfl) ?_
        obtain ⟨fs110, v113, hg111, hv112, h⟩ := h
        refine gPX3_83 hF hK hI hg111 hv112 dX3_doing_76 (fun f114 => ?_)
        replace h := h f114
        refine nr_sipush hx hb dX3_doing_79 (by decide) ?_
        refine nr_icmp_ne hx hb f114 (by decide) dX3_doing_82 (tgt := 91) (by decide) (fun c115 => ?_) (fun c115 => ?_)
        · replace h := h.1 c115
          refine nr_sipush hx hb dX3_doing_91 (by decide) ?_
          exact J94 x0 x1 r94 x0 210 S96 _ _ _ _ _ rx1 fr94 (by decide) ⟨hI, hcs⟩ (lv_sub hl [1, 2, 0] rfl) h
        · replace h := h.2 c115
          refine nr_sipush hx hb dX3_doing_85 (by decide) ?_
          refine lv_goto (tgt := 94) hx hb dX3_doing_88 (by decide) ?_
          exact J94 x0 x1 r94 x0 212 S96 _ _ _ _ _ rx1 fr94 (by decide) ⟨hI, hcs⟩ (lv_sub hl [1, 2, 0] rfl) h
      · replace h := h.2 c109
        exact J58 x0 x1 r94 S96 _ _ _ _ _ rx1 fr94 ⟨hI, hcs⟩ (lv_sub hl [1, 2, 0] rfl) h
  unfold w_X3_doing at h
  refine lv_aload_n hx hb dX3_doing_0 rfl (lv_at hl 0 rfl) ?_
  refine nr_iconst hx hb dX3_doing_1 ?_
  refine lv_aload_n hx hb dX3_doing_2 rfl (lv_at hl 0 rfl) ?_
  obtain ⟨fs116, v119, hg117, hv118, h⟩ := h
  refine gPX3_83 hF hK hI hg117 hv118 dX3_doing_3 (fun f120 => ?_)
  replace h := h f120
  refine nr_sipush hx hb dX3_doing_6 (by decide) ?_
  refine nr_icmp_ne hx hb f120 (by decide) dX3_doing_9 (tgt := 17) (by decide) (fun c121 => ?_) (fun c121 => ?_)
  · replace h := h.1 c121
    refine lv_aload_n hx hb dX3_doing_17 rfl (lv_at hl 0 rfl) ?_
    obtain ⟨fs122, v125, hg123, hv124, h⟩ := h
    refine gPX3_83 hF hK hI hg123 hv124 dX3_doing_18 (fun f126 => ?_)
    replace h := h f126
    refine nr_sipush hx hb dX3_doing_21 (by decide) ?_
    refine nr_icmp_ne hx hb f126 (by decide) dX3_doing_24 (tgt := 32) (by decide) (fun c127 => ?_) (fun c127 => ?_)
    · replace h := h.1 c127
      refine nr_bipush hx hb dX3_doing_32 (by decide) ?_
      exact J34 x0 x1 x0 0 15 S _ _ _ _ _ rx1 (by decide) (by decide) ⟨hI, hcs⟩ (lv_sub hl [0, 1] rfl) h
    · replace h := h.2 c127
      refine nr_bipush hx hb dX3_doing_27 (by decide) ?_
      refine lv_goto (tgt := 34) hx hb dX3_doing_29 (by decide) ?_
      exact J34 x0 x1 x0 0 99 S _ _ _ _ _ rx1 (by decide) (by decide) ⟨hI, hcs⟩ (lv_sub hl [0, 1] rfl) h
  · replace h := h.2 c121
    refine nr_bipush hx hb dX3_doing_12 (by decide) ?_
    refine lv_goto (tgt := 34) hx hb dX3_doing_14 (by decide) ?_
    exact J34 x0 x1 x0 0 9 S _ _ _ _ _ rx1 (by decide) (by decide) ⟨hI, hcs⟩ (lv_sub hl [0, 1] rfl) h
