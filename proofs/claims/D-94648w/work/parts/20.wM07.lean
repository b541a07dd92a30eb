set_option maxRecDepth 100000
theorem gMX2_13_17 {p : Program} {l : Launch} {e : Env} {R : Room} {s : State} {m : MethodId} {args : Array Value} {below : List Frame} {meth : Method} {c : Code} {H : Heap} {locs : List Loc} {Q : State → Prop} {cc : ByteArray} {nL pc : Nat} {ls : Array Slot} {rest : List Value} {cells slots : Nat} {D : va_G} {dA : Nat → ClassId} {ad : Nat → Nat} {A : Nat → Prop} {H0 : Heap} {S : St} (hF : CallFix p m c cc nL s args lw_all RX2) (hK : gK D dA s) (hI : sI D dA wM ad A H0 S H locs) (hdg : decode cc pc = .ok (.getfield 13, 3)) (kk : W p l e R s m args below meth c H locs cells slots Q (F0 m (pc + 3) ls (.ref (ad 1) :: rest))) : W p l e R s m args below meth c H locs cells slots Q (F0 m (pc) ls (.ref (ad 17) :: rest)) := s_getr hF.1 hF.2.1 hF.2.2.2.2 hF.2.2.2.1 hK hI 17 (by decide) wM_17 rfl in_X2 1 (by decide) q1164 rfl 1 rfl hdg kk
theorem cMX2_71_0_1 {p : Program} {l : Launch} {e : Env} {R : Room} {s : State} {m : MethodId} {args : Array Value} {below : List Frame} {meth : Method} {c : Code} {H : Heap} {locs : List Loc} {Q : State → Prop} {cc : ByteArray} {nL pc : Nat} {ls : Array Slot} {rest : List Value} {cells slots : Nat} {D : va_G} {dA : Nat → ClassId} {ad : Nat → Nat} {A : Nat → Prop} {H0 : Heap} {S : St} {dk : Nat} (hF : CallFix p m c cc nL s args lw_all RX2) (hK : gK D dA s) (hI : sI D dA wM ad A H0 S H locs) (hls : ls.size = nL) (hR : R.frames = dk + 1 ∧ R.locals = 64 * dk + 64) (hd : 0 + 1 ≤ dk) (hW : (rest.map fun v => v.category).sum ≤ 8) (hf : cells ≤ R.cells ∧ slots ≤ R.slots) {K : St → Prop} (h : w_M_copy_0_1 S K) (hdg : decode cc pc = .ok (.invokestatic 71, 3)) (kk : ∀ (S1 : St) (H1 : Heap) (locs1 : List Loc), K S1 → sI D dA wM ad A H0 S1 H1 locs1 → W p l e R s m args below meth c H1 locs1 cells slots Q (F0 m (pc + 3) ls (rest))) : W p l e R s m args below meth c H locs cells slots Q (F0 m (pc) ls (.ref (ad 1) :: .ref (ad 0) :: rest)) := s_callSv (As := [.ref (ad 0), .ref (ad 1)]) (rest := rest) (K := K) hF (t_M_copy_0_1 l D dA ad S H.size K h) (va_cwS 2 hF.2.2.2.2 (lw_S q1160 q1161 q109 q1162) rfl rfl rfl (by decide +kernel) ⟨by have h1 := hR.1; have h2 : (rmD 0 0 0).frames = 0 + 1 := rfl; omega, by have h1 := hR.2; have h2 : (rmD 0 0 0).locals = 64 * 0 + 64 := rfl; omega⟩) hK hI rfl hls rfl hW hdg hf kk
set_option maxHeartbeats 4000000 in
theorem t_M_image (l : Launch) (D : va_G) (dA : Nat → ClassId) (ad : Nat → Nat) (S : St) (sz : Nat) (K : Int → St → Prop) (h : w_M_image S K) : Met l yX2_image (ws_ yX2_image cX2_image 1 (Option.some Jvm.ClassFile.FieldType.int)) (rmD 1 0 0) (va_Pc [.ref (ad 17)] (sPre D dA wM ad S sz)) (va_Qi (fun r S' => K r.toInt S') (sPost D dA wM ad (wA wM ad S sz)) (wA wM ad S sz)) 0 0 (wA wM ad S sz) := by
  refine Met.ofW (cc := cX2_image) (maxL := 1) (ret := (Option.some Jvm.ClassFile.FieldType.int)) (by decide) rfl ?_
  intro p e s m args below meth c s₁ B hml hv
  obtain ⟨rfl, hsz, hK, hC⟩ := hv
  have hx := B.exec
  have hb := B.bytes
  have hr := B.returns
  have hlocks := B.notSynchronized
  have hts := atoms_spec (ws := (ws_ yX2_image cX2_image 1 (Option.some Jvm.ClassFile.FieldType.int))) B.pre
  have hts : ∀ w ∈ lw_all, w.before _ s = true := fun w h => hts w (List.mem_cons_of_mem _ h)
  have hown : s.vm.findClass RX2 = some m.cls := findClass_of_methodNamed B.named
  clear B
  subst hsz
  have hI : sI D dA wM ad (wA wM ad S s.heap.size) s.heap S s.heap [] := hC.start
  clear hC
  generalize wA wM ad S s.heap.size = A at hI ⊢
  have hl := lv_entry ([.ref (ad 17)] : List Value) (n := 1) (Nat.le_of_ble_eq_true rfl)
  rw [lg_entry_eq]
  generalize (lg_sl ([.ref (ad 17)] : List Value) ++ List.replicate (1 - (lg_sl ([.ref (ad 17)] : List Value)).length) Slot.unset).toArray = ls at hl ⊢
  have hl : lv_has ls 1 [(0, .ref (ad 17))] := hl
  have hF : CallFix p m c cX2_image 1 s _ lw_all RX2 := ⟨hx, hb, hml, hown, hts⟩
  have hR : (headSpec (ws_ yX2_image cX2_image 1 (Option.some Jvm.ClassFile.FieldType.int)) (rmD 1 0 0)).room.frames = 1 + 1 ∧ (headSpec (ws_ yX2_image cX2_image 1 (Option.some Jvm.ClassFile.FieldType.int)) (rmD 1 0 0)).room.locals = 64 * 1 + 64 := ⟨rfl, rfl⟩
  generalize (headSpec (ws_ yX2_image cX2_image 1 (Option.some Jvm.ClassFile.FieldType.int)) (rmD 1 0 0)).room = R at hR ⊢
  generalize ([.ref (ad 17)] : List Value).toArray = args at hts hF ⊢
  generalize hQ : MQ below _ _ _ _ _ _ = Q
  unfold w_M_image at h
  refine lv_aload_n hx hb dX2_image_0 rfl (lv_at hl 0 rfl) ?_
  refine gMX2_7_17 hF hK hI dX2_image_1 ?_
  refine lv_aload_n hx hb dX2_image_4 rfl (lv_at hl 0 rfl) ?_
  refine gMX2_13_17 hF hK hI dX2_image_5 ?_
  refine cMX2_71_0_1 hF hK hI hl.1 hR (by decide) (Nat.le_of_ble_eq_true rfl) ⟨Nat.zero_le _, Nat.zero_le _⟩ h dX2_image_8 (fun S2 H locs h hI => ?_)
  refine lv_aload_n hx hb dX2_image_11 rfl (lv_at hl 0 rfl) ?_
  refine gMX2_7_17 hF hK hI dX2_image_12 ?_
  refine nr_iconst hx hb dX2_image_15 ?_
  refine s_iald hx hb hK hI 0 (by decide) wM_0 (by decide) (by decide) dX2_image_16 (fun f3 => ?_)
  replace h := h f3
  rw [← hQ]; exact s_iret (K := K) hx hb hr hlocks hI f3 h dX2_image_17
theorem cMX2_71_1_0 {p : Program} {l : Launch} {e : Env} {R : Room} {s : State} {m : MethodId} {args : Array Value} {below : List Frame} {meth : Method} {c : Code} {H : Heap} {locs : List Loc} {Q : State → Prop} {cc : ByteArray} {nL pc : Nat} {ls : Array Slot} {rest : List Value} {cells slots : Nat} {D : va_G} {dA : Nat → ClassId} {ad : Nat → Nat} {A : Nat → Prop} {H0 : Heap} {S : St} {dk : Nat} (hF : CallFix p m c cc nL s args lw_all RX2) (hK : gK D dA s) (hI : sI D dA wM ad A H0 S H locs) (hls : ls.size = nL) (hR : R.frames = dk + 1 ∧ R.locals = 64 * dk + 64) (hd : 0 + 1 ≤ dk) (hW : (rest.map fun v => v.category).sum ≤ 8) (hf : cells ≤ R.cells ∧ slots ≤ R.slots) {K : St → Prop} (h : w_M_copy_1_0 S K) (hdg : decode cc pc = .ok (.invokestatic 71, 3)) (kk : ∀ (S1 : St) (H1 : Heap) (locs1 : List Loc), K S1 → sI D dA wM ad A H0 S1 H1 locs1 → W p l e R s m args below meth c H1 locs1 cells slots Q (F0 m (pc + 3) ls (rest))) : W p l e R s m args below meth c H locs cells slots Q (F0 m (pc) ls (.ref (ad 0) :: .ref (ad 1) :: rest)) := s_callSv (As := [.ref (ad 1), .ref (ad 0)]) (rest := rest) (K := K) hF (t_M_copy_1_0 l D dA ad S H.size K h) (va_cwS 2 hF.2.2.2.2 (lw_S q1160 q1161 q109 q1162) rfl rfl rfl (by decide +kernel) ⟨by have h1 := hR.1; have h2 : (rmD 0 0 0).frames = 0 + 1 := rfl; omega, by have h1 := hR.2; have h2 : (rmD 0 0 0).locals = 64 * 0 + 64 := rfl; omega⟩) hK hI rfl hls rfl hW hdg hf kk
set_option maxHeartbeats 4000000 in
theorem t_M_back (l : Launch) (D : va_G) (dA : Nat → ClassId) (ad : Nat → Nat) (S : St) (sz : Nat) (K : Int → St → Prop) (h : w_M_back S K) : Met l yX2_back (ws_ yX2_back cX2_back 1 (Option.some Jvm.ClassFile.FieldType.int)) (rmD 1 0 0) (va_Pc [.ref (ad 17)] (sPre D dA wM ad S sz)) (va_Qi (fun r S' => K r.toInt S') (sPost D dA wM ad (wA wM ad S sz)) (wA wM ad S sz)) 0 0 (wA wM ad S sz) := by
  refine Met.ofW (cc := cX2_back) (maxL := 1) (ret := (Option.some Jvm.ClassFile.FieldType.int)) (by decide) rfl ?_
  intro p e s m args below meth c s₁ B hml hv
  obtain ⟨rfl, hsz, hK, hC⟩ := hv
  have hx := B.exec
  have hb := B.bytes
  have hr := B.returns
  have hlocks := B.notSynchronized
  have hts := atoms_spec (ws := (ws_ yX2_back cX2_back 1 (Option.some Jvm.ClassFile.FieldType.int))) B.pre
  have hts : ∀ w ∈ lw_all, w.before _ s = true := fun w h => hts w (List.mem_cons_of_mem _ h)
  have hown : s.vm.findClass RX2 = some m.cls := findClass_of_methodNamed B.named
  clear B
  subst hsz
  have hI : sI D dA wM ad (wA wM ad S s.heap.size) s.heap S s.heap [] := hC.start
  clear hC
  generalize wA wM ad S s.heap.size = A at hI ⊢
  have hl := lv_entry ([.ref (ad 17)] : List Value) (n := 1) (Nat.le_of_ble_eq_true rfl)
  rw [lg_entry_eq]
  generalize (lg_sl ([.ref (ad 17)] : List Value) ++ List.replicate (1 - (lg_sl ([.ref (ad 17)] : List Value)).length) Slot.unset).toArray = ls at hl ⊢
  have hl : lv_has ls 1 [(0, .ref (ad 17))] := hl
  have hF : CallFix p m c cX2_back 1 s _ lw_all RX2 := ⟨hx, hb, hml, hown, hts⟩
  have hR : (headSpec (ws_ yX2_back cX2_back 1 (Option.some Jvm.ClassFile.FieldType.int)) (rmD 1 0 0)).room.frames = 1 + 1 ∧ (headSpec (ws_ yX2_back cX2_back 1 (Option.some Jvm.ClassFile.FieldType.int)) (rmD 1 0 0)).room.locals = 64 * 1 + 64 := ⟨rfl, rfl⟩
  generalize (headSpec (ws_ yX2_back cX2_back 1 (Option.some Jvm.ClassFile.FieldType.int)) (rmD 1 0 0)).room = R at hR ⊢
  generalize ([.ref (ad 17)] : List Value).toArray = args at hts hF ⊢
  generalize hQ : MQ below _ _ _ _ _ _ = Q
  unfold w_M_back at h
  refine lv_aload_n hx hb dX2_back_0 rfl (lv_at hl 0 rfl) ?_
  refine gMX2_13_17 hF hK hI dX2_back_1 ?_
  refine lv_aload_n hx hb dX2_back_4 rfl (lv_at hl 0 rfl) ?_
  refine gMX2_7_17 hF hK hI dX2_back_5 ?_
  refine cMX2_71_1_0 hF hK hI hl.1 hR (by decide) (Nat.le_of_ble_eq_true rfl) ⟨Nat.zero_le _, Nat.zero_le _⟩ h dX2_back_8 (fun S2 H locs h hI => ?_)
  refine lv_aload_n hx hb dX2_back_11 rfl (lv_at hl 0 rfl) ?_
  refine gMX2_7_17 hF hK hI dX2_back_12 ?_
  refine nr_iconst hx hb dX2_back_15 ?_
  refine s_iald hx hb hK hI 0 (by decide) wM_0 (by decide) (by decide) dX2_back_16 (fun f3 => ?_)
  replace h := h f3
  rw [← hQ]; exact s_iret (K := K) hx hb hr hlocks hI f3 h dX2_back_17
set_option maxHeartbeats 4000000 in
theorem t_M_bonesAt (l : Launch) (D : va_G) (dA : Nat → ClassId) (ad : Nat → Nat) (S : St) (sz : Nat) (x1 : Int) (K : Int → Prop) (rx1 : InR x1) (h : w_M_bonesAt x1 S K) : Met l yX2_bonesAt (ws_ yX2_bonesAt cX2_bonesAt 4 (Option.some Jvm.ClassFile.FieldType.int)) (rmD 1 0 0) (va_Pc [.ref (ad 17), iV x1] (sPre D dA wM ad S sz)) (va_Qi (fun r S' => S' = S ∧ K r.toInt) (sPost D dA wM ad (wA wM ad S sz)) (wA wM ad S sz)) 0 0 (wA wM ad S sz) := by
  refine Met.ofW (cc := cX2_bonesAt) (maxL := 4) (ret := (Option.some Jvm.ClassFile.FieldType.int)) (by decide) rfl ?_
  intro p e s m args below meth c s₁ B hml hv
  obtain ⟨rfl, hsz, hK, hC⟩ := hv
  have hx := B.exec
  have hb := B.bytes
  have hr := B.returns
  have hlocks := B.notSynchronized
  have hts := atoms_spec (ws := (ws_ yX2_bonesAt cX2_bonesAt 4 (Option.some Jvm.ClassFile.FieldType.int))) B.pre
  have hts : ∀ w ∈ lw_all, w.before _ s = true := fun w h => hts w (List.mem_cons_of_mem _ h)
  have hown : s.vm.findClass RX2 = some m.cls := findClass_of_methodNamed B.named
  clear B
  subst hsz
  have hI : sI D dA wM ad (wA wM ad S s.heap.size) s.heap S s.heap [] := hC.start
  clear hC
  generalize wA wM ad S s.heap.size = A at hI ⊢
  have hl := lv_entry ([.ref (ad 17), iV x1] : List Value) (n := 4) (Nat.le_of_ble_eq_true rfl)
  rw [lg_entry_eq]
  generalize (lg_sl ([.ref (ad 17), iV x1] : List Value) ++ List.replicate (4 - (lg_sl ([.ref (ad 17), iV x1] : List Value)).length) Slot.unset).toArray = ls at hl ⊢
  have hl : lv_has ls 4 [(0, .ref (ad 17)), (1, iV x1)] := hl
  have hF : CallFix p m c cX2_bonesAt 4 s _ lw_all RX2 := ⟨hx, hb, hml, hown, hts⟩
  have hR : (headSpec (ws_ yX2_bonesAt cX2_bonesAt 4 (Option.some Jvm.ClassFile.FieldType.int)) (rmD 1 0 0)).room.frames = 1 + 1 ∧ (headSpec (ws_ yX2_bonesAt cX2_bonesAt 4 (Option.some Jvm.ClassFile.FieldType.int)) (rmD 1 0 0)).room.locals = 64 * 1 + 64 := ⟨rfl, rfl⟩
  generalize (headSpec (ws_ yX2_bonesAt cX2_bonesAt 4 (Option.some Jvm.ClassFile.FieldType.int)) (rmD 1 0 0)).room = R at hR ⊢
  generalize ([.ref (ad 17), iV x1] : List Value).toArray = args at hts hF ⊢
  generalize hQ : MQ below _ _ _ _ _ _ = Q
  have L4 : ∀ (x1 : Int), InR x1 → ∀ (n4 : Nat) (x2 : Int) (x3 : Int) (H : Heap) (locs : List Loc) (ls : Array Slot), InR x2 → InR x3 → sI D dA wM ad A s.heap S H locs → lv_has ls 4 [(0, .ref (ad 17)), (1, iV x1), (2, iV x2), (3, iV x3)] → l_M_bonesAt_4 x1 S K n4 x2 x3 → W p l e R s m args below meth c H locs 0 0 Q (F0 m 4 ls []) := by
    intro x1 rx1 n4
    induction n4 with
    | zero => intro x2 x3 H locs ls rx2 rx3 hI hl h; exact False.elim h
    | succ n4 ih4 =>
      intro x2 x3 H locs ls rx2 rx3 hI hl h
      have J35 : ∀ (x3 : Int) (y0 : Int) (y1 : Int) (H : Heap) (locs : List Loc) (ls : Array Slot), InR x3 → InR y0 → InR y1 → sI D dA wM ad A s.heap S H locs → lv_has ls 4 [(0, .ref (ad 17)), (1, iV x1), (3, iV x3)] → j_M_bonesAt_35 x1 x3 y0 y1 S K (l_M_bonesAt_4 x1 S K n4) → W p l e R s m args below meth c H locs 0 0 Q (F0 m 35 ls [iV y1, iV y0]) := by
        intro x3 y0 y1 H locs ls rx3 ry0 ry1 hI hl h
        unfold j_M_bonesAt_35 at h
        have f1 := h.1; replace h := h.2
        refine nr_iadd hx hb dX2_bonesAt_35 ?_
        refine nr_topi (fun v2 ev2 => ?_)
        have rv2 : InR v2 := by rw [ev2]; exact f1
        replace h := h v2 ev2 rv2
        refine lv_istore_n (lv' := [(2, iV v2), (0, .ref (ad 17)), (1, iV x1), (3, iV x3)]) hx hb dX2_bonesAt_36 rfl hl (by decide) rfl (fun ls hl => ?_)
        have f3 := h.1; replace h := h.2
        refine nr_iinc (lv' := [(3, iV (x3 + 1)), (2, iV v2), (0, .ref (ad 17)), (1, iV x1)]) hx hb dX2_bonesAt_37 hl (k := 3) rfl (by decide) rfl (fun ls hl => ?_)
        refine lv_goto (tgt := 4) hx hb dX2_bonesAt_40 (by decide) ?_
        exact ih4 v2 (x3 + 1) _ _ _ rv2 f3 hI (lv_sub hl [2, 3, 1, 0] rfl) h
      unfold l_M_bonesAt_4 at h
      refine lv_iload_n hx hb dX2_bonesAt_4 rfl (lv_at hl 3 rfl) ?_
      refine lv_aload_n hx hb dX2_bonesAt_5 rfl (lv_at hl 0 rfl) ?_
      refine gMX2_7_17 hF hK hI dX2_bonesAt_6 ?_
      refine nr_iconst hx hb dX2_bonesAt_9 ?_
      refine s_iald hx hb hK hI 0 (by decide) wM_0 (by decide) (by decide) dX2_bonesAt_10 (fun f4 => ?_)
      replace h := h f4
      refine nr_icmp_ge hx hb rx3 f4 dX2_bonesAt_11 (tgt := 43) (by decide) (fun c5 => ?_) (fun c5 => ?_)
      · replace h := h.1 c5
        refine lv_iload_n hx hb dX2_bonesAt_43 rfl (lv_at hl 2 rfl) ?_
        rw [← hQ]; exact s_iret (K := fun r S' => S' = S ∧ K r) hx hb hr hlocks hI rx2 ⟨rfl, h⟩ dX2_bonesAt_44
      · replace h := h.2 c5
        refine lv_iload_n hx hb dX2_bonesAt_14 rfl (lv_at hl 2 rfl) ?_
        refine lv_aload_n hx hb dX2_bonesAt_15 rfl (lv_at hl 0 rfl) ?_
        refine gMX2_7_17 hF hK hI dX2_bonesAt_16 ?_
        refine lv_iload_n hx hb dX2_bonesAt_19 rfl (lv_at hl 3 rfl) ?_
        refine cMX2_87 hF hK hI hl.1 hR (by decide) (Nat.le_of_ble_eq_true rfl) ⟨Nat.zero_le _, Nat.zero_le _⟩ rx3 h dX2_bonesAt_20 (fun r6 H locs fr6 h hI => ?_)
        replace h := h fr6
        refine nr_iconst hx hb dX2_bonesAt_23 ?_
        have f8 := h.1; replace h := h.2
        refine nr_iadd hx hb dX2_bonesAt_24 ?_
        have f9 := h.1; replace h := h.2
        refine s_iald hx hb hK hI 0 (by decide) wM_0 f8 f9 dX2_bonesAt_25 (fun f10 => ?_)
        replace h := h f10
        refine lv_iload_n hx hb dX2_bonesAt_26 rfl (lv_at hl 1 rfl) ?_
        refine nr_icmp_ne hx hb f10 rx1 dX2_bonesAt_27 (tgt := 34) (by decide) (fun c11 => ?_) (fun c11 => ?_)
        · replace h := h.1 c11
          refine nr_iconst hx hb dX2_bonesAt_34 ?_
          exact J35 x3 x2 0 _ _ _ rx3 rx2 (by decide) hI (lv_sub hl [0, 1, 3] rfl) h
        · replace h := h.2 c11
          refine nr_iconst hx hb dX2_bonesAt_30 ?_
          refine lv_goto (tgt := 35) hx hb dX2_bonesAt_31 (by decide) ?_
          exact J35 x3 x2 1 _ _ _ rx3 rx2 (by decide) hI (lv_sub hl [0, 1, 3] rfl) h
  unfold w_M_bonesAt at h
  refine nr_iconst hx hb dX2_bonesAt_0 ?_
  refine lv_istore_n (lv' := [(2, iV 0), (0, .ref (ad 17)), (1, iV x1)]) hx hb dX2_bonesAt_1 rfl hl (by decide) rfl (fun ls hl => ?_)
  refine nr_iconst hx hb dX2_bonesAt_2 ?_
  refine lv_istore_n (lv' := [(3, iV 0), (2, iV 0), (0, .ref (ad 17)), (1, iV x1)]) hx hb dX2_bonesAt_3 rfl hl (by decide) rfl (fun ls hl => ?_)
  obtain ⟨n0, h⟩ := h
  exact L4 x1 rx1 n0 0 0 _ _ _ (by decide) (by decide) hI (lv_sub hl [2, 3, 1, 0] rfl) h
theorem cMX2_392 {p : Program} {l : Launch} {e : Env} {R : Room} {s : State} {m : MethodId} {args : Array Value} {below : List Frame} {meth : Method} {c : Code} {H : Heap} {locs : List Loc} {Q : State → Prop} {cc : ByteArray} {nL pc : Nat} {ls : Array Slot} {rest : List Value} {cells slots : Nat} {D : va_G} {dA : Nat → ClassId} {ad : Nat → Nat} {A : Nat → Prop} {H0 : Heap} {S : St} {dk : Nat} (hF : CallFix p m c cc nL s args lw_all RX2) (hK : gK D dA s) (hI : sI D dA wM ad A H0 S H locs) (hls : ls.size = nL) (hR : R.frames = dk + 1 ∧ R.locals = 64 * dk + 64) (hd : 1 + 1 ≤ dk) (hW : (rest.map fun v => v.category).sum ≤ 8) (hf : cells ≤ R.cells ∧ slots ≤ R.slots) {x1 : Int} {K : Int → Prop} (r1 : InR x1) (h : w_M_bonesAt x1 S K) (hdg : decode cc pc = .ok (.invokevirtual 392, 3)) (kk : ∀ (r : Int) (H1 : Heap) (locs1 : List Loc), InR r → K r → sI D dA wM ad A H0 S H1 locs1 → W p l e R s m args below meth c H1 locs1 cells slots Q (F0 m (pc + 3) ls (iV r :: rest))) : W p l e R s m args below meth c H locs cells slots Q (F0 m (pc) ls (iV x1 :: .ref (ad 17) :: rest)) := s_callVi (As := [iV x1]) (rest := rest) (K := fun r S' => S' = S ∧ K r) hF (t_M_bonesAt l D dA ad S H.size x1 K r1 h) (s_recv hK hI 17 (by decide) wM_17 rfl) (cwV 1 hF.2.2.2.2 (lw_V q1674 q1676 qs104 q109 q1677) rfl rfl rfl (by decide +kernel) ⟨by have h1 := hR.1; have h2 : (rmD 1 0 0).frames = 1 + 1 := rfl; omega, by have h1 := hR.2; have h2 : (rmD 1 0 0).locals = 64 * 1 + 64 := rfl; omega⟩) hK hI rfl hls rfl hW hdg hf (fun r S1 H1 locs1 f hk hI1 => by obtain ⟨rfl, hk⟩ := hk; exact kk r H1 locs1 f hk hI1)
set_option maxHeartbeats 4000000 in
theorem t_M_about (l : Launch) (D : va_G) (dA : Nat → ClassId) (ad : Nat → Nat) (S : St) (sz : Nat) (x1 : Int) (K : Int → Prop) (rx1 : InR x1) (h : w_M_about x1 S K) : Met l yX2_about (ws_ yX2_about cX2_about 2 (Option.some Jvm.ClassFile.FieldType.int)) (rmD 2 0 0) (va_Pc [.ref (ad 17), iV x1] (sPre D dA wM ad S sz)) (va_Qi (fun r S' => S' = S ∧ K r.toInt) (sPost D dA wM ad (wA wM ad S sz)) (wA wM ad S sz)) 0 0 (wA wM ad S sz) := by
  refine Met.ofW (cc := cX2_about) (maxL := 2) (ret := (Option.some Jvm.ClassFile.FieldType.int)) (by decide) rfl ?_
  intro p e s m args below meth c s₁ B hml hv
  obtain ⟨rfl, hsz, hK, hC⟩ := hv
  have hx := B.exec
  have hb := B.bytes
  have hr := B.returns
  have hlocks := B.notSynchronized
  have hts := atoms_spec (ws := (ws_ yX2_about cX2_about 2 (Option.some Jvm.ClassFile.FieldType.int))) B.pre
  have hts : ∀ w ∈ lw_all, w.before _ s = true := fun w h => hts w (List.mem_cons_of_mem _ h)
  have hown : s.vm.findClass RX2 = some m.cls := findClass_of_methodNamed B.named
  clear B
  subst hsz
  have hI : sI D dA wM ad (wA wM ad S s.heap.size) s.heap S s.heap [] := hC.start
  clear hC
  generalize wA wM ad S s.heap.size = A at hI ⊢
  have hl := lv_entry ([.ref (ad 17), iV x1] : List Value) (n := 2) (Nat.le_of_ble_eq_true rfl)
  rw [lg_entry_eq]
  generalize (lg_sl ([.ref (ad 17), iV x1] : List Value) ++ List.replicate (2 - (lg_sl ([.ref (ad 17), iV x1] : List Value)).length) Slot.unset).toArray = ls at hl ⊢
  have hl : lv_has ls 2 [(0, .ref (ad 17)), (1, iV x1)] := hl
  have hF : CallFix p m c cX2_about 2 s _ lw_all RX2 := ⟨hx, hb, hml, hown, hts⟩
  have hR : (headSpec (ws_ yX2_about cX2_about 2 (Option.some Jvm.ClassFile.FieldType.int)) (rmD 2 0 0)).room.frames = 2 + 1 ∧ (headSpec (ws_ yX2_about cX2_about 2 (Option.some Jvm.ClassFile.FieldType.int)) (rmD 2 0 0)).room.locals = 64 * 2 + 64 := ⟨rfl, rfl⟩
  generalize (headSpec (ws_ yX2_about cX2_about 2 (Option.some Jvm.ClassFile.FieldType.int)) (rmD 2 0 0)).room = R at hR ⊢
  generalize ([.ref (ad 17), iV x1] : List Value).toArray = args at hts hF ⊢
  generalize hQ : MQ below _ _ _ _ _ _ = Q
  unfold w_M_about at h
  refine lv_iload_n hx hb dX2_about_0 rfl (lv_at hl 1 rfl) ?_
  refine nr_bipush hx hb dX2_about_1 (by decide) ?_
  refine nr_bipush hx hb dX2_about_3 (by decide) ?_
  refine lv_aload_n hx hb dX2_about_5 rfl (lv_at hl 0 rfl) ?_
  refine gMX2_7_17 hF hK hI dX2_about_6 ?_
  refine nr_iconst hx hb dX2_about_9 ?_
  refine s_iald hx hb hK hI 0 (by decide) wM_0 (by decide) (by decide) dX2_about_10 (fun f1 => ?_)
  replace h := h f1
  have f2 := h.1; replace h := h.2
  refine nr_iadd hx hb dX2_about_11 ?_
  refine cMX2_75 hF hK hI hl.1 hR (by decide) (Nat.le_of_ble_eq_true rfl) ⟨Nat.zero_le _, Nat.zero_le _⟩ rx1 (by decide) f2 h dX2_about_12 (fun r3 H locs fr3 h hI => ?_)
  replace h := h fr3
  have gr3 : InR r3 := kdP_R (k := 2) (by decide) fr3
  refine nr_if_eq hx hb gr3 dX2_about_15 (tgt := 27) (by decide) (fun c5 => ?_) (fun c5 => ?_)
  · replace h := h.1 c5
    refine lv_iload_n hx hb dX2_about_27 rfl (lv_at hl 1 rfl) ?_
    refine nr_bipush hx hb dX2_about_28 (by decide) ?_
    refine nr_bipush hx hb dX2_about_30 (by decide) ?_
    refine lv_aload_n hx hb dX2_about_32 rfl (lv_at hl 0 rfl) ?_
    refine gMX2_7_17 hF hK hI dX2_about_33 ?_
    refine nr_iconst hx hb dX2_about_36 ?_
    refine s_iald hx hb hK hI 0 (by decide) wM_0 (by decide) (by decide) dX2_about_37 (fun f6 => ?_)
    have f7 := h.1; replace h := h.2
    refine nr_iadd hx hb dX2_about_38 ?_
    refine cMX2_75 hF hK hI hl.1 hR (by decide) (Nat.le_of_ble_eq_true rfl) ⟨Nat.zero_le _, Nat.zero_le _⟩ rx1 (by decide) f7 h dX2_about_39 (fun r8 H locs fr8 h hI => ?_)
    replace h := h fr8
    have gr8 : InR r8 := kdP_R (k := 2) (by decide) fr8
    refine nr_if_eq hx hb gr8 dX2_about_42 (tgt := 54) (by decide) (fun c10 => ?_) (fun c10 => ?_)
    · replace h := h.1 c10
      refine lv_iload_n hx hb dX2_about_54 rfl (lv_at hl 1 rfl) ?_
      have hcs : x1 = 0 ∨ x1 = 1 ∨ x1 = 2 ∨ x1 = 3 ∨ x1 = 4 ∨ x1 = 5 ∨ x1 = 6 ∨ x1 = 7 ∨ x1 = 8 ∨ x1 = 9 ∨ ¬ (0 ≤ x1 ∧ x1 ≤ 9) := by omega
      rcases hcs with c11 | c11 | c11 | c11 | c11 | c11 | c11 | c11 | c11 | c11 | c11
      · replace h := h.1 c11
        refine nr_tableIn hx hb 0 c11 (by decide) dX2_about_55 (by decide) rfl (tgt := 108) (by decide) ?_
        refine lv_aload_n hx hb dX2_about_108 rfl (lv_at hl 0 rfl) ?_
        refine gMX2_7_17 hF hK hI dX2_about_109 ?_
        refine lv_iload_n hx hb dX2_about_112 rfl (lv_at hl 1 rfl) ?_
        have f12 := h.1; replace h := h.2
        refine s_iald hx hb hK hI 0 (by decide) wM_0 rx1 f12 dX2_about_113 (fun f13 => ?_)
        replace h := h f13
        rw [← hQ]; exact s_iret (K := fun r S' => S' = S ∧ K r) hx hb hr hlocks hI f13 ⟨rfl, h⟩ dX2_about_114
      · replace h := h.2.1 c11
        refine nr_tableIn hx hb 1 c11 (by decide) dX2_about_55 (by decide) rfl (tgt := 108) (by decide) ?_
        refine lv_aload_n hx hb dX2_about_108 rfl (lv_at hl 0 rfl) ?_
        refine gMX2_7_17 hF hK hI dX2_about_109 ?_
        refine lv_iload_n hx hb dX2_about_112 rfl (lv_at hl 1 rfl) ?_
        have f14 := h.1; replace h := h.2
        refine s_iald hx hb hK hI 0 (by decide) wM_0 rx1 f14 dX2_about_113 (fun f15 => ?_)
        replace h := h f15
        rw [← hQ]; exact s_iret (K := fun r S' => S' = S ∧ K r) hx hb hr hlocks hI f15 ⟨rfl, h⟩ dX2_about_114
      · replace h := h.2.2.1 c11
        refine nr_tableIn hx hb 2 c11 (by decide) dX2_about_55 (by decide) rfl (tgt := 108) (by decide) ?_
        refine lv_aload_n hx hb dX2_about_108 rfl (lv_at hl 0 rfl) ?_
        refine gMX2_7_17 hF hK hI dX2_about_109 ?_
        refine lv_iload_n hx hb dX2_about_112 rfl (lv_at hl 1 rfl) ?_
        have f16 := h.1; replace h := h.2
        refine s_iald hx hb hK hI 0 (by decide) wM_0 rx1 f16 dX2_about_113 (fun f17 => ?_)
        replace h := h f17
        rw [← hQ]; exact s_iret (K := fun r S' => S' = S ∧ K r) hx hb hr hlocks hI f17 ⟨rfl, h⟩ dX2_about_114
      · replace h := h.2.2.2.1 c11
        refine nr_tableIn hx hb 3 c11 (by decide) dX2_about_55 (by decide) rfl (tgt := 108) (by decide) ?_
        refine lv_aload_n hx hb dX2_about_108 rfl (lv_at hl 0 rfl) ?_
        refine gMX2_7_17 hF hK hI dX2_about_109 ?_
        refine lv_iload_n hx hb dX2_about_112 rfl (lv_at hl 1 rfl) ?_
        have f18 := h.1; replace h := h.2
        refine s_iald hx hb hK hI 0 (by decide) wM_0 rx1 f18 dX2_about_113 (fun f19 => ?_)
        replace h := h f19
        rw [← hQ]; exact s_iret (K := fun r S' => S' = S ∧ K r) hx hb hr hlocks hI f19 ⟨rfl, h⟩ dX2_about_114
      · replace h := h.2.2.2.2.1 c11
        refine nr_tableIn hx hb 4 c11 (by decide) dX2_about_55 (by decide) rfl (tgt := 108) (by decide) ?_
        refine lv_aload_n hx hb dX2_about_108 rfl (lv_at hl 0 rfl) ?_
        refine gMX2_7_17 hF hK hI dX2_about_109 ?_
        refine lv_iload_n hx hb dX2_about_112 rfl (lv_at hl 1 rfl) ?_
        have f20 := h.1; replace h := h.2
        refine s_iald hx hb hK hI 0 (by decide) wM_0 rx1 f20 dX2_about_113 (fun f21 => ?_)
        replace h := h f21
        rw [← hQ]; exact s_iret (K := fun r S' => S' = S ∧ K r) hx hb hr hlocks hI f21 ⟨rfl, h⟩ dX2_about_114
      · replace h := h.2.2.2.2.2.1 c11
        refine nr_tableIn hx hb 5 c11 (by decide) dX2_about_55 (by decide) rfl (tgt := 108) (by decide) ?_
        refine lv_aload_n hx hb dX2_about_108 rfl (lv_at hl 0 rfl) ?_
        refine gMX2_7_17 hF hK hI dX2_about_109 ?_
        refine lv_iload_n hx hb dX2_about_112 rfl (lv_at hl 1 rfl) ?_
        have f22 := h.1; replace h := h.2
        refine s_iald hx hb hK hI 0 (by decide) wM_0 rx1 f22 dX2_about_113 (fun f23 => ?_)
        replace h := h f23
        rw [← hQ]; exact s_iret (K := fun r S' => S' = S ∧ K r) hx hb hr hlocks hI f23 ⟨rfl, h⟩ dX2_about_114
      · replace h := h.2.2.2.2.2.2.1 c11
        refine nr_tableIn hx hb 6 c11 (by decide) dX2_about_55 (by decide) rfl (tgt := 108) (by decide) ?_
        refine lv_aload_n hx hb dX2_about_108 rfl (lv_at hl 0 rfl) ?_
        refine gMX2_7_17 hF hK hI dX2_about_109 ?_
        refine lv_iload_n hx hb dX2_about_112 rfl (lv_at hl 1 rfl) ?_
        have f24 := h.1; replace h := h.2
        refine s_iald hx hb hK hI 0 (by decide) wM_0 rx1 f24 dX2_about_113 (fun f25 => ?_)
        replace h := h f25
        rw [← hQ]; exact s_iret (K := fun r S' => S' = S ∧ K r) hx hb hr hlocks hI f25 ⟨rfl, h⟩ dX2_about_114
      · replace h := h.2.2.2.2.2.2.2.1 c11
        refine nr_tableIn hx hb 7 c11 (by decide) dX2_about_55 (by decide) rfl (tgt := 108) (by decide) ?_
        refine lv_aload_n hx hb dX2_about_108 rfl (lv_at hl 0 rfl) ?_
        refine gMX2_7_17 hF hK hI dX2_about_109 ?_
        refine lv_iload_n hx hb dX2_about_112 rfl (lv_at hl 1 rfl) ?_
        have f26 := h.1; replace h := h.2
        refine s_iald hx hb hK hI 0 (by decide) wM_0 rx1 f26 dX2_about_113 (fun f27 => ?_)
        replace h := h f27
        rw [← hQ]; exact s_iret (K := fun r S' => S' = S ∧ K r) hx hb hr hlocks hI f27 ⟨rfl, h⟩ dX2_about_114
      · replace h := h.2.2.2.2.2.2.2.2.1 c11
        refine nr_tableIn hx hb 8 c11 (by decide) dX2_about_55 (by decide) rfl (tgt := 108) (by decide) ?_
        refine lv_aload_n hx hb dX2_about_108 rfl (lv_at hl 0 rfl) ?_
        refine gMX2_7_17 hF hK hI dX2_about_109 ?_
        refine lv_iload_n hx hb dX2_about_112 rfl (lv_at hl 1 rfl) ?_
        have f28 := h.1; replace h := h.2
        refine s_iald hx hb hK hI 0 (by decide) wM_0 rx1 f28 dX2_about_113 (fun f29 => ?_)
        replace h := h f29
        rw [← hQ]; exact s_iret (K := fun r S' => S' = S ∧ K r) hx hb hr hlocks hI f29 ⟨rfl, h⟩ dX2_about_114
      · replace h := h.2.2.2.2.2.2.2.2.2.1 c11
        refine nr_tableIn hx hb 9 c11 (by decide) dX2_about_55 (by decide) rfl (tgt := 115) (by decide) ?_
        refine lv_aload_n hx hb dX2_about_115 rfl (lv_at hl 0 rfl) ?_
        refine gMX2_114_17 hF hK hI dX2_about_116 (fun f30 => ?_)
        replace h := h f30
        rw [← hQ]; exact s_iret (K := fun r S' => S' = S ∧ K r) hx hb hr hlocks hI f30 ⟨rfl, h⟩ dX2_about_119
      · replace h := h.2.2.2.2.2.2.2.2.2.2 c11
        refine nr_tableOut hx hb rx1 dX2_about_55 c11 (tgt := 120) (by decide) ?_
        refine nr_bipush hx hb dX2_about_120 (by decide) ?_
        rw [← hQ]; exact s_iret (K := fun r S' => S' = S ∧ K r) hx hb hr hlocks hI (by decide) ⟨rfl, h⟩ dX2_about_122
    · replace h := h.2 c10
      refine lv_aload_n hx hb dX2_about_45 rfl (lv_at hl 0 rfl) ?_
      refine lv_iload_n hx hb dX2_about_46 rfl (lv_at hl 1 rfl) ?_
      refine nr_bipush hx hb dX2_about_47 (by decide) ?_
      have f31 := h.1; replace h := h.2
      refine nr_isub hx hb dX2_about_49 ?_
      refine cMX2_392 hF hK hI hl.1 hR (by decide) (Nat.le_of_ble_eq_true rfl) ⟨Nat.zero_le _, Nat.zero_le _⟩ f31 h dX2_about_50 (fun r32 H locs fr32 h hI => ?_)
      replace h := h fr32
      rw [← hQ]; exact s_iret (K := fun r S' => S' = S ∧ K r) hx hb hr hlocks hI fr32 ⟨rfl, h⟩ dX2_about_53
  · replace h := h.2 c5
    refine lv_aload_n hx hb dX2_about_18 rfl (lv_at hl 0 rfl) ?_
    refine lv_iload_n hx hb dX2_about_19 rfl (lv_at hl 1 rfl) ?_
    refine nr_bipush hx hb dX2_about_20 (by decide) ?_
    have f34 := h.1; replace h := h.2
    refine nr_isub hx hb dX2_about_22 ?_
    refine cMX2_97 hF hK hI hl.1 hR (by decide) (Nat.le_of_ble_eq_true rfl) ⟨Nat.zero_le _, Nat.zero_le _⟩ f34 h dX2_about_23 (fun r35 H locs fr35 h hI => ?_)
    replace h := h fr35
    rw [← hQ]; exact s_iret (K := fun r S' => S' = S ∧ K r) hx hb hr hlocks hI fr35 ⟨rfl, h⟩ dX2_about_26
