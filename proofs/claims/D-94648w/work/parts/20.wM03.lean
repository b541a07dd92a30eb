set_option maxRecDepth 100000
theorem gMX2_129_17 {p : Program} {l : Launch} {e : Env} {R : Room} {s : State} {m : MethodId} {args : Array Value} {below : List Frame} {meth : Method} {c : Code} {H : Heap} {locs : List Loc} {Q : State → Prop} {cc : ByteArray} {nL pc : Nat} {ls : Array Slot} {rest : List Value} {cells slots : Nat} {D : va_G} {dA : Nat → ClassId} {ad : Nat → Nat} {A : Nat → Prop} {H0 : Heap} {S : St} (hF : CallFix p m c cc nL s args lw_all RX2) (hK : gK D dA s) (hI : sI D dA wM ad A H0 S H locs) (hdg : decode cc pc = .ok (.getfield 129, 3)) (kk : InR (fI S 9) → W p l e R s m args below meth c H locs cells slots Q (F0 m (pc + 3) ls (iV (fI S 9) :: rest))) : W p l e R s m args below meth c H locs cells slots Q (F0 m (pc) ls (.ref (ad 17) :: rest)) := s_geti hF.1 hF.2.1 hF.2.2.2.2 hF.2.2.2.1 hK hI 17 (by decide) wM_17 rfl in_X2 9 (by decide) q1172 rfl 0 9 rfl (by decide) hdg (kk (kdP_R (k := 0) (by decide) (hI.1.2.2.2.1.1 9)))
theorem cMX2_184 {p : Program} {l : Launch} {e : Env} {R : Room} {s : State} {m : MethodId} {args : Array Value} {below : List Frame} {meth : Method} {c : Code} {H : Heap} {locs : List Loc} {Q : State → Prop} {cc : ByteArray} {nL pc : Nat} {ls : Array Slot} {rest : List Value} {cells slots : Nat} {D : va_G} {dA : Nat → ClassId} {ad : Nat → Nat} {A : Nat → Prop} {H0 : Heap} {S : St} {dk : Nat} (hF : CallFix p m c cc nL s args lw_all RX2) (hK : gK D dA s) (hI : sI D dA wM ad A H0 S H locs) (hls : ls.size = nL) (hR : R.frames = dk + 1 ∧ R.locals = 64 * dk + 64) (hd : 2 + 1 ≤ dk) (hW : (rest.map fun v => v.category).sum ≤ 8) (hf : cells ≤ R.cells ∧ slots ≤ R.slots) {K : St → Prop} (h : w_M_nextToken S K) (hdg : decode cc pc = .ok (.invokevirtual 184, 3)) (kk : ∀ (S1 : St) (H1 : Heap) (locs1 : List Loc), K S1 → sI D dA wM ad A H0 S1 H1 locs1 → W p l e R s m args below meth c H1 locs1 cells slots Q (F0 m (pc + 3) ls (rest))) : W p l e R s m args below meth c H locs cells slots Q (F0 m (pc) ls (.ref (ad 17) :: rest)) := s_callVv (As := []) (rest := rest) (K := K) hF (t_M_nextToken l D dA ad S H.size K h) (s_recv hK hI 17 (by decide) wM_17 rfl) (cwV 0 hF.2.2.2.2 (lw_V q1378 q1380 qs59 q109 q1381) rfl rfl rfl (by decide +kernel) ⟨by have h1 := hR.1; have h2 : (rmD 2 0 0).frames = 2 + 1 := rfl; omega, by have h1 := hR.2; have h2 : (rmD 2 0 0).locals = 64 * 2 + 64 := rfl; omega⟩) hK hI rfl hls rfl hW hdg hf kk
set_option maxHeartbeats 4000000 in
theorem t_M_figure (l : Launch) (D : va_G) (dA : Nat → ClassId) (ad : Nat → Nat) (S : St) (sz : Nat) (x1 : Int) (x2 : Int) (x3 : Int) (K : Int → St → Prop) (rx1 : InR x1) (rx2 : InR x2) (rx3 : InR x3) (h : w_M_figure x1 x2 x3 S K) : Met l yX2_figure (ws_ yX2_figure cX2_figure 4 (Option.some Jvm.ClassFile.FieldType.int)) (rmD 3 0 0) (va_Pc [.ref (ad 17), iV x1, iV x2, iV x3] (sPre D dA wM ad S sz)) (va_Qi (fun r S' => K r.toInt S') (sPost D dA wM ad (wA wM ad S sz)) (wA wM ad S sz)) 0 0 (wA wM ad S sz) := by
  refine Met.ofW (cc := cX2_figure) (maxL := 4) (ret := (Option.some Jvm.ClassFile.FieldType.int)) (by decide) rfl ?_
  intro p e s m args below meth c s₁ B hml hv
  obtain ⟨rfl, hsz, hK, hC⟩ := hv
  have hx := B.exec
  have hb := B.bytes
  have hr := B.returns
  have hlocks := B.notSynchronized
  have hts := atoms_spec (ws := (ws_ yX2_figure cX2_figure 4 (Option.some Jvm.ClassFile.FieldType.int))) B.pre
  have hts : ∀ w ∈ lw_all, w.before _ s = true := fun w h => hts w (List.mem_cons_of_mem _ h)
  have hown : s.vm.findClass RX2 = some m.cls := findClass_of_methodNamed B.named
  clear B
  subst hsz
  have hI : sI D dA wM ad (wA wM ad S s.heap.size) s.heap S s.heap [] := hC.start
  clear hC
  generalize wA wM ad S s.heap.size = A at hI ⊢
  have hl := lv_entry ([.ref (ad 17), iV x1, iV x2, iV x3] : List Value) (n := 4) (Nat.le_of_ble_eq_true rfl)
  rw [lg_entry_eq]
  generalize (lg_sl ([.ref (ad 17), iV x1, iV x2, iV x3] : List Value) ++ List.replicate (4 - (lg_sl ([.ref (ad 17), iV x1, iV x2, iV x3] : List Value)).length) Slot.unset).toArray = ls at hl ⊢
  have hl : lv_has ls 4 [(0, .ref (ad 17)), (1, iV x1), (2, iV x2), (3, iV x3)] := hl
  have hF : CallFix p m c cX2_figure 4 s _ lw_all RX2 := ⟨hx, hb, hml, hown, hts⟩
  have hR : (headSpec (ws_ yX2_figure cX2_figure 4 (Option.some Jvm.ClassFile.FieldType.int)) (rmD 3 0 0)).room.frames = 3 + 1 ∧ (headSpec (ws_ yX2_figure cX2_figure 4 (Option.some Jvm.ClassFile.FieldType.int)) (rmD 3 0 0)).room.locals = 64 * 3 + 64 := ⟨rfl, rfl⟩
  generalize (headSpec (ws_ yX2_figure cX2_figure 4 (Option.some Jvm.ClassFile.FieldType.int)) (rmD 3 0 0)).room = R at hR ⊢
  generalize ([.ref (ad 17), iV x1, iV x2, iV x3] : List Value).toArray = args at hts hF ⊢
  generalize hQ : MQ below _ _ _ _ _ _ = Q
  unfold w_M_figure at h
  refine lv_aload_n hx hb dX2_figure_0 rfl (lv_at hl 0 rfl) ?_
  refine gMX2_129_17 hF hK hI dX2_figure_1 (fun f1 => ?_)
  replace h := h f1
  refine nr_iconst hx hb dX2_figure_4 ?_
  refine nr_icmp_eq hx hb f1 (by decide) dX2_figure_5 (tgt := 10) (by decide) (fun c2 => ?_) (fun c2 => ?_)
  · replace h := h.1 c2
    refine lv_aload_n hx hb dX2_figure_10 rfl (lv_at hl 0 rfl) ?_
    refine gMX2_135_17 hF hK hI dX2_figure_11 (fun f3 => ?_)
    replace h := h f3
    refine lv_iload_n hx hb dX2_figure_14 rfl (lv_at hl 2 rfl) ?_
    refine lv_iload_n hx hb dX2_figure_15 rfl (lv_at hl 3 rfl) ?_
    refine cMX2_75 hF hK hI hl.1 hR (by decide) (Nat.le_of_ble_eq_true rfl) ⟨Nat.zero_le _, Nat.zero_le _⟩ f3 rx2 rx3 h dX2_figure_16 (fun r4 H locs fr4 h hI => ?_)
    replace h := h fr4
    have gr4 : InR r4 := kdP_R (k := 2) (by decide) fr4
    refine nr_if_ne hx hb gr4 dX2_figure_19 (tgt := 24) (by decide) (fun c6 => ?_) (fun c6 => ?_)
    · replace h := h.1 c6
      refine lv_aload_n hx hb dX2_figure_24 rfl (lv_at hl 0 rfl) ?_
      refine gMX2_16_17 hF hK hI dX2_figure_25 ?_
      refine lv_iload_n hx hb dX2_figure_28 rfl (lv_at hl 1 rfl) ?_
      refine lv_aload_n hx hb dX2_figure_29 rfl (lv_at hl 0 rfl) ?_
      refine gMX2_135_17 hF hK hI dX2_figure_30 (fun f7 => ?_)
      have f8 := h.1; replace h := h.2
      refine s_iast hx hb hK hI 2 (by decide) wM_2 rx1 f8 f3 dX2_figure_33 (fun S9 H locs eS9 hI => ?_)
      replace h := h S9 eS9
      refine lv_aload_n hx hb dX2_figure_34 rfl (lv_at hl 0 rfl) ?_
      refine cMX2_184 hF hK hI hl.1 hR (by decide) (Nat.le_of_ble_eq_true rfl) ⟨Nat.zero_le _, Nat.zero_le _⟩ h dX2_figure_35 (fun S11 H locs h hI => ?_)
      refine nr_iconst hx hb dX2_figure_38 ?_
      rw [← hQ]; exact s_iret (K := K) hx hb hr hlocks hI (by decide) h dX2_figure_39
    · replace h := h.2 c6
      refine nr_iconst hx hb dX2_figure_22 ?_
      rw [← hQ]; exact s_iret (K := K) hx hb hr hlocks hI (by decide) h dX2_figure_23
  · replace h := h.2 c2
    refine nr_iconst hx hb dX2_figure_8 ?_
    rw [← hQ]; exact s_iret (K := K) hx hb hr hlocks hI (by decide) h dX2_figure_9
set_option maxHeartbeats 4000000 in
theorem t_M_isTo (l : Launch) (D : va_G) (dA : Nat → ClassId) (ad : Nat → Nat) (S : St) (sz : Nat) (K : Int → Prop) (h : w_M_isTo S K) : Met l yX2_isTo (ws_ yX2_isTo cX2_isTo 1 (Option.some Jvm.ClassFile.FieldType.boolean)) (rmD 0 0 0) (va_Pc [.ref (ad 17)] (sPre D dA wM ad S sz)) (va_Qi (fun r S' => (r.toInt = 0 ∨ r.toInt = 1) ∧ (S' = S ∧ K r.toInt)) (sPost D dA wM ad (wA wM ad S sz)) (wA wM ad S sz)) 0 0 (wA wM ad S sz) := by
  refine Met.ofW (cc := cX2_isTo) (maxL := 1) (ret := (Option.some Jvm.ClassFile.FieldType.boolean)) (by decide) rfl ?_
  intro p e s m args below meth c s₁ B hml hv
  obtain ⟨rfl, hsz, hK, hC⟩ := hv
  have hx := B.exec
  have hb := B.bytes
  have hr := B.returns
  have hlocks := B.notSynchronized
  have hts := atoms_spec (ws := (ws_ yX2_isTo cX2_isTo 1 (Option.some Jvm.ClassFile.FieldType.boolean))) B.pre
  have hts : ∀ w ∈ lw_all, w.before _ s = true := fun w h => hts w (List.mem_cons_of_mem _ h)
  have hown : s.vm.findClass RX2 = some m.cls := findClass_of_methodNamed B.named
  clear B
  subst hsz
  have hI : sI D dA wM ad (wA wM ad S s.heap.size) s.heap S s.heap [] := hC.start
  clear hC
  generalize wA wM ad S s.heap.size = A at hI ⊢
  have hl := lv_entry ([.ref (ad 17)] : List Value) (n := 1) (Nat.le_of_ble_eq_true rfl)
  rw [lg_entry_eq]
  generalize (lg_sl ([.ref (ad 17)] : List Value) ++ List.replicate (1 - (lg_sl ([.ref (ad 17)] : List Value)).length) Slot.unset).toArray = ls at hl ⊢
  have hl : lv_has ls 1 [(0, .ref (ad 17))] := hl
  have hF : CallFix p m c cX2_isTo 1 s _ lw_all RX2 := ⟨hx, hb, hml, hown, hts⟩
  have hR : (headSpec (ws_ yX2_isTo cX2_isTo 1 (Option.some Jvm.ClassFile.FieldType.boolean)) (rmD 0 0 0)).room.frames = 0 + 1 ∧ (headSpec (ws_ yX2_isTo cX2_isTo 1 (Option.some Jvm.ClassFile.FieldType.boolean)) (rmD 0 0 0)).room.locals = 64 * 0 + 64 := ⟨rfl, rfl⟩
  generalize (headSpec (ws_ yX2_isTo cX2_isTo 1 (Option.some Jvm.ClassFile.FieldType.boolean)) (rmD 0 0 0)).room = R at hR ⊢
  generalize ([.ref (ad 17)] : List Value).toArray = args at hts hF ⊢
  generalize hQ : MQ below _ _ _ _ _ _ = Q
  unfold w_M_isTo at h
  refine lv_aload_n hx hb dX2_isTo_0 rfl (lv_at hl 0 rfl) ?_
  refine gMX2_129_17 hF hK hI dX2_isTo_1 (fun f1 => ?_)
  replace h := h f1
  refine nr_iconst hx hb dX2_isTo_4 ?_
  refine nr_icmp_ne hx hb f1 (by decide) dX2_isTo_5 (tgt := 23) (by decide) (fun c2 => ?_) (fun c2 => ?_)
  · replace h := h.1 c2
    refine nr_iconst hx hb dX2_isTo_23 ?_
    rw [← hQ]; exact s_zret (K := fun r S' => S' = S ∧ K r) hx hb hr hlocks hI (by decide) ⟨rfl, h⟩ dX2_isTo_24
  · replace h := h.2 c2
    refine lv_aload_n hx hb dX2_isTo_8 rfl (lv_at hl 0 rfl) ?_
    refine gMX2_142_17 hF hK hI dX2_isTo_9 (fun f3 => ?_)
    replace h := h f3
    refine nr_ldc2 (v := 29807) hx hb hown (by decide) (hts _ q1441) dX2_isTo_12 ?_
    refine nr_lcmp_ne hx hb f3 (by decide) dX2_isTo_15 dX2_isTo_16 (tgt := 23) (by decide) (fun c4 => ?_) (fun c4 => ?_)
    · replace h := h.1 c4
      refine nr_iconst hx hb dX2_isTo_23 ?_
      rw [← hQ]; exact s_zret (K := fun r S' => S' = S ∧ K r) hx hb hr hlocks hI (by decide) ⟨rfl, h⟩ dX2_isTo_24
    · replace h := h.2 c4
      refine nr_iconst hx hb dX2_isTo_19 ?_
      refine lv_goto (tgt := 24) hx hb dX2_isTo_20 (by decide) ?_
      rw [← hQ]; exact s_zret (K := fun r S' => S' = S ∧ K r) hx hb hr hlocks hI (by decide) ⟨rfl, h⟩ dX2_isTo_24
set_option maxHeartbeats 4000000 in
theorem t_M_isWord (l : Launch) (D : va_G) (dA : Nat → ClassId) (ad : Nat → Nat) (S : St) (sz : Nat) (x1 : Int) (K : Int → Prop) (rx1 : InL x1) (h : w_M_isWord x1 S K) : Met l yX2_isWord (ws_ yX2_isWord cX2_isWord 3 (Option.some Jvm.ClassFile.FieldType.boolean)) (rmD 0 0 0) (va_Pc [.ref (ad 17), jV x1] (sPre D dA wM ad S sz)) (va_Qi (fun r S' => (r.toInt = 0 ∨ r.toInt = 1) ∧ (S' = S ∧ K r.toInt)) (sPost D dA wM ad (wA wM ad S sz)) (wA wM ad S sz)) 0 0 (wA wM ad S sz) := by
  refine Met.ofW (cc := cX2_isWord) (maxL := 3) (ret := (Option.some Jvm.ClassFile.FieldType.boolean)) (by decide) rfl ?_
  intro p e s m args below meth c s₁ B hml hv
  obtain ⟨rfl, hsz, hK, hC⟩ := hv
  have hx := B.exec
  have hb := B.bytes
  have hr := B.returns
  have hlocks := B.notSynchronized
  have hts := atoms_spec (ws := (ws_ yX2_isWord cX2_isWord 3 (Option.some Jvm.ClassFile.FieldType.boolean))) B.pre
  have hts : ∀ w ∈ lw_all, w.before _ s = true := fun w h => hts w (List.mem_cons_of_mem _ h)
  have hown : s.vm.findClass RX2 = some m.cls := findClass_of_methodNamed B.named
  clear B
  subst hsz
  have hI : sI D dA wM ad (wA wM ad S s.heap.size) s.heap S s.heap [] := hC.start
  clear hC
  generalize wA wM ad S s.heap.size = A at hI ⊢
  have hl := lv_entry ([.ref (ad 17), jV x1] : List Value) (n := 3) (Nat.le_of_ble_eq_true rfl)
  rw [lg_entry_eq]
  generalize (lg_sl ([.ref (ad 17), jV x1] : List Value) ++ List.replicate (3 - (lg_sl ([.ref (ad 17), jV x1] : List Value)).length) Slot.unset).toArray = ls at hl ⊢
  have hl : lv_has ls 3 [(0, .ref (ad 17)), (1, jV x1)] := hl
  have hF : CallFix p m c cX2_isWord 3 s _ lw_all RX2 := ⟨hx, hb, hml, hown, hts⟩
  have hR : (headSpec (ws_ yX2_isWord cX2_isWord 3 (Option.some Jvm.ClassFile.FieldType.boolean)) (rmD 0 0 0)).room.frames = 0 + 1 ∧ (headSpec (ws_ yX2_isWord cX2_isWord 3 (Option.some Jvm.ClassFile.FieldType.boolean)) (rmD 0 0 0)).room.locals = 64 * 0 + 64 := ⟨rfl, rfl⟩
  generalize (headSpec (ws_ yX2_isWord cX2_isWord 3 (Option.some Jvm.ClassFile.FieldType.boolean)) (rmD 0 0 0)).room = R at hR ⊢
  generalize ([.ref (ad 17), jV x1] : List Value).toArray = args at hts hF ⊢
  generalize hQ : MQ below _ _ _ _ _ _ = Q
  unfold w_M_isWord at h
  refine lv_aload_n hx hb dX2_isWord_0 rfl (lv_at hl 0 rfl) ?_
  refine gMX2_129_17 hF hK hI dX2_isWord_1 (fun f1 => ?_)
  replace h := h f1
  refine nr_iconst hx hb dX2_isWord_4 ?_
  refine nr_icmp_ne hx hb f1 (by decide) dX2_isWord_5 (tgt := 21) (by decide) (fun c2 => ?_) (fun c2 => ?_)
  · replace h := h.1 c2
    refine nr_iconst hx hb dX2_isWord_21 ?_
    rw [← hQ]; exact s_zret (K := fun r S' => S' = S ∧ K r) hx hb hr hlocks hI (by decide) ⟨rfl, h⟩ dX2_isWord_22
  · replace h := h.2 c2
    refine lv_aload_n hx hb dX2_isWord_8 rfl (lv_at hl 0 rfl) ?_
    refine gMX2_142_17 hF hK hI dX2_isWord_9 (fun f3 => ?_)
    replace h := h f3
    refine lv_lload_n hx hb dX2_isWord_12 rfl (lv_at hl 1 rfl) ?_
    refine nr_lcmp_ne hx hb f3 rx1 dX2_isWord_13 dX2_isWord_14 (tgt := 21) (by decide) (fun c4 => ?_) (fun c4 => ?_)
    · replace h := h.1 c4
      refine nr_iconst hx hb dX2_isWord_21 ?_
      rw [← hQ]; exact s_zret (K := fun r S' => S' = S ∧ K r) hx hb hr hlocks hI (by decide) ⟨rfl, h⟩ dX2_isWord_22
    · replace h := h.2 c4
      refine nr_iconst hx hb dX2_isWord_17 ?_
      refine lv_goto (tgt := 22) hx hb dX2_isWord_18 (by decide) ?_
      rw [← hQ]; exact s_zret (K := fun r S' => S' = S ∧ K r) hx hb hr hlocks hI (by decide) ⟨rfl, h⟩ dX2_isWord_22
set_option maxHeartbeats 4000000 in
theorem t_M_step (l : Launch) (D : va_G) (dA : Nat → ClassId) (ad : Nat → Nat) (S : St) (sz : Nat) (x1 : Int) (K : Int → St → Prop) (rx1 : InR x1) (h : w_M_step x1 S K) : Met l yX2_step (ws_ yX2_step cX2_step 2 (Option.some Jvm.ClassFile.FieldType.int)) (rmD 3 0 0) (va_Pc [.ref (ad 17), iV x1] (sPre D dA wM ad S sz)) (va_Qi (fun r S' => K r.toInt S') (sPost D dA wM ad (wA wM ad S sz)) (wA wM ad S sz)) 0 0 (wA wM ad S sz) := by
  refine Met.ofW (cc := cX2_step) (maxL := 2) (ret := (Option.some Jvm.ClassFile.FieldType.int)) (by decide) rfl ?_
  intro p e s m args below meth c s₁ B hml hv
  obtain ⟨rfl, hsz, hK, hC⟩ := hv
  have hx := B.exec
  have hb := B.bytes
  have hr := B.returns
  have hlocks := B.notSynchronized
  have hts := atoms_spec (ws := (ws_ yX2_step cX2_step 2 (Option.some Jvm.ClassFile.FieldType.int))) B.pre
  have hts : ∀ w ∈ lw_all, w.before _ s = true := fun w h => hts w (List.mem_cons_of_mem _ h)
  have hown : s.vm.findClass RX2 = some m.cls := findClass_of_methodNamed B.named
  clear B
  subst hsz
  have hI : sI D dA wM ad (wA wM ad S s.heap.size) s.heap S s.heap [] := hC.start
  clear hC
  generalize wA wM ad S s.heap.size = A at hI ⊢
  have hl := lv_entry ([.ref (ad 17), iV x1] : List Value) (n := 2) (Nat.le_of_ble_eq_true rfl)
  rw [lg_entry_eq]
  generalize (lg_sl ([.ref (ad 17), iV x1] : List Value) ++ List.replicate (2 - (lg_sl ([.ref (ad 17), iV x1] : List Value)).length) Slot.unset).toArray = ls at hl ⊢
  have hl : lv_has ls 2 [(0, .ref (ad 17)), (1, iV x1)] := hl
  have hF : CallFix p m c cX2_step 2 s _ lw_all RX2 := ⟨hx, hb, hml, hown, hts⟩
  have hR : (headSpec (ws_ yX2_step cX2_step 2 (Option.some Jvm.ClassFile.FieldType.int)) (rmD 3 0 0)).room.frames = 3 + 1 ∧ (headSpec (ws_ yX2_step cX2_step 2 (Option.some Jvm.ClassFile.FieldType.int)) (rmD 3 0 0)).room.locals = 64 * 3 + 64 := ⟨rfl, rfl⟩
  generalize (headSpec (ws_ yX2_step cX2_step 2 (Option.some Jvm.ClassFile.FieldType.int)) (rmD 3 0 0)).room = R at hR ⊢
  generalize ([.ref (ad 17), iV x1] : List Value).toArray = args at hts hF ⊢
  generalize hQ : MQ below _ _ _ _ _ _ = Q
  unfold w_M_step at h
  refine lv_iload_n hx hb dX2_step_0 rfl (lv_at hl 1 rfl) ?_
  refine nr_if_ne hx hb rx1 dX2_step_1 (tgt := 6) (by decide) (fun c1 => ?_) (fun c1 => ?_)
  · replace h := h.1 c1
    refine lv_aload_n hx hb dX2_step_6 rfl (lv_at hl 0 rfl) ?_
    refine cMX2_184 hF hK hI hl.1 hR (by decide) (Nat.le_of_ble_eq_true rfl) ⟨Nat.zero_le _, Nat.zero_le _⟩ h dX2_step_7 (fun S3 H locs h hI => ?_)
    refine nr_iconst hx hb dX2_step_10 ?_
    rw [← hQ]; exact s_iret (K := K) hx hb hr hlocks hI (by decide) h dX2_step_11
  · replace h := h.2 c1
    refine nr_iconst hx hb dX2_step_4 ?_
    rw [← hQ]; exact s_iret (K := K) hx hb hr hlocks hI (by decide) h dX2_step_5
set_option maxHeartbeats 4000000 in
theorem t_M_w3 (l : Launch) (x0 : Int) (x1 : Int) (x2 : Int) (K : Int → Prop) (rx0 : InR x0) (rx1 : InR x1) (rx2 : InR x2) (h : w_M_w3 x0 x1 x2 K) : Met l yX2_w3 (ws_ yX2_w3 cX2_w3 3 (Option.some Jvm.ClassFile.FieldType.long)) (rmD 0 0 0) (va_Pc [iV x0, iV x1, iV x2] (fun _ => True)) (va_Ql (fun r (_ : Unit) => K r.toInt) (fun _ _ => True) (fun _ => False)) 0 0 (fun _ => False) := by
  refine Met.ofW (cc := cX2_w3) (maxL := 3) (ret := (Option.some Jvm.ClassFile.FieldType.long)) (by decide) rfl ?_
  intro p e s m args below meth c s₁ B hml hv
  obtain ⟨rfl, -⟩ := hv
  have hx := B.exec
  have hb := B.bytes
  have hr := B.returns
  have hlocks := B.notSynchronized
  have hts := atoms_spec (ws := (ws_ yX2_w3 cX2_w3 3 (Option.some Jvm.ClassFile.FieldType.long))) B.pre
  have hts : ∀ w ∈ lw_all, w.before _ s = true := fun w h => hts w (List.mem_cons_of_mem _ h)
  have hown : s.vm.findClass RX2 = some m.cls := findClass_of_methodNamed B.named
  clear B
  have hI : va_S (fun _ => False) s.heap s.heap [] := va_S.rf
  have hl := lv_entry ([iV x0, iV x1, iV x2] : List Value) (n := 3) (Nat.le_of_ble_eq_true rfl)
  rw [lg_entry_eq]
  generalize (lg_sl ([iV x0, iV x1, iV x2] : List Value) ++ List.replicate (3 - (lg_sl ([iV x0, iV x1, iV x2] : List Value)).length) Slot.unset).toArray = ls at hl ⊢
  have hl : lv_has ls 3 [(0, iV x0), (1, iV x1), (2, iV x2)] := hl
  have hF : CallFix p m c cX2_w3 3 s _ lw_all RX2 := ⟨hx, hb, hml, hown, hts⟩
  have hR : (headSpec (ws_ yX2_w3 cX2_w3 3 (Option.some Jvm.ClassFile.FieldType.long)) (rmD 0 0 0)).room.frames = 0 + 1 ∧ (headSpec (ws_ yX2_w3 cX2_w3 3 (Option.some Jvm.ClassFile.FieldType.long)) (rmD 0 0 0)).room.locals = 64 * 0 + 64 := ⟨rfl, rfl⟩
  generalize (headSpec (ws_ yX2_w3 cX2_w3 3 (Option.some Jvm.ClassFile.FieldType.long)) (rmD 0 0 0)).room = R at hR ⊢
  generalize ([iV x0, iV x1, iV x2] : List Value).toArray = args at hts hF ⊢
  generalize hQ : MQ below _ _ _ _ _ _ = Q
  unfold w_M_w3 at h
  refine lv_iload_n hx hb dX2_w3_0 rfl (lv_at hl 0 rfl) ?_
  refine nr_i2l hx hb rx0 dX2_w3_1 ?_
  have f1 : InL (x0) := ni_L rx0
  refine nr_bipush hx hb dX2_w3_2 (by decide) ?_
  have f2 := h.1; replace h := h.2
  refine nr_lshl hx hb (by decide) dX2_w3_4 ?_
  refine lv_iload_n hx hb dX2_w3_5 rfl (lv_at hl 1 rfl) ?_
  refine nr_i2l hx hb rx1 dX2_w3_6 ?_
  have f3 : InL (x1) := ni_L rx1
  refine nr_lor hx hb dX2_w3_7 ?_
  refine nr_bipush hx hb dX2_w3_8 (by decide) ?_
  have f4 := h.1; replace h := h.2
  refine nr_lshl hx hb (by decide) dX2_w3_10 ?_
  refine lv_iload_n hx hb dX2_w3_11 rfl (lv_at hl 2 rfl) ?_
  refine nr_i2l hx hb rx2 dX2_w3_12 ?_
  have f5 : InL (x2) := ni_L rx2
  refine nr_lor hx hb dX2_w3_13 ?_
  rw [← hQ]; exact p_lret (K := K) hx hb hr hlocks hI (jOr_R _ _) h dX2_w3_14
theorem cqMX2_146 {p : Program} {l : Launch} {e : Env} {R : Room} {s : State} {m : MethodId} {args : Array Value} {below : List Frame} {meth : Method} {c : Code} {H : Heap} {locs : List Loc} {Q : State → Prop} {cc : ByteArray} {nL pc : Nat} {ls : Array Slot} {rest : List Value} {cells slots : Nat} {A : Nat → Prop} {H0 : Heap} {dk : Nat} (hF : CallFix p m c cc nL s args lw_all RX2) (hI : va_S A H0 H locs) (hls : ls.size = nL) (hR : R.frames = dk + 1 ∧ R.locals = 64 * dk + 64) (hd : 0 + 1 ≤ dk) (hW : (rest.map fun v => v.category).sum ≤ 8) (hf : cells ≤ R.cells ∧ slots ≤ R.slots) {x0 : Int} {x1 : Int} {x2 : Int} {K : Int → Prop} (r0 : InR x0) (r1 : InR x1) (r2 : InR x2) (h : w_M_w3 x0 x1 x2 K) (hdg : decode cc pc = .ok (.invokestatic 146, 3)) (kk : ∀ (r : Int) (H1 : Heap) (locs1 : List Loc), InL r → K r → va_S A H0 H1 locs1 → W p l e R s m args below meth c H1 locs1 cells slots Q (F0 m (pc + 3) ls (jV r :: rest))) : W p l e R s m args below meth c H locs cells slots Q (F0 m (pc) ls (iV x2 :: iV x1 :: iV x0 :: rest)) := p_callPl (As := [iV x0, iV x1, iV x2]) (rest := rest) hF (t_M_w3 l x0 x1 x2 K r0 r1 r2 h) (va_cwS 3 hF.2.2.2.2 (lw_S q1404 q1405 q109 q1406) rfl rfl rfl (by decide +kernel) ⟨by have h1 := hR.1; have h2 : (rmD 0 0 0).frames = 0 + 1 := rfl; omega, by have h1 := hR.2; have h2 : (rmD 0 0 0).locals = 64 * 0 + 64 := rfl; omega⟩) hI rfl hls rfl hW hdg hf kk
set_option maxHeartbeats 4000000 in
theorem t_M_w4 (l : Launch) (x0 : Int) (x1 : Int) (x2 : Int) (x3 : Int) (K : Int → Prop) (rx0 : InR x0) (rx1 : InR x1) (rx2 : InR x2) (rx3 : InR x3) (h : w_M_w4 x0 x1 x2 x3 K) : Met l yX2_w4 (ws_ yX2_w4 cX2_w4 4 (Option.some Jvm.ClassFile.FieldType.long)) (rmD 1 0 0) (va_Pc [iV x0, iV x1, iV x2, iV x3] (fun _ => True)) (va_Ql (fun r (_ : Unit) => K r.toInt) (fun _ _ => True) (fun _ => False)) 0 0 (fun _ => False) := by
  refine Met.ofW (cc := cX2_w4) (maxL := 4) (ret := (Option.some Jvm.ClassFile.FieldType.long)) (by decide) rfl ?_
  intro p e s m args below meth c s₁ B hml hv
  obtain ⟨rfl, -⟩ := hv
  have hx := B.exec
  have hb := B.bytes
  have hr := B.returns
  have hlocks := B.notSynchronized
  have hts := atoms_spec (ws := (ws_ yX2_w4 cX2_w4 4 (Option.some Jvm.ClassFile.FieldType.long))) B.pre
  have hts : ∀ w ∈ lw_all, w.before _ s = true := fun w h => hts w (List.mem_cons_of_mem _ h)
  have hown : s.vm.findClass RX2 = some m.cls := findClass_of_methodNamed B.named
  clear B
  have hI : va_S (fun _ => False) s.heap s.heap [] := va_S.rf
  have hl := lv_entry ([iV x0, iV x1, iV x2, iV x3] : List Value) (n := 4) (Nat.le_of_ble_eq_true rfl)
  rw [lg_entry_eq]
  generalize (lg_sl ([iV x0, iV x1, iV x2, iV x3] : List Value) ++ List.replicate (4 - (lg_sl ([iV x0, iV x1, iV x2, iV x3] : List Value)).length) Slot.unset).toArray = ls at hl ⊢
  have hl : lv_has ls 4 [(0, iV x0), (1, iV x1), (2, iV x2), (3, iV x3)] := hl
  have hF : CallFix p m c cX2_w4 4 s _ lw_all RX2 := ⟨hx, hb, hml, hown, hts⟩
  have hR : (headSpec (ws_ yX2_w4 cX2_w4 4 (Option.some Jvm.ClassFile.FieldType.long)) (rmD 1 0 0)).room.frames = 1 + 1 ∧ (headSpec (ws_ yX2_w4 cX2_w4 4 (Option.some Jvm.ClassFile.FieldType.long)) (rmD 1 0 0)).room.locals = 64 * 1 + 64 := ⟨rfl, rfl⟩
  generalize (headSpec (ws_ yX2_w4 cX2_w4 4 (Option.some Jvm.ClassFile.FieldType.long)) (rmD 1 0 0)).room = R at hR ⊢
  generalize ([iV x0, iV x1, iV x2, iV x3] : List Value).toArray = args at hts hF ⊢
  generalize hQ : MQ below _ _ _ _ _ _ = Q
  unfold w_M_w4 at h
  refine lv_iload_n hx hb dX2_w4_0 rfl (lv_at hl 0 rfl) ?_
  refine lv_iload_n hx hb dX2_w4_1 rfl (lv_at hl 1 rfl) ?_
  refine lv_iload_n hx hb dX2_w4_2 rfl (lv_at hl 2 rfl) ?_
  refine cqMX2_146 hF hI hl.1 hR (by decide) (Nat.le_of_ble_eq_true rfl) ⟨Nat.zero_le _, Nat.zero_le _⟩ rx0 rx1 rx2 h dX2_w4_3 (fun r1 H locs fr1 h hI => ?_)
  replace h := h fr1
  refine nr_bipush hx hb dX2_w4_6 (by decide) ?_
  have f3 := h.1; replace h := h.2
  refine nr_lshl hx hb (by decide) dX2_w4_8 ?_
  refine lv_iload_n hx hb dX2_w4_9 rfl (lv_at hl 3 rfl) ?_
  refine nr_i2l hx hb rx3 dX2_w4_10 ?_
  have f4 : InL (x3) := ni_L rx3
  refine nr_lor hx hb dX2_w4_11 ?_
  rw [← hQ]; exact p_lret (K := K) hx hb hr hlocks hI (jOr_R _ _) h dX2_w4_12
theorem cMX2_233 {p : Program} {l : Launch} {e : Env} {R : Room} {s : State} {m : MethodId} {args : Array Value} {below : List Frame} {meth : Method} {c : Code} {H : Heap} {locs : List Loc} {Q : State → Prop} {cc : ByteArray} {nL pc : Nat} {ls : Array Slot} {rest : List Value} {cells slots : Nat} {D : va_G} {dA : Nat → ClassId} {ad : Nat → Nat} {A : Nat → Prop} {H0 : Heap} {S : St} {dk : Nat} (hF : CallFix p m c cc nL s args lw_all RX2) (hK : gK D dA s) (hI : sI D dA wM ad A H0 S H locs) (hls : ls.size = nL) (hR : R.frames = dk + 1 ∧ R.locals = 64 * dk + 64) (hd : 3 + 1 ≤ dk) (hW : (rest.map fun v => v.category).sum ≤ 8) (hf : cells ≤ R.cells ∧ slots ≤ R.slots) {x1 : Int} {x2 : Int} {x3 : Int} {K : Int → St → Prop} (r1 : InR x1) (r2 : InR x2) (r3 : InR x3) (h : w_M_figure x1 x2 x3 S K) (hdg : decode cc pc = .ok (.invokevirtual 233, 3)) (kk : ∀ (r : Int) (S1 : St) (H1 : Heap) (locs1 : List Loc), InR r → K r S1 → sI D dA wM ad A H0 S1 H1 locs1 → W p l e R s m args below meth c H1 locs1 cells slots Q (F0 m (pc + 3) ls (iV r :: rest))) : W p l e R s m args below meth c H locs cells slots Q (F0 m (pc) ls (iV x3 :: iV x2 :: iV x1 :: .ref (ad 17) :: rest)) := s_callVi (As := [iV x1, iV x2, iV x3]) (rest := rest) (K := K) hF (t_M_figure l D dA ad S H.size x1 x2 x3 K r1 r2 r3 h) (s_recv hK hI 17 (by decide) wM_17 rfl) (cwV 3 hF.2.2.2.2 (lw_V q1425 q1427 qs66 q109 q1428) rfl rfl rfl (by decide +kernel) ⟨by have h1 := hR.1; have h2 : (rmD 3 0 0).frames = 3 + 1 := rfl; omega, by have h1 := hR.2; have h2 : (rmD 3 0 0).locals = 64 * 3 + 64 := rfl; omega⟩) hK hI rfl hls rfl hW hdg hf kk
theorem cMX2_173 {p : Program} {l : Launch} {e : Env} {R : Room} {s : State} {m : MethodId} {args : Array Value} {below : List Frame} {meth : Method} {c : Code} {H : Heap} {locs : List Loc} {Q : State → Prop} {cc : ByteArray} {nL pc : Nat} {ls : Array Slot} {rest : List Value} {cells slots : Nat} {D : va_G} {dA : Nat → ClassId} {ad : Nat → Nat} {A : Nat → Prop} {H0 : Heap} {S : St} {dk : Nat} (hF : CallFix p m c cc nL s args lw_all RX2) (hK : gK D dA s) (hI : sI D dA wM ad A H0 S H locs) (hls : ls.size = nL) (hR : R.frames = dk + 1 ∧ R.locals = 64 * dk + 64) (hd : 1 + 1 ≤ dk) (hW : (rest.map fun v => v.category).sum ≤ 8) (hf : cells ≤ R.cells ∧ slots ≤ R.slots) {x0 : Int} {x1 : Int} {x2 : Int} {x3 : Int} {K : Int → Prop} (r0 : InR x0) (r1 : InR x1) (r2 : InR x2) (r3 : InR x3) (h : w_M_w4 x0 x1 x2 x3 K) (hdg : decode cc pc = .ok (.invokestatic 173, 3)) (kk : ∀ (r : Int) (H1 : Heap) (locs1 : List Loc), InL r → K r → sI D dA wM ad A H0 S H1 locs1 → W p l e R s m args below meth c H1 locs1 cells slots Q (F0 m (pc + 3) ls (jV r :: rest))) : W p l e R s m args below meth c H locs cells slots Q (F0 m (pc) ls (iV x3 :: iV x2 :: iV x1 :: iV x0 :: rest)) := s_callPl (As := [iV x0, iV x1, iV x2, iV x3]) (rest := rest) hF (t_M_w4 l x0 x1 x2 x3 K r0 r1 r2 r3 h) (va_cwS 4 hF.2.2.2.2 (lw_S q1401 q1402 q109 q1403) rfl rfl rfl (by decide +kernel) ⟨by have h1 := hR.1; have h2 : (rmD 1 0 0).frames = 1 + 1 := rfl; omega, by have h1 := hR.2; have h2 : (rmD 1 0 0).locals = 64 * 1 + 64 := rfl; omega⟩) hI rfl hls rfl hW hdg hf kk
theorem cMX2_216 {p : Program} {l : Launch} {e : Env} {R : Room} {s : State} {m : MethodId} {args : Array Value} {below : List Frame} {meth : Method} {c : Code} {H : Heap} {locs : List Loc} {Q : State → Prop} {cc : ByteArray} {nL pc : Nat} {ls : Array Slot} {rest : List Value} {cells slots : Nat} {D : va_G} {dA : Nat → ClassId} {ad : Nat → Nat} {A : Nat → Prop} {H0 : Heap} {S : St} {dk : Nat} (hF : CallFix p m c cc nL s args lw_all RX2) (hK : gK D dA s) (hI : sI D dA wM ad A H0 S H locs) (hls : ls.size = nL) (hR : R.frames = dk + 1 ∧ R.locals = 64 * dk + 64) (hd : 0 + 1 ≤ dk) (hW : (rest.map fun v => v.category).sum ≤ 8) (hf : cells ≤ R.cells ∧ slots ≤ R.slots) {x1 : Int} {K : Int → Prop} (r1 : InL x1) (h : w_M_isWord x1 S K) (hdg : decode cc pc = .ok (.invokevirtual 216, 3)) (kk : ∀ (r : Int) (H1 : Heap) (locs1 : List Loc), (r = 0 ∨ r = 1) → K r → sI D dA wM ad A H0 S H1 locs1 → W p l e R s m args below meth c H1 locs1 cells slots Q (F0 m (pc + 3) ls (iV r :: rest))) : W p l e R s m args below meth c H locs cells slots Q (F0 m (pc) ls (jV x1 :: .ref (ad 17) :: rest)) := s_callVz (As := [jV x1]) (rest := rest) (K := fun r S' => S' = S ∧ K r) hF (t_M_isWord l D dA ad S H.size x1 K r1 h) (s_recv hK hI 17 (by decide) wM_17 rfl) (cwV 1 hF.2.2.2.2 (lw_V q1407 q1409 qs63 q109 q1410) rfl rfl rfl (by decide +kernel) ⟨by have h1 := hR.1; have h2 : (rmD 0 0 0).frames = 0 + 1 := rfl; omega, by have h1 := hR.2; have h2 : (rmD 0 0 0).locals = 64 * 0 + 64 := rfl; omega⟩) hK hI rfl hls rfl hW hdg hf (fun r S1 H1 locs1 f hk hI1 => by obtain ⟨rfl, hk⟩ := hk; exact kk r H1 locs1 f hk hI1)
theorem cMX2_237 {p : Program} {l : Launch} {e : Env} {R : Room} {s : State} {m : MethodId} {args : Array Value} {below : List Frame} {meth : Method} {c : Code} {H : Heap} {locs : List Loc} {Q : State → Prop} {cc : ByteArray} {nL pc : Nat} {ls : Array Slot} {rest : List Value} {cells slots : Nat} {D : va_G} {dA : Nat → ClassId} {ad : Nat → Nat} {A : Nat → Prop} {H0 : Heap} {S : St} {dk : Nat} (hF : CallFix p m c cc nL s args lw_all RX2) (hK : gK D dA s) (hI : sI D dA wM ad A H0 S H locs) (hls : ls.size = nL) (hR : R.frames = dk + 1 ∧ R.locals = 64 * dk + 64) (hd : 3 + 1 ≤ dk) (hW : (rest.map fun v => v.category).sum ≤ 8) (hf : cells ≤ R.cells ∧ slots ≤ R.slots) {x1 : Int} {K : Int → St → Prop} (r1 : InR x1) (h : w_M_step x1 S K) (hdg : decode cc pc = .ok (.invokevirtual 237, 3)) (kk : ∀ (r : Int) (S1 : St) (H1 : Heap) (locs1 : List Loc), InR r → K r S1 → sI D dA wM ad A H0 S1 H1 locs1 → W p l e R s m args below meth c H1 locs1 cells slots Q (F0 m (pc + 3) ls (iV r :: rest))) : W p l e R s m args below meth c H locs cells slots Q (F0 m (pc) ls (iV x1 :: .ref (ad 17) :: rest)) := s_callVi (As := [iV x1]) (rest := rest) (K := K) hF (t_M_step l D dA ad S H.size x1 K r1 h) (s_recv hK hI 17 (by decide) wM_17 rfl) (cwV 1 hF.2.2.2.2 (lw_V q1429 q1431 qs67 q109 q1432) rfl rfl rfl (by decide +kernel) ⟨by have h1 := hR.1; have h2 : (rmD 3 0 0).frames = 3 + 1 := rfl; omega, by have h1 := hR.2; have h2 : (rmD 3 0 0).locals = 64 * 3 + 64 := rfl; omega⟩) hK hI rfl hls rfl hW hdg hf kk
theorem gMX2_154_17 {p : Program} {l : Launch} {e : Env} {R : Room} {s : State} {m : MethodId} {args : Array Value} {below : List Frame} {meth : Method} {c : Code} {H : Heap} {locs : List Loc} {Q : State → Prop} {cc : ByteArray} {nL pc : Nat} {ls : Array Slot} {rest : List Value} {cells slots : Nat} {D : va_G} {dA : Nat → ClassId} {ad : Nat → Nat} {A : Nat → Prop} {H0 : Heap} {S : St} (hF : CallFix p m c cc nL s args lw_all RX2) (hK : gK D dA s) (hI : sI D dA wM ad A H0 S H locs) (hdg : decode cc pc = .ok (.getfield 154, 3)) (kk : InR (fI S 12) → W p l e R s m args below meth c H locs cells slots Q (F0 m (pc + 3) ls (iV (fI S 12) :: rest))) : W p l e R s m args below meth c H locs cells slots Q (F0 m (pc) ls (.ref (ad 17) :: rest)) := s_geti hF.1 hF.2.1 hF.2.2.2.2 hF.2.2.2.1 hK hI 17 (by decide) wM_17 rfl in_X2 12 (by decide) q1175 rfl 0 12 rfl (by decide) hdg (kk (kdP_R (k := 0) (by decide) (hI.1.2.2.2.1.1 12)))
set_option maxHeartbeats 4000000 in
theorem t_M_kind (l : Launch) (D : va_G) (dA : Nat → ClassId) (ad : Nat → Nat) (S : St) (sz : Nat) (x1 : Int) (K : Int → St → Prop) (rx1 : InR x1) (h : w_M_kind x1 S K) : Met l yX2_kind (ws_ yX2_kind cX2_kind 3 (Option.some Jvm.ClassFile.FieldType.int)) (rmD 4 0 0) (va_Pc [.ref (ad 17), iV x1] (sPre D dA wM ad S sz)) (va_Qi (fun r S' => K r.toInt S') (sPost D dA wM ad (wA wM ad S sz)) (wA wM ad S sz)) 0 0 (wA wM ad S sz) := by
  refine Met.ofW (cc := cX2_kind) (maxL := 3) (ret := (Option.some Jvm.ClassFile.FieldType.int)) (by decide) rfl ?_
  intro p e s m args below meth c s₁ B hml hv
  obtain ⟨rfl, hsz, hK, hC⟩ := hv
  have hx := B.exec
  have hb := B.bytes
  have hr := B.returns
  have hlocks := B.notSynchronized
  have hts := atoms_spec (ws := (ws_ yX2_kind cX2_kind 3 (Option.some Jvm.ClassFile.FieldType.int))) B.pre
  have hts : ∀ w ∈ lw_all, w.before _ s = true := fun w h => hts w (List.mem_cons_of_mem _ h)
  have hown : s.vm.findClass RX2 = some m.cls := findClass_of_methodNamed B.named
  clear B
  subst hsz
  have hI : sI D dA wM ad (wA wM ad S s.heap.size) s.heap S s.heap [] := hC.start
  clear hC
  generalize wA wM ad S s.heap.size = A at hI ⊢
  have hl := lv_entry ([.ref (ad 17), iV x1] : List Value) (n := 3) (Nat.le_of_ble_eq_true rfl)
  rw [lg_entry_eq]
  generalize (lg_sl ([.ref (ad 17), iV x1] : List Value) ++ List.replicate (3 - (lg_sl ([.ref (ad 17), iV x1] : List Value)).length) Slot.unset).toArray = ls at hl ⊢
  have hl : lv_has ls 3 [(0, .ref (ad 17)), (1, iV x1)] := hl
  have hF : CallFix p m c cX2_kind 3 s _ lw_all RX2 := ⟨hx, hb, hml, hown, hts⟩
  have hR : (headSpec (ws_ yX2_kind cX2_kind 3 (Option.some Jvm.ClassFile.FieldType.int)) (rmD 4 0 0)).room.frames = 4 + 1 ∧ (headSpec (ws_ yX2_kind cX2_kind 3 (Option.some Jvm.ClassFile.FieldType.int)) (rmD 4 0 0)).room.locals = 64 * 4 + 64 := ⟨rfl, rfl⟩
  generalize (headSpec (ws_ yX2_kind cX2_kind 3 (Option.some Jvm.ClassFile.FieldType.int)) (rmD 4 0 0)).room = R at hR ⊢
  generalize ([.ref (ad 17), iV x1] : List Value).toArray = args at hts hF ⊢
  generalize hQ : MQ below _ _ _ _ _ _ = Q
  have J120 : ∀ (x1 : Int) (x2 : Int) (S : St) (H : Heap) (locs : List Loc) (ls : Array Slot), InR x1 → InR x2 → sI D dA wM ad A s.heap S H locs → lv_has ls 3 [(0, .ref (ad 17)), (1, iV x1), (2, iV x2)] → j_M_kind_120 x1 x2 S K → W p l e R s m args below meth c H locs 0 0 Q (F0 m 120 ls []) := by
    intro x1 x2 S H locs ls rx1 rx2 hI hl h
    unfold j_M_kind_120 at h
    refine lv_iload_n hx hb dX2_kind_120 rfl (lv_at hl 2 rfl) ?_
    refine nr_if_eq hx hb rx2 dX2_kind_121 (tgt := 128) (by decide) (fun c1 => ?_) (fun c1 => ?_)
    · replace h := h.1 c1
      refine lv_aload_n hx hb dX2_kind_128 rfl (lv_at hl 0 rfl) ?_
      refine lv_iload_n hx hb dX2_kind_129 rfl (lv_at hl 1 rfl) ?_
      refine nr_iconst hx hb dX2_kind_130 ?_
      have f2 := h.1; replace h := h.2
      refine nr_iadd hx hb dX2_kind_131 ?_
      refine nr_iconst hx hb dX2_kind_132 ?_
      refine nr_bipush hx hb dX2_kind_133 (by decide) ?_
      refine cMX2_233 hF hK hI hl.1 hR (by decide) (Nat.le_of_ble_eq_true rfl) ⟨Nat.zero_le _, Nat.zero_le _⟩ f2 (by decide) (by decide) h dX2_kind_135 (fun r3 S4 H locs fr3 h hI => ?_)
      replace h := h fr3
      rw [← hQ]; exact s_iret (K := K) hx hb hr hlocks hI fr3 h dX2_kind_138
    · replace h := h.2 c1
      refine lv_iload_n hx hb dX2_kind_124 rfl (lv_at hl 2 rfl) ?_
      refine lv_goto (tgt := 138) hx hb dX2_kind_125 (by decide) ?_
      rw [← hQ]; exact s_iret (K := K) hx hb hr hlocks hI rx2 h dX2_kind_138
  have J85 : ∀ (x1 : Int) (S : St) (H : Heap) (locs : List Loc) (ls : Array Slot), InR x1 → sI D dA wM ad A s.heap S H locs → lv_has ls 3 [(0, .ref (ad 17)), (1, iV x1)] → j_M_kind_85 x1 S K → W p l e R s m args below meth c H locs 0 0 Q (F0 m 85 ls []) := by
    intro x1 S H locs ls rx1 hI hl h
    unfold j_M_kind_85 at h
    refine lv_aload_n hx hb dX2_kind_85 rfl (lv_at hl 0 rfl) ?_
    refine lv_iload_n hx hb dX2_kind_86 rfl (lv_at hl 1 rfl) ?_
    refine nr_iconst hx hb dX2_kind_87 ?_
    have f5 := h.1; replace h := h.2
    refine nr_iadd hx hb dX2_kind_88 ?_
    refine nr_iconst hx hb dX2_kind_89 ?_
    refine nr_bipush hx hb dX2_kind_90 (by decide) ?_
    refine cMX2_233 hF hK hI hl.1 hR (by decide) (Nat.le_of_ble_eq_true rfl) ⟨Nat.zero_le _, Nat.zero_le _⟩ f5 (by decide) (by decide) h dX2_kind_92 (fun r6 S7 H locs fr6 h hI => ?_)
    replace h := h fr6
    refine lv_istore_n (lv' := [(2, iV r6), (0, .ref (ad 17)), (1, iV x1)]) hx hb dX2_kind_95 rfl hl (by decide) rfl (fun ls hl => ?_)
    refine lv_iload_n hx hb dX2_kind_96 rfl (lv_at hl 0 rfl) ?_
    refine nr_if_ne hx hb fr6 dX2_kind_97 (tgt := 120) (by decide) (fun c8 => ?_) (fun c8 => ?_)
    · replace h := h.1 c8
      exact J120 x1 r6 S7 _ _ _ rx1 fr6 hI (lv_sub hl [1, 2, 0] rfl) h
    · replace h := h.2 c8
      refine lv_aload_n hx hb dX2_kind_100 rfl (lv_at hl 1 rfl) ?_
      refine lv_aload_n hx hb dX2_kind_101 rfl (lv_at hl 1 rfl) ?_
      refine nr_bipush hx hb dX2_kind_102 (by decide) ?_
      refine nr_bipush hx hb dX2_kind_104 (by decide) ?_
      refine nr_bipush hx hb dX2_kind_106 (by decide) ?_
      refine nr_bipush hx hb dX2_kind_108 (by decide) ?_
      refine cMX2_173 hF hK hI hl.1 hR (by decide) (Nat.le_of_ble_eq_true rfl) ⟨Nat.zero_le _, Nat.zero_le _⟩ (by decide) (by decide) (by decide) (by decide) h dX2_kind_110 (fun r9 H locs fr9 h hI => ?_)
      replace h := h fr9
      refine cMX2_216 hF hK hI hl.1 hR (by decide) (Nat.le_of_ble_eq_true rfl) ⟨Nat.zero_le _, Nat.zero_le _⟩ fr9 h dX2_kind_113 (fun r11 H locs fr11 h hI => ?_)
      replace h := h fr11
      have gr11 : InR r11 := kdP_R (k := 2) (by decide) fr11
      refine cMX2_237 hF hK hI hl.1 hR (by decide) (Nat.le_of_ble_eq_true rfl) ⟨Nat.zero_le _, Nat.zero_le _⟩ gr11 h dX2_kind_116 (fun r13 S14 H locs fr13 h hI => ?_)
      replace h := h fr13
      refine lv_istore_n (lv' := [(2, iV r13), (0, .ref (ad 17)), (1, iV x1)]) hx hb dX2_kind_119 rfl hl (by decide) rfl (fun ls hl => ?_)
      exact J120 x1 r13 S14 _ _ _ rx1 fr13 hI (lv_sub hl [1, 2, 0] rfl) h
  have L23 : ∀ (x1 : Int) (S : St), InR x1 → ∀ (n23 : Nat) (x2 : Int) (H : Heap) (locs : List Loc) (ls : Array Slot), InR x2 → sI D dA wM ad A s.heap S H locs → lv_has ls 3 [(0, .ref (ad 17)), (1, iV x1), (2, iV x2)] → l_M_kind_23 x1 S K (j_M_kind_85 x1 S K) n23 x2 → W p l e R s m args below meth c H locs 0 0 Q (F0 m 23 ls []) := by
    intro x1 S rx1 n23
    induction n23 with
    | zero => intro x2 H locs ls rx2 hI hl h; exact False.elim h
    | succ n23 ih23 =>
      intro x2 H locs ls rx2 hI hl h
      have J79 : ∀ (x2 : Int) (H : Heap) (locs : List Loc) (ls : Array Slot), InR x2 → sI D dA wM ad A s.heap S H locs → lv_has ls 3 [(0, .ref (ad 17)), (1, iV x1), (2, iV x2)] → j_M_kind_79 x1 x2 S K (j_M_kind_85 x1 S K) (l_M_kind_23 x1 S K (j_M_kind_85 x1 S K) n23) → W p l e R s m args below meth c H locs 0 0 Q (F0 m 79 ls []) := by
        intro x2 H locs ls rx2 hI hl h
        unfold j_M_kind_79 at h
        have f15 := h.1; replace h := h.2
        refine nr_iinc (lv' := [(2, iV (x2 + 1)), (0, .ref (ad 17)), (1, iV x1)]) hx hb dX2_kind_79 hl (k := 2) rfl (by decide) rfl (fun ls hl => ?_)
        refine lv_goto (tgt := 23) hx hb dX2_kind_82 (by decide) ?_
        exact ih23 (x2 + 1) _ _ _ f15 hI (lv_sub hl [1, 2, 0] rfl) h
      unfold l_M_kind_23 at h
      refine lv_iload_n hx hb dX2_kind_23 rfl (lv_at hl 2 rfl) ?_
      refine lv_aload_n hx hb dX2_kind_24 rfl (lv_at hl 0 rfl) ?_
      refine gMX2_16_17 hF hK hI dX2_kind_25 ?_
      refine lv_aload_n hx hb dX2_kind_28 rfl (lv_at hl 0 rfl) ?_
      refine gMX2_154_17 hF hK hI dX2_kind_29 (fun f16 => ?_)
      replace h := h f16
      have f17 := h.1; replace h := h.2
      refine s_iald hx hb hK hI 2 (by decide) wM_2 f16 f17 dX2_kind_32 (fun f18 => ?_)
      replace h := h f18
      refine nr_icmp_ge hx hb rx2 f18 dX2_kind_33 (tgt := 85) (by decide) (fun c19 => ?_) (fun c19 => ?_)
      · replace h := h.1 c19
        exact J85 x1 S _ _ _ rx1 hI (lv_sub hl [0, 1] rfl) h
      · replace h := h.2 c19
        refine lv_aload_n hx hb dX2_kind_36 rfl (lv_at hl 0 rfl) ?_
        refine gMX2_16_17 hF hK hI dX2_kind_37 ?_
        refine lv_aload_n hx hb dX2_kind_40 rfl (lv_at hl 0 rfl) ?_
        refine gMX2_154_17 hF hK hI dX2_kind_41 (fun f20 => ?_)
        refine nr_iconst hx hb dX2_kind_44 ?_
        have f21 := h.1; replace h := h.2
        refine nr_iadd hx hb dX2_kind_45 ?_
        refine nr_iconst hx hb dX2_kind_46 ?_
        refine lv_iload_n hx hb dX2_kind_47 rfl (lv_at hl 2 rfl) ?_
        have f22 := h.1; replace h := h.2
        refine nr_imul hx hb dX2_kind_48 ?_
        have f23 := h.1; replace h := h.2
        refine nr_iadd hx hb dX2_kind_49 ?_
        have f24 := h.1; replace h := h.2
        refine s_iald hx hb hK hI 2 (by decide) wM_2 f23 f24 dX2_kind_50 (fun f25 => ?_)
        replace h := h f25
        refine nr_iconst hx hb dX2_kind_51 ?_
        refine nr_icmp_ne hx hb f25 (by decide) dX2_kind_52 (tgt := 79) (by decide) (fun c26 => ?_) (fun c26 => ?_)
        · replace h := h.1 c26
          exact J79 x2 _ _ _ rx2 hI (lv_sub hl [0, 1, 2] rfl) h
        · replace h := h.2 c26
          refine lv_aload_n hx hb dX2_kind_55 rfl (lv_at hl 0 rfl) ?_
          refine gMX2_16_17 hF hK hI dX2_kind_56 ?_
          refine lv_aload_n hx hb dX2_kind_59 rfl (lv_at hl 0 rfl) ?_
          refine gMX2_154_17 hF hK hI dX2_kind_60 (fun f27 => ?_)
          refine nr_iconst hx hb dX2_kind_63 ?_
          have f28 := h.1; replace h := h.2
          refine nr_iadd hx hb dX2_kind_64 ?_
          refine nr_iconst hx hb dX2_kind_65 ?_
          refine lv_iload_n hx hb dX2_kind_66 rfl (lv_at hl 2 rfl) ?_
          refine nr_imul hx hb dX2_kind_67 ?_
          have f29 := h.1; replace h := h.2
          refine nr_iadd hx hb dX2_kind_68 ?_
          have f30 := h.1; replace h := h.2
          refine s_iald hx hb hK hI 2 (by decide) wM_2 f29 f30 dX2_kind_69 (fun f31 => ?_)
          replace h := h f31
          refine lv_aload_n hx hb dX2_kind_70 rfl (lv_at hl 0 rfl) ?_
          refine gMX2_135_17 hF hK hI dX2_kind_71 (fun f32 => ?_)
          replace h := h f32
          refine nr_icmp_ne hx hb f31 f32 dX2_kind_74 (tgt := 79) (by decide) (fun c33 => ?_) (fun c33 => ?_)
          · replace h := h.1 c33
            exact J79 x2 _ _ _ rx2 hI (lv_sub hl [0, 1, 2] rfl) h
          · replace h := h.2 c33
            refine nr_iconst hx hb dX2_kind_77 ?_
            rw [← hQ]; exact s_iret (K := K) hx hb hr hlocks hI (by decide) h dX2_kind_78
  unfold w_M_kind at h
  refine lv_aload_n hx hb dX2_kind_0 rfl (lv_at hl 0 rfl) ?_
  refine gMX2_129_17 hF hK hI dX2_kind_1 (fun f34 => ?_)
  replace h := h f34
  refine nr_iconst hx hb dX2_kind_4 ?_
  refine nr_icmp_ne hx hb f34 (by decide) dX2_kind_5 (tgt := 85) (by decide) (fun c35 => ?_) (fun c35 => ?_)
  · replace h := h.1 c35
    exact J85 x1 S _ _ _ rx1 hI (lv_sub hl [0, 1] rfl) h
  · replace h := h.2 c35
    refine lv_aload_n hx hb dX2_kind_8 rfl (lv_at hl 0 rfl) ?_
    refine gMX2_135_17 hF hK hI dX2_kind_9 (fun f36 => ?_)
    replace h := h f36
    refine nr_iconst hx hb dX2_kind_12 ?_
    refine nr_bipush hx hb dX2_kind_13 (by decide) ?_
    refine cMX2_75 hF hK hI hl.1 hR (by decide) (Nat.le_of_ble_eq_true rfl) ⟨Nat.zero_le _, Nat.zero_le _⟩ f36 (by decide) (by decide) h dX2_kind_15 (fun r37 H locs fr37 h hI => ?_)
    replace h := h fr37
    have gr37 : InR r37 := kdP_R (k := 2) (by decide) fr37
    refine nr_if_eq hx hb gr37 dX2_kind_18 (tgt := 85) (by decide) (fun c39 => ?_) (fun c39 => ?_)
    · replace h := h.1 c39
      exact J85 x1 S _ _ _ rx1 hI (lv_sub hl [0, 1] rfl) h
    · replace h := h.2 c39
      refine nr_iconst hx hb dX2_kind_21 ?_
      refine lv_istore_n (lv' := [(2, iV 0), (0, .ref (ad 17)), (1, iV x1)]) hx hb dX2_kind_22 rfl hl (by decide) rfl (fun ls hl => ?_)
      obtain ⟨n0, h⟩ := h
      exact L23 x1 S rx1 n0 0 _ _ _ (by decide) hI (lv_sub hl [1, 2, 0] rfl) h
theorem cMX2_146 {p : Program} {l : Launch} {e : Env} {R : Room} {s : State} {m : MethodId} {args : Array Value} {below : List Frame} {meth : Method} {c : Code} {H : Heap} {locs : List Loc} {Q : State → Prop} {cc : ByteArray} {nL pc : Nat} {ls : Array Slot} {rest : List Value} {cells slots : Nat} {D : va_G} {dA : Nat → ClassId} {ad : Nat → Nat} {A : Nat → Prop} {H0 : Heap} {S : St} {dk : Nat} (hF : CallFix p m c cc nL s args lw_all RX2) (hK : gK D dA s) (hI : sI D dA wM ad A H0 S H locs) (hls : ls.size = nL) (hR : R.frames = dk + 1 ∧ R.locals = 64 * dk + 64) (hd : 0 + 1 ≤ dk) (hW : (rest.map fun v => v.category).sum ≤ 8) (hf : cells ≤ R.cells ∧ slots ≤ R.slots) {x0 : Int} {x1 : Int} {x2 : Int} {K : Int → Prop} (r0 : InR x0) (r1 : InR x1) (r2 : InR x2) (h : w_M_w3 x0 x1 x2 K) (hdg : decode cc pc = .ok (.invokestatic 146, 3)) (kk : ∀ (r : Int) (H1 : Heap) (locs1 : List Loc), InL r → K r → sI D dA wM ad A H0 S H1 locs1 → W p l e R s m args below meth c H1 locs1 cells slots Q (F0 m (pc + 3) ls (jV r :: rest))) : W p l e R s m args below meth c H locs cells slots Q (F0 m (pc) ls (iV x2 :: iV x1 :: iV x0 :: rest)) := s_callPl (As := [iV x0, iV x1, iV x2]) (rest := rest) hF (t_M_w3 l x0 x1 x2 K r0 r1 r2 h) (va_cwS 3 hF.2.2.2.2 (lw_S q1404 q1405 q109 q1406) rfl rfl rfl (by decide +kernel) ⟨by have h1 := hR.1; have h2 : (rmD 0 0 0).frames = 0 + 1 := rfl; omega, by have h1 := hR.2; have h2 : (rmD 0 0 0).locals = 64 * 0 + 64 := rfl; omega⟩) hI rfl hls rfl hW hdg hf kk
theorem cMX2_241 {p : Program} {l : Launch} {e : Env} {R : Room} {s : State} {m : MethodId} {args : Array Value} {below : List Frame} {meth : Method} {c : Code} {H : Heap} {locs : List Loc} {Q : State → Prop} {cc : ByteArray} {nL pc : Nat} {ls : Array Slot} {rest : List Value} {cells slots : Nat} {D : va_G} {dA : Nat → ClassId} {ad : Nat → Nat} {A : Nat → Prop} {H0 : Heap} {S : St} {dk : Nat} (hF : CallFix p m c cc nL s args lw_all RX2) (hK : gK D dA s) (hI : sI D dA wM ad A H0 S H locs) (hls : ls.size = nL) (hR : R.frames = dk + 1 ∧ R.locals = 64 * dk + 64) (hd : 0 + 1 ≤ dk) (hW : (rest.map fun v => v.category).sum ≤ 8) (hf : cells ≤ R.cells ∧ slots ≤ R.slots) {K : Int → Prop} (h : w_M_isTo S K) (hdg : decode cc pc = .ok (.invokevirtual 241, 3)) (kk : ∀ (r : Int) (H1 : Heap) (locs1 : List Loc), (r = 0 ∨ r = 1) → K r → sI D dA wM ad A H0 S H1 locs1 → W p l e R s m args below meth c H1 locs1 cells slots Q (F0 m (pc + 3) ls (iV r :: rest))) : W p l e R s m args below meth c H locs cells slots Q (F0 m (pc) ls (.ref (ad 17) :: rest)) := s_callVz (As := []) (rest := rest) (K := fun r S' => S' = S ∧ K r) hF (t_M_isTo l D dA ad S H.size K h) (s_recv hK hI 17 (by decide) wM_17 rfl) (cwV 0 hF.2.2.2.2 (lw_V q1437 q1439 qs69 q109 q1440) rfl rfl rfl (by decide +kernel) ⟨by have h1 := hR.1; have h2 : (rmD 0 0 0).frames = 0 + 1 := rfl; omega, by have h1 := hR.2; have h2 : (rmD 0 0 0).locals = 64 * 0 + 64 := rfl; omega⟩) hK hI rfl hls rfl hW hdg hf (fun r S1 H1 locs1 f hk hI1 => by obtain ⟨rfl, hk⟩ := hk; exact kk r H1 locs1 f hk hI1)
set_option maxHeartbeats 4000000 in
theorem t_M_lent (l : Launch) (D : va_G) (dA : Nat → ClassId) (ad : Nat → Nat) (S : St) (sz : Nat) (x1 : Int) (K : Int → St → Prop) (rx1 : InR x1) (h : w_M_lent x1 S K) : Met l yX2_lent (ws_ yX2_lent cX2_lent 3 (Option.some Jvm.ClassFile.FieldType.int)) (rmD 4 0 0) (va_Pc [.ref (ad 17), iV x1] (sPre D dA wM ad S sz)) (va_Qi (fun r S' => K r.toInt S') (sPost D dA wM ad (wA wM ad S sz)) (wA wM ad S sz)) 0 0 (wA wM ad S sz) := by
  refine Met.ofW (cc := cX2_lent) (maxL := 3) (ret := (Option.some Jvm.ClassFile.FieldType.int)) (by decide) rfl ?_
  intro p e s m args below meth c s₁ B hml hv
  obtain ⟨rfl, hsz, hK, hC⟩ := hv
  have hx := B.exec
  have hb := B.bytes
  have hr := B.returns
  have hlocks := B.notSynchronized
  have hts := atoms_spec (ws := (ws_ yX2_lent cX2_lent 3 (Option.some Jvm.ClassFile.FieldType.int))) B.pre
  have hts : ∀ w ∈ lw_all, w.before _ s = true := fun w h => hts w (List.mem_cons_of_mem _ h)
  have hown : s.vm.findClass RX2 = some m.cls := findClass_of_methodNamed B.named
  clear B
  subst hsz
  have hI : sI D dA wM ad (wA wM ad S s.heap.size) s.heap S s.heap [] := hC.start
  clear hC
  generalize wA wM ad S s.heap.size = A at hI ⊢
  have hl := lv_entry ([.ref (ad 17), iV x1] : List Value) (n := 3) (Nat.le_of_ble_eq_true rfl)
  rw [lg_entry_eq]
  generalize (lg_sl ([.ref (ad 17), iV x1] : List Value) ++ List.replicate (3 - (lg_sl ([.ref (ad 17), iV x1] : List Value)).length) Slot.unset).toArray = ls at hl ⊢
  have hl : lv_has ls 3 [(0, .ref (ad 17)), (1, iV x1)] := hl
  have hF : CallFix p m c cX2_lent 3 s _ lw_all RX2 := ⟨hx, hb, hml, hown, hts⟩
  have hR : (headSpec (ws_ yX2_lent cX2_lent 3 (Option.some Jvm.ClassFile.FieldType.int)) (rmD 4 0 0)).room.frames = 4 + 1 ∧ (headSpec (ws_ yX2_lent cX2_lent 3 (Option.some Jvm.ClassFile.FieldType.int)) (rmD 4 0 0)).room.locals = 64 * 4 + 64 := ⟨rfl, rfl⟩
  generalize (headSpec (ws_ yX2_lent cX2_lent 3 (Option.some Jvm.ClassFile.FieldType.int)) (rmD 4 0 0)).room = R at hR ⊢
  generalize ([.ref (ad 17), iV x1] : List Value).toArray = args at hts hF ⊢
  generalize hQ : MQ below _ _ _ _ _ _ = Q
  have J61 : ∀ (x1 : Int) (x2 : Int) (S : St) (H : Heap) (locs : List Loc) (ls : Array Slot), InR x1 → InR x2 → sI D dA wM ad A s.heap S H locs → lv_has ls 3 [(0, .ref (ad 17)), (1, iV x1), (2, iV x2)] → j_M_lent_61 x1 x2 S K → W p l e R s m args below meth c H locs 0 0 Q (F0 m 61 ls []) := by
    intro x1 x2 S H locs ls rx1 rx2 hI hl h
    unfold j_M_lent_61 at h
    refine lv_iload_n hx hb dX2_lent_61 rfl (lv_at hl 2 rfl) ?_
    refine nr_if_eq hx hb rx2 dX2_lent_62 (tgt := 69) (by decide) (fun c1 => ?_) (fun c1 => ?_)
    · replace h := h.1 c1
      refine lv_aload_n hx hb dX2_lent_69 rfl (lv_at hl 0 rfl) ?_
      refine lv_iload_n hx hb dX2_lent_70 rfl (lv_at hl 1 rfl) ?_
      refine nr_iconst hx hb dX2_lent_71 ?_
      have f2 := h.1; replace h := h.2
      refine nr_iadd hx hb dX2_lent_72 ?_
      refine nr_iconst hx hb dX2_lent_73 ?_
      refine nr_bipush hx hb dX2_lent_74 (by decide) ?_
      refine cMX2_233 hF hK hI hl.1 hR (by decide) (Nat.le_of_ble_eq_true rfl) ⟨Nat.zero_le _, Nat.zero_le _⟩ f2 (by decide) (by decide) h dX2_lent_76 (fun r3 S4 H locs fr3 h hI => ?_)
      replace h := h fr3
      rw [← hQ]; exact s_iret (K := K) hx hb hr hlocks hI fr3 h dX2_lent_79
    · replace h := h.2 c1
      refine lv_iload_n hx hb dX2_lent_65 rfl (lv_at hl 2 rfl) ?_
      refine lv_goto (tgt := 79) hx hb dX2_lent_66 (by decide) ?_
      rw [← hQ]; exact s_iret (K := K) hx hb hr hlocks hI rx2 h dX2_lent_79
  have J39 : ∀ (x1 : Int) (x2 : Int) (S : St) (H : Heap) (locs : List Loc) (ls : Array Slot), InR x1 → InR x2 → sI D dA wM ad A s.heap S H locs → lv_has ls 3 [(0, .ref (ad 17)), (1, iV x1), (2, iV x2)] → j_M_lent_39 x1 x2 S K → W p l e R s m args below meth c H locs 0 0 Q (F0 m 39 ls []) := by
    intro x1 x2 S H locs ls rx1 rx2 hI hl h
    unfold j_M_lent_39 at h
    refine lv_iload_n hx hb dX2_lent_39 rfl (lv_at hl 2 rfl) ?_
    refine nr_if_ne hx hb rx2 dX2_lent_40 (tgt := 61) (by decide) (fun c5 => ?_) (fun c5 => ?_)
    · replace h := h.1 c5
      exact J61 x1 x2 S _ _ _ rx1 rx2 hI (lv_sub hl [0, 1, 2] rfl) h
    · replace h := h.2 c5
      refine lv_aload_n hx hb dX2_lent_43 rfl (lv_at hl 0 rfl) ?_
      refine lv_aload_n hx hb dX2_lent_44 rfl (lv_at hl 0 rfl) ?_
      refine nr_bipush hx hb dX2_lent_45 (by decide) ?_
      refine nr_bipush hx hb dX2_lent_47 (by decide) ?_
      refine nr_bipush hx hb dX2_lent_49 (by decide) ?_
      refine cMX2_146 hF hK hI hl.1 hR (by decide) (Nat.le_of_ble_eq_true rfl) ⟨Nat.zero_le _, Nat.zero_le _⟩ (by decide) (by decide) (by decide) h dX2_lent_51 (fun r6 H locs fr6 h hI => ?_)
      replace h := h fr6
      refine cMX2_216 hF hK hI hl.1 hR (by decide) (Nat.le_of_ble_eq_true rfl) ⟨Nat.zero_le _, Nat.zero_le _⟩ fr6 h dX2_lent_54 (fun r8 H locs fr8 h hI => ?_)
      replace h := h fr8
      have gr8 : InR r8 := kdP_R (k := 2) (by decide) fr8
      refine cMX2_237 hF hK hI hl.1 hR (by decide) (Nat.le_of_ble_eq_true rfl) ⟨Nat.zero_le _, Nat.zero_le _⟩ gr8 h dX2_lent_57 (fun r10 S11 H locs fr10 h hI => ?_)
      replace h := h fr10
      refine lv_istore_n (lv' := [(2, iV r10), (0, .ref (ad 17)), (1, iV x1)]) hx hb dX2_lent_60 rfl hl (by decide) rfl (fun ls hl => ?_)
      exact J61 x1 r10 S11 _ _ _ rx1 fr10 hI (lv_sub hl [1, 2, 0] rfl) h
  have J24 : ∀ (x1 : Int) (x2 : Int) (S : St) (H : Heap) (locs : List Loc) (ls : Array Slot), InR x1 → InR x2 → sI D dA wM ad A s.heap S H locs → lv_has ls 3 [(0, .ref (ad 17)), (1, iV x1), (2, iV x2)] → j_M_lent_24 x1 x2 S K → W p l e R s m args below meth c H locs 0 0 Q (F0 m 24 ls []) := by
    intro x1 x2 S H locs ls rx1 rx2 hI hl h
    unfold j_M_lent_24 at h
    refine lv_iload_n hx hb dX2_lent_24 rfl (lv_at hl 2 rfl) ?_
    refine nr_if_ne hx hb rx2 dX2_lent_25 (tgt := 39) (by decide) (fun c12 => ?_) (fun c12 => ?_)
    · replace h := h.1 c12
      exact J39 x1 x2 S _ _ _ rx1 rx2 hI (lv_sub hl [0, 1, 2] rfl) h
    · replace h := h.2 c12
      refine lv_aload_n hx hb dX2_lent_28 rfl (lv_at hl 0 rfl) ?_
      refine lv_iload_n hx hb dX2_lent_29 rfl (lv_at hl 1 rfl) ?_
      refine nr_iconst hx hb dX2_lent_30 ?_
      have f13 := h.1; replace h := h.2
      refine nr_iadd hx hb dX2_lent_31 ?_
      refine nr_iconst hx hb dX2_lent_32 ?_
      refine nr_bipush hx hb dX2_lent_33 (by decide) ?_
      refine cMX2_233 hF hK hI hl.1 hR (by decide) (Nat.le_of_ble_eq_true rfl) ⟨Nat.zero_le _, Nat.zero_le _⟩ f13 (by decide) (by decide) h dX2_lent_35 (fun r14 S15 H locs fr14 h hI => ?_)
      replace h := h fr14
      refine lv_istore_n (lv' := [(2, iV r14), (0, .ref (ad 17)), (1, iV x1)]) hx hb dX2_lent_38 rfl hl (by decide) rfl (fun ls hl => ?_)
      exact J39 x1 r14 S15 _ _ _ rx1 fr14 hI (lv_sub hl [1, 2, 0] rfl) h
  unfold w_M_lent at h
  refine lv_aload_n hx hb dX2_lent_0 rfl (lv_at hl 0 rfl) ?_
  refine lv_iload_n hx hb dX2_lent_1 rfl (lv_at hl 1 rfl) ?_
  refine nr_iconst hx hb dX2_lent_2 ?_
  have f16 := h.1; replace h := h.2
  refine nr_iadd hx hb dX2_lent_3 ?_
  refine nr_iconst hx hb dX2_lent_4 ?_
  refine nr_bipush hx hb dX2_lent_5 (by decide) ?_
  refine cMX2_233 hF hK hI hl.1 hR (by decide) (Nat.le_of_ble_eq_true rfl) ⟨Nat.zero_le _, Nat.zero_le _⟩ f16 (by decide) (by decide) h dX2_lent_7 (fun r17 S18 H locs fr17 h hI => ?_)
  replace h := h fr17
  refine lv_istore_n (lv' := [(2, iV r17), (0, .ref (ad 17)), (1, iV x1)]) hx hb dX2_lent_10 rfl hl (by decide) rfl (fun ls hl => ?_)
  refine lv_iload_n hx hb dX2_lent_11 rfl (lv_at hl 0 rfl) ?_
  refine nr_if_ne hx hb fr17 dX2_lent_12 (tgt := 24) (by decide) (fun c19 => ?_) (fun c19 => ?_)
  · replace h := h.1 c19
    exact J24 x1 r17 S18 _ _ _ rx1 fr17 hI (lv_sub hl [1, 2, 0] rfl) h
  · replace h := h.2 c19
    refine lv_aload_n hx hb dX2_lent_15 rfl (lv_at hl 1 rfl) ?_
    refine lv_aload_n hx hb dX2_lent_16 rfl (lv_at hl 1 rfl) ?_
    refine cMX2_241 hF hK hI hl.1 hR (by decide) (Nat.le_of_ble_eq_true rfl) ⟨Nat.zero_le _, Nat.zero_le _⟩ h dX2_lent_17 (fun r20 H locs fr20 h hI => ?_)
    replace h := h fr20
    have gr20 : InR r20 := kdP_R (k := 2) (by decide) fr20
    refine cMX2_237 hF hK hI hl.1 hR (by decide) (Nat.le_of_ble_eq_true rfl) ⟨Nat.zero_le _, Nat.zero_le _⟩ gr20 h dX2_lent_20 (fun r22 S23 H locs fr22 h hI => ?_)
    replace h := h fr22
    refine lv_istore_n (lv' := [(2, iV r22), (0, .ref (ad 17)), (1, iV x1)]) hx hb dX2_lent_23 rfl hl (by decide) rfl (fun ls hl => ?_)
    exact J24 x1 r22 S23 _ _ _ rx1 fr22 hI (lv_sub hl [1, 2, 0] rfl) h
theorem cMX2_247 {p : Program} {l : Launch} {e : Env} {R : Room} {s : State} {m : MethodId} {args : Array Value} {below : List Frame} {meth : Method} {c : Code} {H : Heap} {locs : List Loc} {Q : State → Prop} {cc : ByteArray} {nL pc : Nat} {ls : Array Slot} {rest : List Value} {cells slots : Nat} {D : va_G} {dA : Nat → ClassId} {ad : Nat → Nat} {A : Nat → Prop} {H0 : Heap} {S : St} {dk : Nat} (hF : CallFix p m c cc nL s args lw_all RX2) (hK : gK D dA s) (hI : sI D dA wM ad A H0 S H locs) (hls : ls.size = nL) (hR : R.frames = dk + 1 ∧ R.locals = 64 * dk + 64) (hd : 4 + 1 ≤ dk) (hW : (rest.map fun v => v.category).sum ≤ 8) (hf : cells ≤ R.cells ∧ slots ≤ R.slots) {x1 : Int} {K : Int → St → Prop} (r1 : InR x1) (h : w_M_lent x1 S K) (hdg : decode cc pc = .ok (.invokevirtual 247, 3)) (kk : ∀ (r : Int) (S1 : St) (H1 : Heap) (locs1 : List Loc), InR r → K r S1 → sI D dA wM ad A H0 S1 H1 locs1 → W p l e R s m args below meth c H1 locs1 cells slots Q (F0 m (pc + 3) ls (iV r :: rest))) : W p l e R s m args below meth c H locs cells slots Q (F0 m (pc) ls (iV x1 :: .ref (ad 17) :: rest)) := s_callVi (As := [iV x1]) (rest := rest) (K := K) hF (t_M_lent l D dA ad S H.size x1 K r1 h) (s_recv hK hI 17 (by decide) wM_17 rfl) (cwV 1 hF.2.2.2.2 (lw_V q1433 q1435 qs68 q109 q1436) rfl rfl rfl (by decide +kernel) ⟨by have h1 := hR.1; have h2 : (rmD 4 0 0).frames = 4 + 1 := rfl; omega, by have h1 := hR.2; have h2 : (rmD 4 0 0).locals = 64 * 4 + 64 := rfl; omega⟩) hK hI rfl hls rfl hW hdg hf kk
theorem cMX2_244 {p : Program} {l : Launch} {e : Env} {R : Room} {s : State} {m : MethodId} {args : Array Value} {below : List Frame} {meth : Method} {c : Code} {H : Heap} {locs : List Loc} {Q : State → Prop} {cc : ByteArray} {nL pc : Nat} {ls : Array Slot} {rest : List Value} {cells slots : Nat} {D : va_G} {dA : Nat → ClassId} {ad : Nat → Nat} {A : Nat → Prop} {H0 : Heap} {S : St} {dk : Nat} (hF : CallFix p m c cc nL s args lw_all RX2) (hK : gK D dA s) (hI : sI D dA wM ad A H0 S H locs) (hls : ls.size = nL) (hR : R.frames = dk + 1 ∧ R.locals = 64 * dk + 64) (hd : 4 + 1 ≤ dk) (hW : (rest.map fun v => v.category).sum ≤ 8) (hf : cells ≤ R.cells ∧ slots ≤ R.slots) {x1 : Int} {K : Int → St → Prop} (r1 : InR x1) (h : w_M_kind x1 S K) (hdg : decode cc pc = .ok (.invokevirtual 244, 3)) (kk : ∀ (r : Int) (S1 : St) (H1 : Heap) (locs1 : List Loc), InR r → K r S1 → sI D dA wM ad A H0 S1 H1 locs1 → W p l e R s m args below meth c H1 locs1 cells slots Q (F0 m (pc + 3) ls (iV r :: rest))) : W p l e R s m args below meth c H locs cells slots Q (F0 m (pc) ls (iV x1 :: .ref (ad 17) :: rest)) := s_callVi (As := [iV x1]) (rest := rest) (K := K) hF (t_M_kind l D dA ad S H.size x1 K r1 h) (s_recv hK hI 17 (by decide) wM_17 rfl) (cwV 1 hF.2.2.2.2 (lw_V q1421 q1423 qs65 q109 q1424) rfl rfl rfl (by decide +kernel) ⟨by have h1 := hR.1; have h2 : (rmD 4 0 0).frames = 4 + 1 := rfl; omega, by have h1 := hR.2; have h2 : (rmD 4 0 0).locals = 64 * 4 + 64 := rfl; omega⟩) hK hI rfl hls rfl hW hdg hf kk
set_option maxHeartbeats 4000000 in
theorem t_M_done (l : Launch) (D : va_G) (dA : Nat → ClassId) (ad : Nat → Nat) (S : St) (sz : Nat) (x1 : Int) (x2 : Int) (K : Int → St → Prop) (rx1 : InR x1) (rx2 : InR x2) (h : w_M_done x1 x2 S K) : Met l yX2_done (ws_ yX2_done cX2_done 4 (Option.some Jvm.ClassFile.FieldType.int)) (rmD 5 0 0) (va_Pc [.ref (ad 17), iV x1, iV x2] (sPre D dA wM ad S sz)) (va_Qi (fun r S' => K r.toInt S') (sPost D dA wM ad (wA wM ad S sz)) (wA wM ad S sz)) 0 0 (wA wM ad S sz) := by
  refine Met.ofW (cc := cX2_done) (maxL := 4) (ret := (Option.some Jvm.ClassFile.FieldType.int)) (by decide) rfl ?_
  intro p e s m args below meth c s₁ B hml hv
  obtain ⟨rfl, hsz, hK, hC⟩ := hv
  have hx := B.exec
  have hb := B.bytes
  have hr := B.returns
  have hlocks := B.notSynchronized
  have hts := atoms_spec (ws := (ws_ yX2_done cX2_done 4 (Option.some Jvm.ClassFile.FieldType.int))) B.pre
  have hts : ∀ w ∈ lw_all, w.before _ s = true := fun w h => hts w (List.mem_cons_of_mem _ h)
  have hown : s.vm.findClass RX2 = some m.cls := findClass_of_methodNamed B.named
  clear B
  subst hsz
  have hI : sI D dA wM ad (wA wM ad S s.heap.size) s.heap S s.heap [] := hC.start
  clear hC
  generalize wA wM ad S s.heap.size = A at hI ⊢
  have hl := lv_entry ([.ref (ad 17), iV x1, iV x2] : List Value) (n := 4) (Nat.le_of_ble_eq_true rfl)
  rw [lg_entry_eq]
  generalize (lg_sl ([.ref (ad 17), iV x1, iV x2] : List Value) ++ List.replicate (4 - (lg_sl ([.ref (ad 17), iV x1, iV x2] : List Value)).length) Slot.unset).toArray = ls at hl ⊢
  have hl : lv_has ls 4 [(0, .ref (ad 17)), (1, iV x1), (2, iV x2)] := hl
  have hF : CallFix p m c cX2_done 4 s _ lw_all RX2 := ⟨hx, hb, hml, hown, hts⟩
  have hR : (headSpec (ws_ yX2_done cX2_done 4 (Option.some Jvm.ClassFile.FieldType.int)) (rmD 5 0 0)).room.frames = 5 + 1 ∧ (headSpec (ws_ yX2_done cX2_done 4 (Option.some Jvm.ClassFile.FieldType.int)) (rmD 5 0 0)).room.locals = 64 * 5 + 64 := ⟨rfl, rfl⟩
  generalize (headSpec (ws_ yX2_done cX2_done 4 (Option.some Jvm.ClassFile.FieldType.int)) (rmD 5 0 0)).room = R at hR ⊢
  generalize ([.ref (ad 17), iV x1, iV x2] : List Value).toArray = args at hts hF ⊢
  generalize hQ : MQ below _ _ _ _ _ _ = Q
  have J103 : ∀ (x1 : Int) (x2 : Int) (x3 : Int) (S : St) (H : Heap) (locs : List Loc) (ls : Array Slot), InR x1 → InR x2 → InR x3 → sI D dA wM ad A s.heap S H locs → lv_has ls 4 [(0, .ref (ad 17)), (1, iV x1), (2, iV x2), (3, iV x3)] → j_M_done_103 x1 x2 x3 S K → W p l e R s m args below meth c H locs 0 0 Q (F0 m 103 ls []) := by
    intro x1 x2 x3 S H locs ls rx1 rx2 rx3 hI hl h
    unfold j_M_done_103 at h
    refine lv_iload_n hx hb dX2_done_103 rfl (lv_at hl 3 rfl) ?_
    refine nr_if_eq hx hb rx3 dX2_done_104 (tgt := 111) (by decide) (fun c1 => ?_) (fun c1 => ?_)
    · replace h := h.1 c1
      refine lv_aload_n hx hb dX2_done_111 rfl (lv_at hl 0 rfl) ?_
      refine lv_iload_n hx hb dX2_done_112 rfl (lv_at hl 1 rfl) ?_
      refine nr_iconst hx hb dX2_done_113 ?_
      have f2 := h.1; replace h := h.2
      refine nr_iadd hx hb dX2_done_114 ?_
      refine nr_iconst hx hb dX2_done_115 ?_
      refine lv_iload_n hx hb dX2_done_116 rfl (lv_at hl 2 rfl) ?_
      refine nr_iconst hx hb dX2_done_117 ?_
      refine nr_icmp_ne hx hb rx2 (by decide) dX2_done_118 (tgt := 126) (by decide) (fun c3 => ?_) (fun c3 => ?_)
      · replace h := h.1 c3
        refine nr_bipush hx hb dX2_done_126 (by decide) ?_
        refine cMX2_233 hF hK hI hl.1 hR (by decide) (Nat.le_of_ble_eq_true rfl) ⟨Nat.zero_le _, Nat.zero_le _⟩ f2 (by decide) (by decide) h dX2_done_128 (fun r4 S5 H locs fr4 h hI => ?_)
        replace h := h fr4
        rw [← hQ]; exact s_iret (K := K) hx hb hr hlocks hI fr4 h dX2_done_131
      · replace h := h.2 c3
        refine nr_bipush hx hb dX2_done_121 (by decide) ?_
        refine lv_goto (tgt := 128) hx hb dX2_done_123 (by decide) ?_
        refine cMX2_233 hF hK hI hl.1 hR (by decide) (Nat.le_of_ble_eq_true rfl) ⟨Nat.zero_le _, Nat.zero_le _⟩ f2 (by decide) (by decide) h dX2_done_128 (fun r6 S7 H locs fr6 h hI => ?_)
        replace h := h fr6
        rw [← hQ]; exact s_iret (K := K) hx hb hr hlocks hI fr6 h dX2_done_131
    · replace h := h.2 c1
      refine lv_iload_n hx hb dX2_done_107 rfl (lv_at hl 3 rfl) ?_
      refine lv_goto (tgt := 131) hx hb dX2_done_108 (by decide) ?_
      rw [← hQ]; exact s_iret (K := K) hx hb hr hlocks hI rx3 h dX2_done_131
  have J99 : ∀ (x1 : Int) (x2 : Int) (y1 : Int) (S : St) (H : Heap) (locs : List Loc) (ls : Array Slot), InR x1 → InR x2 → InR y1 → sI D dA wM ad A s.heap S H locs → lv_has ls 4 [(0, .ref (ad 17)), (1, iV x1), (2, iV x2)] → j_M_done_99 x1 x2 y1 S K → W p l e R s m args below meth c H locs 0 0 Q (F0 m 99 ls [iV y1, .ref (ad 17)]) := by
    intro x1 x2 y1 S H locs ls rx1 rx2 ry1 hI hl h
    unfold j_M_done_99 at h
    refine cMX2_237 hF hK hI hl.1 hR (by decide) (Nat.le_of_ble_eq_true rfl) ⟨Nat.zero_le _, Nat.zero_le _⟩ ry1 h dX2_done_99 (fun r8 S9 H locs fr8 h hI => ?_)
    replace h := h fr8
    refine lv_istore_n (lv' := [(3, iV r8), (0, .ref (ad 17)), (1, iV x1), (2, iV x2)]) hx hb dX2_done_102 rfl hl (by decide) rfl (fun ls hl => ?_)
    exact J103 x1 x2 r8 S9 _ _ _ rx1 rx2 fr8 hI (lv_sub hl [1, 2, 3, 0] rfl) h
  have J34 : ∀ (x1 : Int) (x2 : Int) (S : St) (H : Heap) (locs : List Loc) (ls : Array Slot), InR x1 → InR x2 → sI D dA wM ad A s.heap S H locs → lv_has ls 4 [(0, .ref (ad 17)), (1, iV x1), (2, iV x2)] → j_M_done_34 x1 x2 S K → W p l e R s m args below meth c H locs 0 0 Q (F0 m 34 ls []) := by
    intro x1 x2 S H locs ls rx1 rx2 hI hl h
    unfold j_M_done_34 at h
    refine lv_aload_n hx hb dX2_done_34 rfl (lv_at hl 0 rfl) ?_
    refine lv_iload_n hx hb dX2_done_35 rfl (lv_at hl 1 rfl) ?_
    refine nr_iconst hx hb dX2_done_36 ?_
    have f10 := h.1; replace h := h.2
    refine nr_iadd hx hb dX2_done_37 ?_
    refine nr_iconst hx hb dX2_done_38 ?_
    refine lv_iload_n hx hb dX2_done_39 rfl (lv_at hl 2 rfl) ?_
    refine nr_bipush hx hb dX2_done_40 (by decide) ?_
    refine nr_icmp_ne hx hb rx2 (by decide) dX2_done_42 (tgt := 50) (by decide) (fun c11 => ?_) (fun c11 => ?_)
    · replace h := h.1 c11
      refine nr_bipush hx hb dX2_done_50 (by decide) ?_
      refine cMX2_233 hF hK hI hl.1 hR (by decide) (Nat.le_of_ble_eq_true rfl) ⟨Nat.zero_le _, Nat.zero_le _⟩ f10 (by decide) (by decide) h dX2_done_52 (fun r12 S13 H locs fr12 h hI => ?_)
      replace h := h fr12
      rw [← hQ]; exact s_iret (K := K) hx hb hr hlocks hI fr12 h dX2_done_55
    · replace h := h.2 c11
      refine nr_bipush hx hb dX2_done_45 (by decide) ?_
      refine lv_goto (tgt := 52) hx hb dX2_done_47 (by decide) ?_
      refine cMX2_233 hF hK hI hl.1 hR (by decide) (Nat.le_of_ble_eq_true rfl) ⟨Nat.zero_le _, Nat.zero_le _⟩ f10 (by decide) (by decide) h dX2_done_52 (fun r14 S15 H locs fr14 h hI => ?_)
      replace h := h fr14
      rw [← hQ]; exact s_iret (K := K) hx hb hr hlocks hI fr14 h dX2_done_55
  unfold w_M_done at h
  refine lv_iload_n hx hb dX2_done_0 rfl (lv_at hl 2 rfl) ?_
  refine nr_iconst hx hb dX2_done_1 ?_
  refine nr_icmp_ne hx hb rx2 (by decide) dX2_done_2 (tgt := 11) (by decide) (fun c16 => ?_) (fun c16 => ?_)
  · replace h := h.1 c16
    refine lv_iload_n hx hb dX2_done_11 rfl (lv_at hl 2 rfl) ?_
    refine nr_iconst hx hb dX2_done_12 ?_
    refine nr_icmp_ne hx hb rx2 (by decide) dX2_done_13 (tgt := 22) (by decide) (fun c17 => ?_) (fun c17 => ?_)
    · replace h := h.1 c17
      refine lv_iload_n hx hb dX2_done_22 rfl (lv_at hl 2 rfl) ?_
      refine nr_bipush hx hb dX2_done_23 (by decide) ?_
      refine nr_icmp_eq hx hb rx2 (by decide) dX2_done_25 (tgt := 34) (by decide) (fun c18 => ?_) (fun c18 => ?_)
      · replace h := h.1 c18
        exact J34 x1 x2 S _ _ _ rx1 rx2 hI (lv_sub hl [0, 1, 2] rfl) h
      · replace h := h.2 c18
        refine lv_iload_n hx hb dX2_done_28 rfl (lv_at hl 2 rfl) ?_
        refine nr_bipush hx hb dX2_done_29 (by decide) ?_
        refine nr_icmp_ne hx hb rx2 (by decide) dX2_done_31 (tgt := 56) (by decide) (fun c19 => ?_) (fun c19 => ?_)
        · replace h := h.1 c19
          refine lv_aload_n hx hb dX2_done_56 rfl (lv_at hl 0 rfl) ?_
          refine lv_iload_n hx hb dX2_done_57 rfl (lv_at hl 1 rfl) ?_
          refine nr_iconst hx hb dX2_done_58 ?_
          have f20 := h.1; replace h := h.2
          refine nr_iadd hx hb dX2_done_59 ?_
          refine nr_iconst hx hb dX2_done_60 ?_
          refine nr_bipush hx hb dX2_done_61 (by decide) ?_
          refine cMX2_233 hF hK hI hl.1 hR (by decide) (Nat.le_of_ble_eq_true rfl) ⟨Nat.zero_le _, Nat.zero_le _⟩ f20 (by decide) (by decide) h dX2_done_63 (fun r21 S22 H locs fr21 h hI => ?_)
          replace h := h fr21
          refine lv_istore_n (lv' := [(3, iV r21), (0, .ref (ad 17)), (1, iV x1), (2, iV x2)]) hx hb dX2_done_66 rfl hl (by decide) rfl (fun ls hl => ?_)
          refine lv_iload_n hx hb dX2_done_67 rfl (lv_at hl 0 rfl) ?_
          refine nr_if_ne hx hb fr21 dX2_done_68 (tgt := 103) (by decide) (fun c23 => ?_) (fun c23 => ?_)
          · replace h := h.1 c23
            exact J103 x1 x2 r21 S22 _ _ _ rx1 rx2 fr21 hI (lv_sub hl [1, 2, 3, 0] rfl) h
          · replace h := h.2 c23
            refine lv_aload_n hx hb dX2_done_71 rfl (lv_at hl 1 rfl) ?_
            refine lv_iload_n hx hb dX2_done_72 rfl (lv_at hl 3 rfl) ?_
            refine nr_iconst hx hb dX2_done_73 ?_
            refine nr_icmp_ne hx hb rx2 (by decide) dX2_done_74 (tgt := 95) (by decide) (fun c24 => ?_) (fun c24 => ?_)
            · replace h := h.1 c24
              refine lv_aload_n hx hb dX2_done_95 rfl (lv_at hl 1 rfl) ?_
              refine cMX2_241 hF hK hI hl.1 hR (by decide) (Nat.le_of_ble_eq_true rfl) ⟨Nat.zero_le _, Nat.zero_le _⟩ h dX2_done_96 (fun r25 H locs fr25 h hI => ?_)
              replace h := h fr25
              have gr25 : InR r25 := kdP_R (k := 2) (by decide) fr25
              exact J99 x1 x2 r25 S22 _ _ _ rx1 rx2 gr25 hI (lv_sub hl [1, 2, 3] rfl) h
            · replace h := h.2 c24
              refine lv_aload_n hx hb dX2_done_77 rfl (lv_at hl 1 rfl) ?_
              refine nr_bipush hx hb dX2_done_78 (by decide) ?_
              refine nr_bipush hx hb dX2_done_80 (by decide) ?_
              refine nr_bipush hx hb dX2_done_82 (by decide) ?_
              refine nr_bipush hx hb dX2_done_84 (by decide) ?_
              refine cMX2_173 hF hK hI hl.1 hR (by decide) (Nat.le_of_ble_eq_true rfl) ⟨Nat.zero_le _, Nat.zero_le _⟩ (by decide) (by decide) (by decide) (by decide) h dX2_done_86 (fun r27 H locs fr27 h hI => ?_)
              replace h := h fr27
              refine cMX2_216 hF hK hI hl.1 hR (by decide) (Nat.le_of_ble_eq_true rfl) ⟨Nat.zero_le _, Nat.zero_le _⟩ fr27 h dX2_done_89 (fun r29 H locs fr29 h hI => ?_)
              replace h := h fr29
              have gr29 : InR r29 := kdP_R (k := 2) (by decide) fr29
              refine lv_goto (tgt := 99) hx hb dX2_done_92 (by decide) ?_
              exact J99 x1 x2 r29 S22 _ _ _ rx1 rx2 gr29 hI (lv_sub hl [1, 2, 3] rfl) h
        · replace h := h.2 c19
          exact J34 x1 x2 S _ _ _ rx1 rx2 hI (lv_sub hl [0, 1, 2] rfl) h
    · replace h := h.2 c17
      refine lv_aload_n hx hb dX2_done_16 rfl (lv_at hl 0 rfl) ?_
      refine lv_iload_n hx hb dX2_done_17 rfl (lv_at hl 1 rfl) ?_
      refine cMX2_247 hF hK hI hl.1 hR (by decide) (Nat.le_of_ble_eq_true rfl) ⟨Nat.zero_le _, Nat.zero_le _⟩ rx1 h dX2_done_18 (fun r31 S32 H locs fr31 h hI => ?_)
      replace h := h fr31
      rw [← hQ]; exact s_iret (K := K) hx hb hr hlocks hI fr31 h dX2_done_21
  · replace h := h.2 c16
    refine lv_aload_n hx hb dX2_done_5 rfl (lv_at hl 0 rfl) ?_
    refine lv_iload_n hx hb dX2_done_6 rfl (lv_at hl 1 rfl) ?_
    refine cMX2_244 hF hK hI hl.1 hR (by decide) (Nat.le_of_ble_eq_true rfl) ⟨Nat.zero_le _, Nat.zero_le _⟩ rx1 h dX2_done_7 (fun r33 S34 H locs fr33 h hI => ?_)
    replace h := h fr33
    rw [← hQ]; exact s_iret (K := K) hx hb hr hlocks hI fr33 h dX2_done_10
set_option maxHeartbeats 4000000 in
theorem t_M_compareOf (l : Launch) (D : va_G) (dA : Nat → ClassId) (ad : Nat → Nat) (S : St) (sz : Nat) (K : Int → Prop) (h : w_M_compareOf S K) : Met l yX2_compareOf (ws_ yX2_compareOf cX2_compareOf 1 (Option.some Jvm.ClassFile.FieldType.int)) (rmD 0 0 0) (va_Pc [.ref (ad 17)] (sPre D dA wM ad S sz)) (va_Qi (fun r S' => S' = S ∧ K r.toInt) (sPost D dA wM ad (wA wM ad S sz)) (wA wM ad S sz)) 0 0 (wA wM ad S sz) := by
  refine Met.ofW (cc := cX2_compareOf) (maxL := 1) (ret := (Option.some Jvm.ClassFile.FieldType.int)) (by decide) rfl ?_
  intro p e s m args below meth c s₁ B hml hv
  obtain ⟨rfl, hsz, hK, hC⟩ := hv
  have hx := B.exec
  have hb := B.bytes
  have hr := B.returns
  have hlocks := B.notSynchronized
  have hts := atoms_spec (ws := (ws_ yX2_compareOf cX2_compareOf 1 (Option.some Jvm.ClassFile.FieldType.int))) B.pre
  have hts : ∀ w ∈ lw_all, w.before _ s = true := fun w h => hts w (List.mem_cons_of_mem _ h)
  have hown : s.vm.findClass RX2 = some m.cls := findClass_of_methodNamed B.named
  clear B
  subst hsz
  have hI : sI D dA wM ad (wA wM ad S s.heap.size) s.heap S s.heap [] := hC.start
  clear hC
  generalize wA wM ad S s.heap.size = A at hI ⊢
  have hl := lv_entry ([.ref (ad 17)] : List Value) (n := 1) (Nat.le_of_ble_eq_true rfl)
  rw [lg_entry_eq]
  generalize (lg_sl ([.ref (ad 17)] : List Value) ++ List.replicate (1 - (lg_sl ([.ref (ad 17)] : List Value)).length) Slot.unset).toArray = ls at hl ⊢
  have hl : lv_has ls 1 [(0, .ref (ad 17))] := hl
  have hF : CallFix p m c cX2_compareOf 1 s _ lw_all RX2 := ⟨hx, hb, hml, hown, hts⟩
  have hR : (headSpec (ws_ yX2_compareOf cX2_compareOf 1 (Option.some Jvm.ClassFile.FieldType.int)) (rmD 0 0 0)).room.frames = 0 + 1 ∧ (headSpec (ws_ yX2_compareOf cX2_compareOf 1 (Option.some Jvm.ClassFile.FieldType.int)) (rmD 0 0 0)).room.locals = 64 * 0 + 64 := ⟨rfl, rfl⟩
  generalize (headSpec (ws_ yX2_compareOf cX2_compareOf 1 (Option.some Jvm.ClassFile.FieldType.int)) (rmD 0 0 0)).room = R at hR ⊢
  generalize ([.ref (ad 17)] : List Value).toArray = args at hts hF ⊢
  generalize hQ : MQ below _ _ _ _ _ _ = Q
  unfold w_M_compareOf at h
  refine lv_aload_n hx hb dX2_compareOf_0 rfl (lv_at hl 0 rfl) ?_
  refine gMX2_129_17 hF hK hI dX2_compareOf_1 (fun f1 => ?_)
  replace h := h f1
  refine nr_bipush hx hb dX2_compareOf_4 (by decide) ?_
  refine nr_icmp_ne hx hb f1 (by decide) dX2_compareOf_6 (tgt := 14) (by decide) (fun c2 => ?_) (fun c2 => ?_)
  · replace h := h.1 c2
    refine lv_aload_n hx hb dX2_compareOf_14 rfl (lv_at hl 0 rfl) ?_
    refine gMX2_129_17 hF hK hI dX2_compareOf_15 (fun f3 => ?_)
    refine nr_iconst hx hb dX2_compareOf_18 ?_
    refine nr_icmp_ne hx hb f1 (by decide) dX2_compareOf_19 (tgt := 27) (by decide) (fun c4 => ?_) (fun c4 => ?_)
    · replace h := h.1 c4
      refine lv_aload_n hx hb dX2_compareOf_27 rfl (lv_at hl 0 rfl) ?_
      refine gMX2_129_17 hF hK hI dX2_compareOf_28 (fun f5 => ?_)
      refine nr_bipush hx hb dX2_compareOf_31 (by decide) ?_
      refine nr_icmp_ne hx hb f1 (by decide) dX2_compareOf_33 (tgt := 41) (by decide) (fun c6 => ?_) (fun c6 => ?_)
      · replace h := h.1 c6
        refine lv_aload_n hx hb dX2_compareOf_41 rfl (lv_at hl 0 rfl) ?_
        refine gMX2_129_17 hF hK hI dX2_compareOf_42 (fun f7 => ?_)
        refine nr_iconst hx hb dX2_compareOf_45 ?_
        refine nr_icmp_ne hx hb f1 (by decide) dX2_compareOf_46 (tgt := 54) (by decide) (fun c8 => ?_) (fun c8 => ?_)
        · replace h := h.1 c8
          refine lv_aload_n hx hb dX2_compareOf_54 rfl (lv_at hl 0 rfl) ?_
          refine gMX2_129_17 hF hK hI dX2_compareOf_55 (fun f9 => ?_)
          refine nr_bipush hx hb dX2_compareOf_58 (by decide) ?_
          refine nr_icmp_ne hx hb f1 (by decide) dX2_compareOf_60 (tgt := 68) (by decide) (fun c10 => ?_) (fun c10 => ?_)
          · replace h := h.1 c10
            refine lv_aload_n hx hb dX2_compareOf_68 rfl (lv_at hl 0 rfl) ?_
            refine gMX2_129_17 hF hK hI dX2_compareOf_69 (fun f11 => ?_)
            refine nr_bipush hx hb dX2_compareOf_72 (by decide) ?_
            refine nr_icmp_ne hx hb f1 (by decide) dX2_compareOf_74 (tgt := 82) (by decide) (fun c12 => ?_) (fun c12 => ?_)
            · replace h := h.1 c12
              refine nr_iconst hx hb dX2_compareOf_82 ?_
              rw [← hQ]; exact s_iret (K := fun r S' => S' = S ∧ K r) hx hb hr hlocks hI (by decide) ⟨rfl, h⟩ dX2_compareOf_83
            · replace h := h.2 c12
              refine nr_bipush hx hb dX2_compareOf_77 (by decide) ?_
              refine lv_goto (tgt := 83) hx hb dX2_compareOf_79 (by decide) ?_
              rw [← hQ]; exact s_iret (K := fun r S' => S' = S ∧ K r) hx hb hr hlocks hI (by decide) ⟨rfl, h⟩ dX2_compareOf_83
          · replace h := h.2 c10
            refine nr_bipush hx hb dX2_compareOf_63 (by decide) ?_
            refine lv_goto (tgt := 83) hx hb dX2_compareOf_65 (by decide) ?_
            rw [← hQ]; exact s_iret (K := fun r S' => S' = S ∧ K r) hx hb hr hlocks hI (by decide) ⟨rfl, h⟩ dX2_compareOf_83
        · replace h := h.2 c8
          refine nr_bipush hx hb dX2_compareOf_49 (by decide) ?_
          refine lv_goto (tgt := 83) hx hb dX2_compareOf_51 (by decide) ?_
          rw [← hQ]; exact s_iret (K := fun r S' => S' = S ∧ K r) hx hb hr hlocks hI (by decide) ⟨rfl, h⟩ dX2_compareOf_83
      · replace h := h.2 c6
        refine nr_bipush hx hb dX2_compareOf_36 (by decide) ?_
        refine lv_goto (tgt := 83) hx hb dX2_compareOf_38 (by decide) ?_
        rw [← hQ]; exact s_iret (K := fun r S' => S' = S ∧ K r) hx hb hr hlocks hI (by decide) ⟨rfl, h⟩ dX2_compareOf_83
    · replace h := h.2 c4
      refine nr_bipush hx hb dX2_compareOf_22 (by decide) ?_
      refine lv_goto (tgt := 83) hx hb dX2_compareOf_24 (by decide) ?_
      rw [← hQ]; exact s_iret (K := fun r S' => S' = S ∧ K r) hx hb hr hlocks hI (by decide) ⟨rfl, h⟩ dX2_compareOf_83
  · replace h := h.2 c2
    refine nr_bipush hx hb dX2_compareOf_9 (by decide) ?_
    refine lv_goto (tgt := 83) hx hb dX2_compareOf_11 (by decide) ?_
    rw [← hQ]; exact s_iret (K := fun r S' => S' = S ∧ K r) hx hb hr hlocks hI (by decide) ⟨rfl, h⟩ dX2_compareOf_83
theorem gMX2_157_17 {p : Program} {l : Launch} {e : Env} {R : Room} {s : State} {m : MethodId} {args : Array Value} {below : List Frame} {meth : Method} {c : Code} {H : Heap} {locs : List Loc} {Q : State → Prop} {cc : ByteArray} {nL pc : Nat} {ls : Array Slot} {rest : List Value} {cells slots : Nat} {D : va_G} {dA : Nat → ClassId} {ad : Nat → Nat} {A : Nat → Prop} {H0 : Heap} {S : St} (hF : CallFix p m c cc nL s args lw_all RX2) (hK : gK D dA s) (hI : sI D dA wM ad A H0 S H locs) (hdg : decode cc pc = .ok (.getfield 157, 3)) (kk : InR (fI S 14) → W p l e R s m args below meth c H locs cells slots Q (F0 m (pc + 3) ls (iV (fI S 14) :: rest))) : W p l e R s m args below meth c H locs cells slots Q (F0 m (pc) ls (.ref (ad 17) :: rest)) := s_geti hF.1 hF.2.1 hF.2.2.2.2 hF.2.2.2.1 hK hI 17 (by decide) wM_17 rfl in_X2 14 (by decide) q1176 rfl 0 14 rfl (by decide) hdg (kk (kdP_R (k := 0) (by decide) (hI.1.2.2.2.1.1 14)))
theorem uMX2_157_17 {p : Program} {l : Launch} {e : Env} {R : Room} {s : State} {m : MethodId} {args : Array Value} {below : List Frame} {meth : Method} {c : Code} {H : Heap} {locs : List Loc} {Q : State → Prop} {cc : ByteArray} {nL pc : Nat} {ls : Array Slot} {rest : List Value} {cells slots : Nat} {D : va_G} {dA : Nat → ClassId} {ad : Nat → Nat} {A : Nat → Prop} {H0 : Heap} {S : St} (hF : CallFix p m c cc nL s args lw_all RX2) (hK : gK D dA s) (hI : sI D dA wM ad A H0 S H locs) {v : Int} (hv : InR v) (hdg : decode cc pc = .ok (.putfield 157, 3)) (kk : ∀ (S1 : St) (H1 : Heap) (locs1 : List Loc), S1 = fset S 14 v → sI D dA wM ad A H0 S1 H1 locs1 → W p l e R s m args below meth c H1 locs1 cells slots Q (F0 m (pc + 3) ls (rest))) : W p l e R s m args below meth c H locs cells slots Q (F0 m (pc) ls (iV v :: .ref (ad 17) :: rest)) := s_put hF.1 hF.2.1 wM_U tyX2 tyX2_ok nmX2 hF.2.2.2.2 hF.2.2.2.1 hK hI 17 (by decide) wM_17 rfl in_X2 14 (by decide) q1176 rfl 0 14 rfl hv rfl rfl rfl hdg (fun H1 locs1 h => kk _ H1 locs1 rfl h)
set_option maxHeartbeats 4000000 in
theorem t_M_emit (l : Launch) (D : va_G) (dA : Nat → ClassId) (ad : Nat → Nat) (S : St) (sz : Nat) (x1 : Int) (x2 : Int) (K : St → Prop) (rx1 : InR x1) (rx2 : InR x2) (h : w_M_emit x1 x2 S K) : Met l yX2_emit (ws_ yX2_emit cX2_emit 3 (Option.none : Option Jvm.ClassFile.FieldType)) (rmD 0 0 0) (va_Pc [.ref (ad 17), iV x1, iV x2] (sPre D dA wM ad S sz)) (va_Qv (fun S' => K S') (sPost D dA wM ad (wA wM ad S sz)) (wA wM ad S sz)) 0 0 (wA wM ad S sz) := by
  refine Met.ofW (cc := cX2_emit) (maxL := 3) (ret := (Option.none : Option Jvm.ClassFile.FieldType)) (by decide) rfl ?_
  intro p e s m args below meth c s₁ B hml hv
  obtain ⟨rfl, hsz, hK, hC⟩ := hv
  have hx := B.exec
  have hb := B.bytes
  have hr := B.returns
  have hlocks := B.notSynchronized
  have hts := atoms_spec (ws := (ws_ yX2_emit cX2_emit 3 (Option.none : Option Jvm.ClassFile.FieldType))) B.pre
  have hts : ∀ w ∈ lw_all, w.before _ s = true := fun w h => hts w (List.mem_cons_of_mem _ h)
  have hown : s.vm.findClass RX2 = some m.cls := findClass_of_methodNamed B.named
  clear B
  subst hsz
  have hI : sI D dA wM ad (wA wM ad S s.heap.size) s.heap S s.heap [] := hC.start
  clear hC
  generalize wA wM ad S s.heap.size = A at hI ⊢
  have hl := lv_entry ([.ref (ad 17), iV x1, iV x2] : List Value) (n := 3) (Nat.le_of_ble_eq_true rfl)
  rw [lg_entry_eq]
  generalize (lg_sl ([.ref (ad 17), iV x1, iV x2] : List Value) ++ List.replicate (3 - (lg_sl ([.ref (ad 17), iV x1, iV x2] : List Value)).length) Slot.unset).toArray = ls at hl ⊢
  have hl : lv_has ls 3 [(0, .ref (ad 17)), (1, iV x1), (2, iV x2)] := hl
  have hF : CallFix p m c cX2_emit 3 s _ lw_all RX2 := ⟨hx, hb, hml, hown, hts⟩
  have hR : (headSpec (ws_ yX2_emit cX2_emit 3 (Option.none : Option Jvm.ClassFile.FieldType)) (rmD 0 0 0)).room.frames = 0 + 1 ∧ (headSpec (ws_ yX2_emit cX2_emit 3 (Option.none : Option Jvm.ClassFile.FieldType)) (rmD 0 0 0)).room.locals = 64 * 0 + 64 := ⟨rfl, rfl⟩
  generalize (headSpec (ws_ yX2_emit cX2_emit 3 (Option.none : Option Jvm.ClassFile.FieldType)) (rmD 0 0 0)).room = R at hR ⊢
  generalize ([.ref (ad 17), iV x1, iV x2] : List Value).toArray = args at hts hF ⊢
  generalize hQ : MQ below _ _ _ _ _ _ = Q
  unfold w_M_emit at h
  refine lv_aload_n hx hb dX2_emit_0 rfl (lv_at hl 0 rfl) ?_
  refine gMX2_16_17 hF hK hI dX2_emit_1 ?_
  refine lv_aload_n hx hb dX2_emit_4 rfl (lv_at hl 0 rfl) ?_
  refine gMX2_154_17 hF hK hI dX2_emit_5 (fun f1 => ?_)
  replace h := h f1
  refine nr_bipush hx hb dX2_emit_8 (by decide) ?_
  have f2 := h.1; replace h := h.2
  refine nr_iadd hx hb dX2_emit_10 ?_
  refine nr_iconst hx hb dX2_emit_11 ?_
  refine lv_aload_n hx hb dX2_emit_12 rfl (lv_at hl 0 rfl) ?_
  refine gMX2_157_17 hF hK hI dX2_emit_13 (fun f3 => ?_)
  replace h := h f3
  have f4 := h.1; replace h := h.2
  refine nr_imul hx hb dX2_emit_16 ?_
  have f5 := h.1; replace h := h.2
  refine nr_iadd hx hb dX2_emit_17 ?_
  refine lv_iload_n hx hb dX2_emit_18 rfl (lv_at hl 1 rfl) ?_
  have f6 := h.1; replace h := h.2
  refine s_iast hx hb hK hI 2 (by decide) wM_2 f5 f6 rx1 dX2_emit_19 (fun S7 H locs eS7 hI => ?_)
  replace h := h S7 eS7
  refine lv_aload_n hx hb dX2_emit_20 rfl (lv_at hl 0 rfl) ?_
  refine gMX2_16_17 hF hK hI dX2_emit_21 ?_
  refine lv_aload_n hx hb dX2_emit_24 rfl (lv_at hl 0 rfl) ?_
  refine gMX2_154_17 hF hK hI dX2_emit_25 (fun f8 => ?_)
  replace h := h f8
  refine nr_bipush hx hb dX2_emit_28 (by decide) ?_
  have f9 := h.1; replace h := h.2
  refine nr_iadd hx hb dX2_emit_30 ?_
  refine nr_iconst hx hb dX2_emit_31 ?_
  refine lv_aload_n hx hb dX2_emit_32 rfl (lv_at hl 0 rfl) ?_
  refine gMX2_157_17 hF hK hI dX2_emit_33 (fun f10 => ?_)
  replace h := h f10
  have f11 := h.1; replace h := h.2
  refine nr_imul hx hb dX2_emit_36 ?_
  have f12 := h.1; replace h := h.2
  refine nr_iadd hx hb dX2_emit_37 ?_
  refine nr_iconst hx hb dX2_emit_38 ?_
  have f13 := h.1; replace h := h.2
  refine nr_iadd hx hb dX2_emit_39 ?_
  refine lv_iload_n hx hb dX2_emit_40 rfl (lv_at hl 2 rfl) ?_
  have f14 := h.1; replace h := h.2
  refine s_iast hx hb hK hI 2 (by decide) wM_2 f13 f14 rx2 dX2_emit_41 (fun S15 H locs eS15 hI => ?_)
  replace h := h S15 eS15
  refine lv_aload_n hx hb dX2_emit_42 rfl (lv_at hl 0 rfl) ?_
  refine lv_dup hx hb dX2_emit_43 rfl ?_
  refine gMX2_157_17 hF hK hI dX2_emit_44 (fun f16 => ?_)
  replace h := h f16
  refine nr_iconst hx hb dX2_emit_47 ?_
  have f17 := h.1; replace h := h.2
  refine nr_iadd hx hb dX2_emit_48 ?_
  refine uMX2_157_17 hF hK hI f17 dX2_emit_49 (fun S18 H locs eS18 hI => ?_)
  replace h := h S18 eS18
  rw [← hQ]; exact s_vret (K := K) hx hb hr hlocks hI  h dX2_emit_52
theorem gMX2_181_17 {p : Program} {l : Launch} {e : Env} {R : Room} {s : State} {m : MethodId} {args : Array Value} {below : List Frame} {meth : Method} {c : Code} {H : Heap} {locs : List Loc} {Q : State → Prop} {cc : ByteArray} {nL pc : Nat} {ls : Array Slot} {rest : List Value} {cells slots : Nat} {D : va_G} {dA : Nat → ClassId} {ad : Nat → Nat} {A : Nat → Prop} {H0 : Heap} {S : St} (hF : CallFix p m c cc nL s args lw_all RX2) (hK : gK D dA s) (hI : sI D dA wM ad A H0 S H locs) (hdg : decode cc pc = .ok (.getfield 181, 3)) (kk : InR (fI S 20) → W p l e R s m args below meth c H locs cells slots Q (F0 m (pc + 3) ls (iV (fI S 20) :: rest))) : W p l e R s m args below meth c H locs cells slots Q (F0 m (pc) ls (.ref (ad 17) :: rest)) := s_geti hF.1 hF.2.1 hF.2.2.2.2 hF.2.2.2.1 hK hI 17 (by decide) wM_17 rfl in_X2 20 (by decide) q1181 rfl 0 20 rfl (by decide) hdg (kk (kdP_R (k := 0) (by decide) (hI.1.2.2.2.1.1 20)))
set_option maxHeartbeats 4000000 in
theorem t_M_isBarred (l : Launch) (D : va_G) (dA : Nat → ClassId) (ad : Nat → Nat) (S : St) (sz : Nat) (x1 : Int) (K : Int → Prop) (rx1 : InR x1) (h : w_M_isBarred x1 S K) : Met l yX2_isBarred (ws_ yX2_isBarred cX2_isBarred 2 (Option.some Jvm.ClassFile.FieldType.boolean)) (rmD 0 0 0) (va_Pc [.ref (ad 17), iV x1] (sPre D dA wM ad S sz)) (va_Qi (fun r S' => (r.toInt = 0 ∨ r.toInt = 1) ∧ (S' = S ∧ K r.toInt)) (sPost D dA wM ad (wA wM ad S sz)) (wA wM ad S sz)) 0 0 (wA wM ad S sz) := by
  refine Met.ofW (cc := cX2_isBarred) (maxL := 2) (ret := (Option.some Jvm.ClassFile.FieldType.boolean)) (by decide) rfl ?_
  intro p e s m args below meth c s₁ B hml hv
  obtain ⟨rfl, hsz, hK, hC⟩ := hv
  have hx := B.exec
  have hb := B.bytes
  have hr := B.returns
  have hlocks := B.notSynchronized
  have hts := atoms_spec (ws := (ws_ yX2_isBarred cX2_isBarred 2 (Option.some Jvm.ClassFile.FieldType.boolean))) B.pre
  have hts : ∀ w ∈ lw_all, w.before _ s = true := fun w h => hts w (List.mem_cons_of_mem _ h)
  have hown : s.vm.findClass RX2 = some m.cls := findClass_of_methodNamed B.named
  clear B
  subst hsz
  have hI : sI D dA wM ad (wA wM ad S s.heap.size) s.heap S s.heap [] := hC.start
  clear hC
  generalize wA wM ad S s.heap.size = A at hI ⊢
  have hl := lv_entry ([.ref (ad 17), iV x1] : List Value) (n := 2) (Nat.le_of_ble_eq_true rfl)
  rw [lg_entry_eq]
  generalize (lg_sl ([.ref (ad 17), iV x1] : List Value) ++ List.replicate (2 - (lg_sl ([.ref (ad 17), iV x1] : List Value)).length) Slot.unset).toArray = ls at hl ⊢
  have hl : lv_has ls 2 [(0, .ref (ad 17)), (1, iV x1)] := hl
  have hF : CallFix p m c cX2_isBarred 2 s _ lw_all RX2 := ⟨hx, hb, hml, hown, hts⟩
  have hR : (headSpec (ws_ yX2_isBarred cX2_isBarred 2 (Option.some Jvm.ClassFile.FieldType.boolean)) (rmD 0 0 0)).room.frames = 0 + 1 ∧ (headSpec (ws_ yX2_isBarred cX2_isBarred 2 (Option.some Jvm.ClassFile.FieldType.boolean)) (rmD 0 0 0)).room.locals = 64 * 0 + 64 := ⟨rfl, rfl⟩
  generalize (headSpec (ws_ yX2_isBarred cX2_isBarred 2 (Option.some Jvm.ClassFile.FieldType.boolean)) (rmD 0 0 0)).room = R at hR ⊢
  generalize ([.ref (ad 17), iV x1] : List Value).toArray = args at hts hF ⊢
  generalize hQ : MQ below _ _ _ _ _ _ = Q
  unfold w_M_isBarred at h
  refine lv_iload_n hx hb dX2_isBarred_0 rfl (lv_at hl 1 rfl) ?_
  refine nr_iconst hx hb dX2_isBarred_1 ?_
  refine nr_icmp_le hx hb rx1 (by decide) dX2_isBarred_2 (tgt := 17) (by decide) (fun c1 => ?_) (fun c1 => ?_)
  · replace h := h.1 c1
    refine nr_iconst hx hb dX2_isBarred_17 ?_
    rw [← hQ]; exact s_zret (K := fun r S' => S' = S ∧ K r) hx hb hr hlocks hI (by decide) ⟨rfl, h⟩ dX2_isBarred_18
  · replace h := h.2 c1
    refine lv_aload_n hx hb dX2_isBarred_5 rfl (lv_at hl 0 rfl) ?_
    refine gMX2_181_17 hF hK hI dX2_isBarred_6 (fun f2 => ?_)
    replace h := h f2
    refine nr_iconst hx hb dX2_isBarred_9 ?_
    refine nr_icmp_eq hx hb f2 (by decide) dX2_isBarred_10 (tgt := 17) (by decide) (fun c3 => ?_) (fun c3 => ?_)
    · replace h := h.1 c3
      refine nr_iconst hx hb dX2_isBarred_17 ?_
      rw [← hQ]; exact s_zret (K := fun r S' => S' = S ∧ K r) hx hb hr hlocks hI (by decide) ⟨rfl, h⟩ dX2_isBarred_18
    · replace h := h.2 c3
      refine nr_iconst hx hb dX2_isBarred_13 ?_
      refine lv_goto (tgt := 18) hx hb dX2_isBarred_14 (by decide) ?_
      rw [← hQ]; exact s_zret (K := fun r S' => S' = S ∧ K r) hx hb hr hlocks hI (by decide) ⟨rfl, h⟩ dX2_isBarred_18
set_option maxHeartbeats 4000000 in
theorem t_M_w5 (l : Launch) (x0 : Int) (x1 : Int) (x2 : Int) (x3 : Int) (x4 : Int) (K : Int → Prop) (rx0 : InR x0) (rx1 : InR x1) (rx2 : InR x2) (rx3 : InR x3) (rx4 : InR x4) (h : w_M_w5 x0 x1 x2 x3 x4 K) : Met l yX2_w5 (ws_ yX2_w5 cX2_w5 5 (Option.some Jvm.ClassFile.FieldType.long)) (rmD 1 0 0) (va_Pc [iV x0, iV x1, iV x2, iV x3, iV x4] (fun _ => True)) (va_Ql (fun r (_ : Unit) => K r.toInt) (fun _ _ => True) (fun _ => False)) 0 0 (fun _ => False) := by
  refine Met.ofW (cc := cX2_w5) (maxL := 5) (ret := (Option.some Jvm.ClassFile.FieldType.long)) (by decide) rfl ?_
  intro p e s m args below meth c s₁ B hml hv
  obtain ⟨rfl, -⟩ := hv
  have hx := B.exec
  have hb := B.bytes
  have hr := B.returns
  have hlocks := B.notSynchronized
  have hts := atoms_spec (ws := (ws_ yX2_w5 cX2_w5 5 (Option.some Jvm.ClassFile.FieldType.long))) B.pre
  have hts : ∀ w ∈ lw_all, w.before _ s = true := fun w h => hts w (List.mem_cons_of_mem _ h)
  have hown : s.vm.findClass RX2 = some m.cls := findClass_of_methodNamed B.named
  clear B
  have hI : va_S (fun _ => False) s.heap s.heap [] := va_S.rf
  have hl := lv_entry ([iV x0, iV x1, iV x2, iV x3, iV x4] : List Value) (n := 5) (Nat.le_of_ble_eq_true rfl)
  rw [lg_entry_eq]
  generalize (lg_sl ([iV x0, iV x1, iV x2, iV x3, iV x4] : List Value) ++ List.replicate (5 - (lg_sl ([iV x0, iV x1, iV x2, iV x3, iV x4] : List Value)).length) Slot.unset).toArray = ls at hl ⊢
  have hl : lv_has ls 5 [(0, iV x0), (1, iV x1), (2, iV x2), (3, iV x3), (4, iV x4)] := hl
  have hF : CallFix p m c cX2_w5 5 s _ lw_all RX2 := ⟨hx, hb, hml, hown, hts⟩
  have hR : (headSpec (ws_ yX2_w5 cX2_w5 5 (Option.some Jvm.ClassFile.FieldType.long)) (rmD 1 0 0)).room.frames = 1 + 1 ∧ (headSpec (ws_ yX2_w5 cX2_w5 5 (Option.some Jvm.ClassFile.FieldType.long)) (rmD 1 0 0)).room.locals = 64 * 1 + 64 := ⟨rfl, rfl⟩
  generalize (headSpec (ws_ yX2_w5 cX2_w5 5 (Option.some Jvm.ClassFile.FieldType.long)) (rmD 1 0 0)).room = R at hR ⊢
  generalize ([iV x0, iV x1, iV x2, iV x3, iV x4] : List Value).toArray = args at hts hF ⊢
  generalize hQ : MQ below _ _ _ _ _ _ = Q
  unfold w_M_w5 at h
  refine lv_iload_n hx hb dX2_w5_0 rfl (lv_at hl 0 rfl) ?_
  refine lv_iload_n hx hb dX2_w5_1 rfl (lv_at hl 1 rfl) ?_
  refine lv_iload_n hx hb dX2_w5_2 rfl (lv_at hl 2 rfl) ?_
  refine cqMX2_146 hF hI hl.1 hR (by decide) (Nat.le_of_ble_eq_true rfl) ⟨Nat.zero_le _, Nat.zero_le _⟩ rx0 rx1 rx2 h dX2_w5_3 (fun r1 H locs fr1 h hI => ?_)
  replace h := h fr1
  refine nr_bipush hx hb dX2_w5_6 (by decide) ?_
  have f3 := h.1; replace h := h.2
  refine nr_lshl hx hb (by decide) dX2_w5_8 ?_
  refine lv_iload_n hx hb dX2_w5_9 rfl (lv_at hl 3 rfl) ?_
  refine nr_i2l hx hb rx3 dX2_w5_10 ?_
  have f4 : InL (x3) := ni_L rx3
  refine nr_lor hx hb dX2_w5_11 ?_
  refine nr_bipush hx hb dX2_w5_12 (by decide) ?_
  have f5 := h.1; replace h := h.2
  refine nr_lshl hx hb (by decide) dX2_w5_14 ?_
  refine lv_iload hx hb dX2_w5_15 (lv_at hl 4 rfl) ?_
  refine nr_i2l hx hb rx4 dX2_w5_17 ?_
  have f6 : InL (x4) := ni_L rx4
  refine nr_lor hx hb dX2_w5_18 ?_
  rw [← hQ]; exact p_lret (K := K) hx hb hr hlocks hI (jOr_R _ _) h dX2_w5_19
theorem cqMX2_150 {p : Program} {l : Launch} {e : Env} {R : Room} {s : State} {m : MethodId} {args : Array Value} {below : List Frame} {meth : Method} {c : Code} {H : Heap} {locs : List Loc} {Q : State → Prop} {cc : ByteArray} {nL pc : Nat} {ls : Array Slot} {rest : List Value} {cells slots : Nat} {A : Nat → Prop} {H0 : Heap} {dk : Nat} (hF : CallFix p m c cc nL s args lw_all RX2) (hI : va_S A H0 H locs) (hls : ls.size = nL) (hR : R.frames = dk + 1 ∧ R.locals = 64 * dk + 64) (hd : 1 + 1 ≤ dk) (hW : (rest.map fun v => v.category).sum ≤ 8) (hf : cells ≤ R.cells ∧ slots ≤ R.slots) {x0 : Int} {x1 : Int} {x2 : Int} {x3 : Int} {x4 : Int} {K : Int → Prop} (r0 : InR x0) (r1 : InR x1) (r2 : InR x2) (r3 : InR x3) (r4 : InR x4) (h : w_M_w5 x0 x1 x2 x3 x4 K) (hdg : decode cc pc = .ok (.invokestatic 150, 3)) (kk : ∀ (r : Int) (H1 : Heap) (locs1 : List Loc), InL r → K r → va_S A H0 H1 locs1 → W p l e R s m args below meth c H1 locs1 cells slots Q (F0 m (pc + 3) ls (jV r :: rest))) : W p l e R s m args below meth c H locs cells slots Q (F0 m (pc) ls (iV x4 :: iV x3 :: iV x2 :: iV x1 :: iV x0 :: rest)) := p_callPl (As := [iV x0, iV x1, iV x2, iV x3, iV x4]) (rest := rest) hF (t_M_w5 l x0 x1 x2 x3 x4 K r0 r1 r2 r3 r4 h) (va_cwS 5 hF.2.2.2.2 (lw_S q1414 q1415 q109 q1416) rfl rfl rfl (by decide +kernel) ⟨by have h1 := hR.1; have h2 : (rmD 1 0 0).frames = 1 + 1 := rfl; omega, by have h1 := hR.2; have h2 : (rmD 1 0 0).locals = 64 * 1 + 64 := rfl; omega⟩) hI rfl hls rfl hW hdg hf kk
set_option maxHeartbeats 4000000 in
theorem t_M_w6 (l : Launch) (x0 : Int) (x1 : Int) (x2 : Int) (x3 : Int) (x4 : Int) (x5 : Int) (K : Int → Prop) (rx0 : InR x0) (rx1 : InR x1) (rx2 : InR x2) (rx3 : InR x3) (rx4 : InR x4) (rx5 : InR x5) (h : w_M_w6 x0 x1 x2 x3 x4 x5 K) : Met l yX2_w6 (ws_ yX2_w6 cX2_w6 6 (Option.some Jvm.ClassFile.FieldType.long)) (rmD 2 0 0) (va_Pc [iV x0, iV x1, iV x2, iV x3, iV x4, iV x5] (fun _ => True)) (va_Ql (fun r (_ : Unit) => K r.toInt) (fun _ _ => True) (fun _ => False)) 0 0 (fun _ => False) := by
  refine Met.ofW (cc := cX2_w6) (maxL := 6) (ret := (Option.some Jvm.ClassFile.FieldType.long)) (by decide) rfl ?_
  intro p e s m args below meth c s₁ B hml hv
  obtain ⟨rfl, -⟩ := hv
  have hx := B.exec
  have hb := B.bytes
  have hr := B.returns
  have hlocks := B.notSynchronized
  have hts := atoms_spec (ws := (ws_ yX2_w6 cX2_w6 6 (Option.some Jvm.ClassFile.FieldType.long))) B.pre
  have hts : ∀ w ∈ lw_all, w.before _ s = true := fun w h => hts w (List.mem_cons_of_mem _ h)
  have hown : s.vm.findClass RX2 = some m.cls := findClass_of_methodNamed B.named
  clear B
  have hI : va_S (fun _ => False) s.heap s.heap [] := va_S.rf
  have hl := lv_entry ([iV x0, iV x1, iV x2, iV x3, iV x4, iV x5] : List Value) (n := 6) (Nat.le_of_ble_eq_true rfl)
  rw [lg_entry_eq]
  generalize (lg_sl ([iV x0, iV x1, iV x2, iV x3, iV x4, iV x5] : List Value) ++ List.replicate (6 - (lg_sl ([iV x0, iV x1, iV x2, iV x3, iV x4, iV x5] : List Value)).length) Slot.unset).toArray = ls at hl ⊢
  have hl : lv_has ls 6 [(0, iV x0), (1, iV x1), (2, iV x2), (3, iV x3), (4, iV x4), (5, iV x5)] := hl
  have hF : CallFix p m c cX2_w6 6 s _ lw_all RX2 := ⟨hx, hb, hml, hown, hts⟩
  have hR : (headSpec (ws_ yX2_w6 cX2_w6 6 (Option.some Jvm.ClassFile.FieldType.long)) (rmD 2 0 0)).room.frames = 2 + 1 ∧ (headSpec (ws_ yX2_w6 cX2_w6 6 (Option.some Jvm.ClassFile.FieldType.long)) (rmD 2 0 0)).room.locals = 64 * 2 + 64 := ⟨rfl, rfl⟩
  generalize (headSpec (ws_ yX2_w6 cX2_w6 6 (Option.some Jvm.ClassFile.FieldType.long)) (rmD 2 0 0)).room = R at hR ⊢
  generalize ([iV x0, iV x1, iV x2, iV x3, iV x4, iV x5] : List Value).toArray = args at hts hF ⊢
  generalize hQ : MQ below _ _ _ _ _ _ = Q
  unfold w_M_w6 at h
  refine lv_iload_n hx hb dX2_w6_0 rfl (lv_at hl 0 rfl) ?_
  refine lv_iload_n hx hb dX2_w6_1 rfl (lv_at hl 1 rfl) ?_
  refine lv_iload_n hx hb dX2_w6_2 rfl (lv_at hl 2 rfl) ?_
  refine lv_iload_n hx hb dX2_w6_3 rfl (lv_at hl 3 rfl) ?_
  refine lv_iload hx hb dX2_w6_4 (lv_at hl 4 rfl) ?_
  refine cqMX2_150 hF hI hl.1 hR (by decide) (Nat.le_of_ble_eq_true rfl) ⟨Nat.zero_le _, Nat.zero_le _⟩ rx0 rx1 rx2 rx3 rx4 h dX2_w6_6 (fun r1 H locs fr1 h hI => ?_)
  replace h := h fr1
  refine nr_bipush hx hb dX2_w6_9 (by decide) ?_
  have f3 := h.1; replace h := h.2
  refine nr_lshl hx hb (by decide) dX2_w6_11 ?_
  refine lv_iload hx hb dX2_w6_12 (lv_at hl 5 rfl) ?_
  refine nr_i2l hx hb rx5 dX2_w6_14 ?_
  have f4 : InL (x5) := ni_L rx5
  refine nr_lor hx hb dX2_w6_15 ?_
  rw [← hQ]; exact p_lret (K := K) hx hb hr hlocks hI (jOr_R _ _) h dX2_w6_16
theorem cMX2_177 {p : Program} {l : Launch} {e : Env} {R : Room} {s : State} {m : MethodId} {args : Array Value} {below : List Frame} {meth : Method} {c : Code} {H : Heap} {locs : List Loc} {Q : State → Prop} {cc : ByteArray} {nL pc : Nat} {ls : Array Slot} {rest : List Value} {cells slots : Nat} {D : va_G} {dA : Nat → ClassId} {ad : Nat → Nat} {A : Nat → Prop} {H0 : Heap} {S : St} {dk : Nat} (hF : CallFix p m c cc nL s args lw_all RX2) (hK : gK D dA s) (hI : sI D dA wM ad A H0 S H locs) (hls : ls.size = nL) (hR : R.frames = dk + 1 ∧ R.locals = 64 * dk + 64) (hd : 2 + 1 ≤ dk) (hW : (rest.map fun v => v.category).sum ≤ 8) (hf : cells ≤ R.cells ∧ slots ≤ R.slots) {x0 : Int} {x1 : Int} {x2 : Int} {x3 : Int} {x4 : Int} {x5 : Int} {K : Int → Prop} (r0 : InR x0) (r1 : InR x1) (r2 : InR x2) (r3 : InR x3) (r4 : InR x4) (r5 : InR x5) (h : w_M_w6 x0 x1 x2 x3 x4 x5 K) (hdg : decode cc pc = .ok (.invokestatic 177, 3)) (kk : ∀ (r : Int) (H1 : Heap) (locs1 : List Loc), InL r → K r → sI D dA wM ad A H0 S H1 locs1 → W p l e R s m args below meth c H1 locs1 cells slots Q (F0 m (pc + 3) ls (jV r :: rest))) : W p l e R s m args below meth c H locs cells slots Q (F0 m (pc) ls (iV x5 :: iV x4 :: iV x3 :: iV x2 :: iV x1 :: iV x0 :: rest)) := s_callPl (As := [iV x0, iV x1, iV x2, iV x3, iV x4, iV x5]) (rest := rest) hF (t_M_w6 l x0 x1 x2 x3 x4 x5 K r0 r1 r2 r3 r4 r5 h) (va_cwS 6 hF.2.2.2.2 (lw_S q1411 q1412 q109 q1413) rfl rfl rfl (by decide +kernel) ⟨by have h1 := hR.1; have h2 : (rmD 2 0 0).frames = 2 + 1 := rfl; omega, by have h1 := hR.2; have h2 : (rmD 2 0 0).locals = 64 * 2 + 64 := rfl; omega⟩) hI rfl hls rfl hW hdg hf kk
theorem cMX2_150 {p : Program} {l : Launch} {e : Env} {R : Room} {s : State} {m : MethodId} {args : Array Value} {below : List Frame} {meth : Method} {c : Code} {H : Heap} {locs : List Loc} {Q : State → Prop} {cc : ByteArray} {nL pc : Nat} {ls : Array Slot} {rest : List Value} {cells slots : Nat} {D : va_G} {dA : Nat → ClassId} {ad : Nat → Nat} {A : Nat → Prop} {H0 : Heap} {S : St} {dk : Nat} (hF : CallFix p m c cc nL s args lw_all RX2) (hK : gK D dA s) (hI : sI D dA wM ad A H0 S H locs) (hls : ls.size = nL) (hR : R.frames = dk + 1 ∧ R.locals = 64 * dk + 64) (hd : 1 + 1 ≤ dk) (hW : (rest.map fun v => v.category).sum ≤ 8) (hf : cells ≤ R.cells ∧ slots ≤ R.slots) {x0 : Int} {x1 : Int} {x2 : Int} {x3 : Int} {x4 : Int} {K : Int → Prop} (r0 : InR x0) (r1 : InR x1) (r2 : InR x2) (r3 : InR x3) (r4 : InR x4) (h : w_M_w5 x0 x1 x2 x3 x4 K) (hdg : decode cc pc = .ok (.invokestatic 150, 3)) (kk : ∀ (r : Int) (H1 : Heap) (locs1 : List Loc), InL r → K r → sI D dA wM ad A H0 S H1 locs1 → W p l e R s m args below meth c H1 locs1 cells slots Q (F0 m (pc + 3) ls (jV r :: rest))) : W p l e R s m args below meth c H locs cells slots Q (F0 m (pc) ls (iV x4 :: iV x3 :: iV x2 :: iV x1 :: iV x0 :: rest)) := s_callPl (As := [iV x0, iV x1, iV x2, iV x3, iV x4]) (rest := rest) hF (t_M_w5 l x0 x1 x2 x3 x4 K r0 r1 r2 r3 r4 h) (va_cwS 5 hF.2.2.2.2 (lw_S q1414 q1415 q109 q1416) rfl rfl rfl (by decide +kernel) ⟨by have h1 := hR.1; have h2 : (rmD 1 0 0).frames = 1 + 1 := rfl; omega, by have h1 := hR.2; have h2 : (rmD 1 0 0).locals = 64 * 1 + 64 := rfl; omega⟩) hI rfl hls rfl hW hdg hf kk
set_option maxHeartbeats 4000000 in
theorem t_M_nameOf (l : Launch) (D : va_G) (dA : Nat → ClassId) (ad : Nat → Nat) (S : St) (sz : Nat) (K : Int → Prop) (h : w_M_nameOf S K) : Met l yX2_nameOf (ws_ yX2_nameOf cX2_nameOf 1 (Option.some Jvm.ClassFile.FieldType.int)) (rmD 3 0 0) (va_Pc [.ref (ad 17)] (sPre D dA wM ad S sz)) (va_Qi (fun r S' => S' = S ∧ K r.toInt) (sPost D dA wM ad (wA wM ad S sz)) (wA wM ad S sz)) 0 0 (wA wM ad S sz) := by
  refine Met.ofW (cc := cX2_nameOf) (maxL := 1) (ret := (Option.some Jvm.ClassFile.FieldType.int)) (by decide) rfl ?_
  intro p e s m args below meth c s₁ B hml hv
  obtain ⟨rfl, hsz, hK, hC⟩ := hv
  have hx := B.exec
  have hb := B.bytes
  have hr := B.returns
  have hlocks := B.notSynchronized
  have hts := atoms_spec (ws := (ws_ yX2_nameOf cX2_nameOf 1 (Option.some Jvm.ClassFile.FieldType.int))) B.pre
  have hts : ∀ w ∈ lw_all, w.before _ s = true := fun w h => hts w (List.mem_cons_of_mem _ h)
  have hown : s.vm.findClass RX2 = some m.cls := findClass_of_methodNamed B.named
  clear B
  subst hsz
  have hI : sI D dA wM ad (wA wM ad S s.heap.size) s.heap S s.heap [] := hC.start
  clear hC
  generalize wA wM ad S s.heap.size = A at hI ⊢
  have hl := lv_entry ([.ref (ad 17)] : List Value) (n := 1) (Nat.le_of_ble_eq_true rfl)
  rw [lg_entry_eq]
  generalize (lg_sl ([.ref (ad 17)] : List Value) ++ List.replicate (1 - (lg_sl ([.ref (ad 17)] : List Value)).length) Slot.unset).toArray = ls at hl ⊢
  have hl : lv_has ls 1 [(0, .ref (ad 17))] := hl
  have hF : CallFix p m c cX2_nameOf 1 s _ lw_all RX2 := ⟨hx, hb, hml, hown, hts⟩
  have hR : (headSpec (ws_ yX2_nameOf cX2_nameOf 1 (Option.some Jvm.ClassFile.FieldType.int)) (rmD 3 0 0)).room.frames = 3 + 1 ∧ (headSpec (ws_ yX2_nameOf cX2_nameOf 1 (Option.some Jvm.ClassFile.FieldType.int)) (rmD 3 0 0)).room.locals = 64 * 3 + 64 := ⟨rfl, rfl⟩
  generalize (headSpec (ws_ yX2_nameOf cX2_nameOf 1 (Option.some Jvm.ClassFile.FieldType.int)) (rmD 3 0 0)).room = R at hR ⊢
  generalize ([.ref (ad 17)] : List Value).toArray = args at hts hF ⊢
  generalize hQ : MQ below _ _ _ _ _ _ = Q
  unfold w_M_nameOf at h
  refine lv_aload_n hx hb dX2_nameOf_0 rfl (lv_at hl 0 rfl) ?_
  refine gMX2_129_17 hF hK hI dX2_nameOf_1 (fun f1 => ?_)
  replace h := h f1
  refine nr_iconst hx hb dX2_nameOf_4 ?_
  refine nr_icmp_eq hx hb f1 (by decide) dX2_nameOf_5 (tgt := 10) (by decide) (fun c2 => ?_) (fun c2 => ?_)
  · replace h := h.1 c2
    refine lv_aload_n hx hb dX2_nameOf_10 rfl (lv_at hl 0 rfl) ?_
    refine gMX2_142_17 hF hK hI dX2_nameOf_11 (fun f3 => ?_)
    replace h := h f3
    refine nr_bipush hx hb dX2_nameOf_14 (by decide) ?_
    refine nr_bipush hx hb dX2_nameOf_16 (by decide) ?_
    refine nr_bipush hx hb dX2_nameOf_18 (by decide) ?_
    refine nr_bipush hx hb dX2_nameOf_20 (by decide) ?_
    refine cMX2_173 hF hK hI hl.1 hR (by decide) (Nat.le_of_ble_eq_true rfl) ⟨Nat.zero_le _, Nat.zero_le _⟩ (by decide) (by decide) (by decide) (by decide) h dX2_nameOf_22 (fun r4 H locs fr4 h hI => ?_)
    replace h := h fr4
    refine nr_lcmp_ne hx hb f3 fr4 dX2_nameOf_25 dX2_nameOf_26 (tgt := 31) (by decide) (fun c6 => ?_) (fun c6 => ?_)
    · replace h := h.1 c6
      refine lv_aload_n hx hb dX2_nameOf_31 rfl (lv_at hl 0 rfl) ?_
      refine gMX2_142_17 hF hK hI dX2_nameOf_32 (fun f7 => ?_)
      refine nr_bipush hx hb dX2_nameOf_35 (by decide) ?_
      refine nr_bipush hx hb dX2_nameOf_37 (by decide) ?_
      refine nr_bipush hx hb dX2_nameOf_39 (by decide) ?_
      refine nr_bipush hx hb dX2_nameOf_41 (by decide) ?_
      refine nr_bipush hx hb dX2_nameOf_43 (by decide) ?_
      refine nr_bipush hx hb dX2_nameOf_45 (by decide) ?_
      refine cMX2_177 hF hK hI hl.1 hR (by decide) (Nat.le_of_ble_eq_true rfl) ⟨Nat.zero_le _, Nat.zero_le _⟩ (by decide) (by decide) (by decide) (by decide) (by decide) (by decide) h dX2_nameOf_47 (fun r8 H locs fr8 h hI => ?_)
      replace h := h fr8
      refine nr_lcmp_ne hx hb f3 fr8 dX2_nameOf_50 dX2_nameOf_51 (tgt := 56) (by decide) (fun c10 => ?_) (fun c10 => ?_)
      · replace h := h.1 c10
        refine lv_aload_n hx hb dX2_nameOf_56 rfl (lv_at hl 0 rfl) ?_
        refine gMX2_142_17 hF hK hI dX2_nameOf_57 (fun f11 => ?_)
        refine nr_bipush hx hb dX2_nameOf_60 (by decide) ?_
        refine nr_bipush hx hb dX2_nameOf_62 (by decide) ?_
        refine nr_bipush hx hb dX2_nameOf_64 (by decide) ?_
        refine nr_bipush hx hb dX2_nameOf_66 (by decide) ?_
        refine cMX2_173 hF hK hI hl.1 hR (by decide) (Nat.le_of_ble_eq_true rfl) ⟨Nat.zero_le _, Nat.zero_le _⟩ (by decide) (by decide) (by decide) (by decide) h dX2_nameOf_68 (fun r12 H locs fr12 h hI => ?_)
        replace h := h fr12
        refine nr_lcmp_ne hx hb f3 fr12 dX2_nameOf_71 dX2_nameOf_72 (tgt := 77) (by decide) (fun c14 => ?_) (fun c14 => ?_)
        · replace h := h.1 c14
          refine lv_aload_n hx hb dX2_nameOf_77 rfl (lv_at hl 0 rfl) ?_
          refine gMX2_142_17 hF hK hI dX2_nameOf_78 (fun f15 => ?_)
          refine nr_bipush hx hb dX2_nameOf_81 (by decide) ?_
          refine nr_bipush hx hb dX2_nameOf_83 (by decide) ?_
          refine nr_bipush hx hb dX2_nameOf_85 (by decide) ?_
          refine nr_bipush hx hb dX2_nameOf_87 (by decide) ?_
          refine nr_bipush hx hb dX2_nameOf_89 (by decide) ?_
          refine nr_bipush hx hb dX2_nameOf_91 (by decide) ?_
          refine cMX2_177 hF hK hI hl.1 hR (by decide) (Nat.le_of_ble_eq_true rfl) ⟨Nat.zero_le _, Nat.zero_le _⟩ (by decide) (by decide) (by decide) (by decide) (by decide) (by decide) h dX2_nameOf_93 (fun r16 H locs fr16 h hI => ?_)
          replace h := h fr16
          refine nr_lcmp_ne hx hb f3 fr16 dX2_nameOf_96 dX2_nameOf_97 (tgt := 102) (by decide) (fun c18 => ?_) (fun c18 => ?_)
          · replace h := h.1 c18
            refine lv_aload_n hx hb dX2_nameOf_102 rfl (lv_at hl 0 rfl) ?_
            refine gMX2_142_17 hF hK hI dX2_nameOf_103 (fun f19 => ?_)
            refine nr_bipush hx hb dX2_nameOf_106 (by decide) ?_
            refine nr_bipush hx hb dX2_nameOf_108 (by decide) ?_
            refine nr_bipush hx hb dX2_nameOf_110 (by decide) ?_
            refine nr_bipush hx hb dX2_nameOf_112 (by decide) ?_
            refine cMX2_173 hF hK hI hl.1 hR (by decide) (Nat.le_of_ble_eq_true rfl) ⟨Nat.zero_le _, Nat.zero_le _⟩ (by decide) (by decide) (by decide) (by decide) h dX2_nameOf_114 (fun r20 H locs fr20 h hI => ?_)
            replace h := h fr20
            refine nr_lcmp_ne hx hb f3 fr20 dX2_nameOf_117 dX2_nameOf_118 (tgt := 123) (by decide) (fun c22 => ?_) (fun c22 => ?_)
            · replace h := h.1 c22
              refine lv_aload_n hx hb dX2_nameOf_123 rfl (lv_at hl 0 rfl) ?_
              refine gMX2_142_17 hF hK hI dX2_nameOf_124 (fun f23 => ?_)
              refine nr_bipush hx hb dX2_nameOf_127 (by decide) ?_
              refine nr_bipush hx hb dX2_nameOf_129 (by decide) ?_
              refine nr_bipush hx hb dX2_nameOf_131 (by decide) ?_
              refine nr_bipush hx hb dX2_nameOf_133 (by decide) ?_
              refine nr_bipush hx hb dX2_nameOf_135 (by decide) ?_
              refine cMX2_150 hF hK hI hl.1 hR (by decide) (Nat.le_of_ble_eq_true rfl) ⟨Nat.zero_le _, Nat.zero_le _⟩ (by decide) (by decide) (by decide) (by decide) (by decide) h dX2_nameOf_137 (fun r24 H locs fr24 h hI => ?_)
              replace h := h fr24
              refine nr_lcmp_ne hx hb f3 fr24 dX2_nameOf_140 dX2_nameOf_141 (tgt := 146) (by decide) (fun c26 => ?_) (fun c26 => ?_)
              · replace h := h.1 c26
                refine lv_aload_n hx hb dX2_nameOf_146 rfl (lv_at hl 0 rfl) ?_
                refine gMX2_142_17 hF hK hI dX2_nameOf_147 (fun f27 => ?_)
                refine nr_bipush hx hb dX2_nameOf_150 (by decide) ?_
                refine nr_bipush hx hb dX2_nameOf_152 (by decide) ?_
                refine nr_bipush hx hb dX2_nameOf_154 (by decide) ?_
                refine cMX2_146 hF hK hI hl.1 hR (by decide) (Nat.le_of_ble_eq_true rfl) ⟨Nat.zero_le _, Nat.zero_le _⟩ (by decide) (by decide) (by decide) h dX2_nameOf_156 (fun r28 H locs fr28 h hI => ?_)
                replace h := h fr28
                refine nr_bipush hx hb dX2_nameOf_159 (by decide) ?_
                have f30 := h.1; replace h := h.2
                refine nr_lshl hx hb (by decide) dX2_nameOf_161 ?_
                refine nr_bipush hx hb dX2_nameOf_162 (by decide) ?_
                refine nr_bipush hx hb dX2_nameOf_164 (by decide) ?_
                refine nr_bipush hx hb dX2_nameOf_166 (by decide) ?_
                refine nr_bipush hx hb dX2_nameOf_168 (by decide) ?_
                refine cMX2_173 hF hK hI hl.1 hR (by decide) (Nat.le_of_ble_eq_true rfl) ⟨Nat.zero_le _, Nat.zero_le _⟩ (by decide) (by decide) (by decide) (by decide) h dX2_nameOf_170 (fun r31 H locs fr31 h hI => ?_)
                replace h := h fr31
                refine nr_lor hx hb dX2_nameOf_173 ?_
                refine nr_lcmp_ne hx hb f3 (jOr_R _ _) dX2_nameOf_174 dX2_nameOf_175 (tgt := 183) (by decide) (fun c33 => ?_) (fun c33 => ?_)
                · replace h := h.1 c33
                  refine lv_aload_n hx hb dX2_nameOf_183 rfl (lv_at hl 0 rfl) ?_
                  refine gMX2_142_17 hF hK hI dX2_nameOf_184 (fun f34 => ?_)
                  refine nr_bipush hx hb dX2_nameOf_187 (by decide) ?_
                  refine nr_bipush hx hb dX2_nameOf_189 (by decide) ?_
                  refine nr_bipush hx hb dX2_nameOf_191 (by decide) ?_
                  refine nr_bipush hx hb dX2_nameOf_193 (by decide) ?_
                  refine nr_bipush hx hb dX2_nameOf_195 (by decide) ?_
                  refine cMX2_150 hF hK hI hl.1 hR (by decide) (Nat.le_of_ble_eq_true rfl) ⟨Nat.zero_le _, Nat.zero_le _⟩ (by decide) (by decide) (by decide) (by decide) (by decide) h dX2_nameOf_197 (fun r35 H locs fr35 h hI => ?_)
                  replace h := h fr35
                  refine nr_lcmp_ne hx hb f3 fr35 dX2_nameOf_200 dX2_nameOf_201 (tgt := 209) (by decide) (fun c37 => ?_) (fun c37 => ?_)
                  · replace h := h.1 c37
                    refine nr_iconst hx hb dX2_nameOf_209 ?_
                    rw [← hQ]; exact s_iret (K := fun r S' => S' = S ∧ K r) hx hb hr hlocks hI (by decide) ⟨rfl, h⟩ dX2_nameOf_210
                  · replace h := h.2 c37
                    refine nr_bipush hx hb dX2_nameOf_204 (by decide) ?_
                    refine lv_goto (tgt := 210) hx hb dX2_nameOf_206 (by decide) ?_
                    rw [← hQ]; exact s_iret (K := fun r S' => S' = S ∧ K r) hx hb hr hlocks hI (by decide) ⟨rfl, h⟩ dX2_nameOf_210
                · replace h := h.2 c33
                  refine nr_bipush hx hb dX2_nameOf_178 (by decide) ?_
                  refine lv_goto (tgt := 210) hx hb dX2_nameOf_180 (by decide) ?_
                  rw [← hQ]; exact s_iret (K := fun r S' => S' = S ∧ K r) hx hb hr hlocks hI (by decide) ⟨rfl, h⟩ dX2_nameOf_210
              · replace h := h.2 c26
                refine nr_iconst hx hb dX2_nameOf_144 ?_
                rw [← hQ]; exact s_iret (K := fun r S' => S' = S ∧ K r) hx hb hr hlocks hI (by decide) ⟨rfl, h⟩ dX2_nameOf_145
            · replace h := h.2 c22
              refine nr_iconst hx hb dX2_nameOf_121 ?_
              rw [← hQ]; exact s_iret (K := fun r S' => S' = S ∧ K r) hx hb hr hlocks hI (by decide) ⟨rfl, h⟩ dX2_nameOf_122
          · replace h := h.2 c18
            refine nr_iconst hx hb dX2_nameOf_100 ?_
            rw [← hQ]; exact s_iret (K := fun r S' => S' = S ∧ K r) hx hb hr hlocks hI (by decide) ⟨rfl, h⟩ dX2_nameOf_101
        · replace h := h.2 c14
          refine nr_iconst hx hb dX2_nameOf_75 ?_
          rw [← hQ]; exact s_iret (K := fun r S' => S' = S ∧ K r) hx hb hr hlocks hI (by decide) ⟨rfl, h⟩ dX2_nameOf_76
      · replace h := h.2 c10
        refine nr_iconst hx hb dX2_nameOf_54 ?_
        rw [← hQ]; exact s_iret (K := fun r S' => S' = S ∧ K r) hx hb hr hlocks hI (by decide) ⟨rfl, h⟩ dX2_nameOf_55
    · replace h := h.2 c6
      refine nr_iconst hx hb dX2_nameOf_29 ?_
      rw [← hQ]; exact s_iret (K := fun r S' => S' = S ∧ K r) hx hb hr hlocks hI (by decide) ⟨rfl, h⟩ dX2_nameOf_30
  · replace h := h.2 c2
    refine nr_iconst hx hb dX2_nameOf_8 ?_
    rw [← hQ]; exact s_iret (K := fun r S' => S' = S ∧ K r) hx hb hr hlocks hI (by decide) ⟨rfl, h⟩ dX2_nameOf_9
theorem gMX2_29_17 {p : Program} {l : Launch} {e : Env} {R : Room} {s : State} {m : MethodId} {args : Array Value} {below : List Frame} {meth : Method} {c : Code} {H : Heap} {locs : List Loc} {Q : State → Prop} {cc : ByteArray} {nL pc : Nat} {ls : Array Slot} {rest : List Value} {cells slots : Nat} {D : va_G} {dA : Nat → ClassId} {ad : Nat → Nat} {A : Nat → Prop} {H0 : Heap} {S : St} (hF : CallFix p m c cc nL s args lw_all RX2) (hK : gK D dA s) (hI : sI D dA wM ad A H0 S H locs) (hdg : decode cc pc = .ok (.getfield 29, 3)) (kk : W p l e R s m args below meth c H locs cells slots Q (F0 m (pc + 3) ls (.ref (ad 4) :: rest))) : W p l e R s m args below meth c H locs cells slots Q (F0 m (pc) ls (.ref (ad 17) :: rest)) := s_getr hF.1 hF.2.1 hF.2.2.2.2 hF.2.2.2.1 hK hI 17 (by decide) wM_17 rfl in_X2 16 (by decide) q1177 rfl 4 rfl hdg kk
theorem gMX2_160_17 {p : Program} {l : Launch} {e : Env} {R : Room} {s : State} {m : MethodId} {args : Array Value} {below : List Frame} {meth : Method} {c : Code} {H : Heap} {locs : List Loc} {Q : State → Prop} {cc : ByteArray} {nL pc : Nat} {ls : Array Slot} {rest : List Value} {cells slots : Nat} {D : va_G} {dA : Nat → ClassId} {ad : Nat → Nat} {A : Nat → Prop} {H0 : Heap} {S : St} (hF : CallFix p m c cc nL s args lw_all RX2) (hK : gK D dA s) (hI : sI D dA wM ad A H0 S H locs) (hdg : decode cc pc = .ok (.getfield 160, 3)) (kk : InR (fI S 17) → W p l e R s m args below meth c H locs cells slots Q (F0 m (pc + 3) ls (iV (fI S 17) :: rest))) : W p l e R s m args below meth c H locs cells slots Q (F0 m (pc) ls (.ref (ad 17) :: rest)) := s_geti hF.1 hF.2.1 hF.2.2.2.2 hF.2.2.2.1 hK hI 17 (by decide) wM_17 rfl in_X2 17 (by decide) q1178 rfl 0 17 rfl (by decide) hdg (kk (kdP_R (k := 0) (by decide) (hI.1.2.2.2.1.1 17)))
theorem uMX2_160_17 {p : Program} {l : Launch} {e : Env} {R : Room} {s : State} {m : MethodId} {args : Array Value} {below : List Frame} {meth : Method} {c : Code} {H : Heap} {locs : List Loc} {Q : State → Prop} {cc : ByteArray} {nL pc : Nat} {ls : Array Slot} {rest : List Value} {cells slots : Nat} {D : va_G} {dA : Nat → ClassId} {ad : Nat → Nat} {A : Nat → Prop} {H0 : Heap} {S : St} (hF : CallFix p m c cc nL s args lw_all RX2) (hK : gK D dA s) (hI : sI D dA wM ad A H0 S H locs) {v : Int} (hv : InR v) (hdg : decode cc pc = .ok (.putfield 160, 3)) (kk : ∀ (S1 : St) (H1 : Heap) (locs1 : List Loc), S1 = fset S 17 v → sI D dA wM ad A H0 S1 H1 locs1 → W p l e R s m args below meth c H1 locs1 cells slots Q (F0 m (pc + 3) ls (rest))) : W p l e R s m args below meth c H locs cells slots Q (F0 m (pc) ls (iV v :: .ref (ad 17) :: rest)) := s_put hF.1 hF.2.1 wM_U tyX2 tyX2_ok nmX2 hF.2.2.2.2 hF.2.2.2.1 hK hI 17 (by decide) wM_17 rfl in_X2 17 (by decide) q1178 rfl 0 17 rfl hv rfl rfl rfl hdg (fun H1 locs1 h => kk _ H1 locs1 rfl h)
set_option maxHeartbeats 4000000 in
theorem t_M_push (l : Launch) (D : va_G) (dA : Nat → ClassId) (ad : Nat → Nat) (S : St) (sz : Nat) (x1 : Int) (K : St → Prop) (rx1 : InR x1) (h : w_M_push x1 S K) : Met l yX2_push (ws_ yX2_push cX2_push 2 (Option.none : Option Jvm.ClassFile.FieldType)) (rmD 0 0 0) (va_Pc [.ref (ad 17), iV x1] (sPre D dA wM ad S sz)) (va_Qv (fun S' => K S') (sPost D dA wM ad (wA wM ad S sz)) (wA wM ad S sz)) 0 0 (wA wM ad S sz) := by
  refine Met.ofW (cc := cX2_push) (maxL := 2) (ret := (Option.none : Option Jvm.ClassFile.FieldType)) (by decide) rfl ?_
  intro p e s m args below meth c s₁ B hml hv
  obtain ⟨rfl, hsz, hK, hC⟩ := hv
  have hx := B.exec
  have hb := B.bytes
  have hr := B.returns
  have hlocks := B.notSynchronized
  have hts := atoms_spec (ws := (ws_ yX2_push cX2_push 2 (Option.none : Option Jvm.ClassFile.FieldType))) B.pre
  have hts : ∀ w ∈ lw_all, w.before _ s = true := fun w h => hts w (List.mem_cons_of_mem _ h)
  have hown : s.vm.findClass RX2 = some m.cls := findClass_of_methodNamed B.named
  clear B
  subst hsz
  have hI : sI D dA wM ad (wA wM ad S s.heap.size) s.heap S s.heap [] := hC.start
  clear hC
  generalize wA wM ad S s.heap.size = A at hI ⊢
  have hl := lv_entry ([.ref (ad 17), iV x1] : List Value) (n := 2) (Nat.le_of_ble_eq_true rfl)
  rw [lg_entry_eq]
  generalize (lg_sl ([.ref (ad 17), iV x1] : List Value) ++ List.replicate (2 - (lg_sl ([.ref (ad 17), iV x1] : List Value)).length) Slot.unset).toArray = ls at hl ⊢
  have hl : lv_has ls 2 [(0, .ref (ad 17)), (1, iV x1)] := hl
  have hF : CallFix p m c cX2_push 2 s _ lw_all RX2 := ⟨hx, hb, hml, hown, hts⟩
  have hR : (headSpec (ws_ yX2_push cX2_push 2 (Option.none : Option Jvm.ClassFile.FieldType)) (rmD 0 0 0)).room.frames = 0 + 1 ∧ (headSpec (ws_ yX2_push cX2_push 2 (Option.none : Option Jvm.ClassFile.FieldType)) (rmD 0 0 0)).room.locals = 64 * 0 + 64 := ⟨rfl, rfl⟩
  generalize (headSpec (ws_ yX2_push cX2_push 2 (Option.none : Option Jvm.ClassFile.FieldType)) (rmD 0 0 0)).room = R at hR ⊢
  generalize ([.ref (ad 17), iV x1] : List Value).toArray = args at hts hF ⊢
  generalize hQ : MQ below _ _ _ _ _ _ = Q
  unfold w_M_push at h
  refine lv_aload_n hx hb dX2_push_0 rfl (lv_at hl 0 rfl) ?_
  refine gMX2_29_17 hF hK hI dX2_push_1 ?_
  refine lv_aload_n hx hb dX2_push_4 rfl (lv_at hl 0 rfl) ?_
  refine gMX2_160_17 hF hK hI dX2_push_5 (fun f1 => ?_)
  replace h := h f1
  refine lv_iload_n hx hb dX2_push_8 rfl (lv_at hl 1 rfl) ?_
  have f2 := h.1; replace h := h.2
  refine s_iast hx hb hK hI 4 (by decide) wM_4 f1 f2 rx1 dX2_push_9 (fun S3 H locs eS3 hI => ?_)
  replace h := h S3 eS3
  refine lv_aload_n hx hb dX2_push_10 rfl (lv_at hl 0 rfl) ?_
  refine lv_dup hx hb dX2_push_11 rfl ?_
  refine gMX2_160_17 hF hK hI dX2_push_12 (fun f4 => ?_)
  replace h := h f4
  refine nr_iconst hx hb dX2_push_15 ?_
  have f5 := h.1; replace h := h.2
  refine nr_iadd hx hb dX2_push_16 ?_
  refine uMX2_160_17 hF hK hI f5 dX2_push_17 (fun S6 H locs eS6 hI => ?_)
  replace h := h S6 eS6
  rw [← hQ]; exact s_vret (K := K) hx hb hr hlocks hI  h dX2_push_20
theorem gMX2_167_17 {p : Program} {l : Launch} {e : Env} {R : Room} {s : State} {m : MethodId} {args : Array Value} {below : List Frame} {meth : Method} {c : Code} {H : Heap} {locs : List Loc} {Q : State → Prop} {cc : ByteArray} {nL pc : Nat} {ls : Array Slot} {rest : List Value} {cells slots : Nat} {D : va_G} {dA : Nat → ClassId} {ad : Nat → Nat} {A : Nat → Prop} {H0 : Heap} {S : St} (hF : CallFix p m c cc nL s args lw_all RX2) (hK : gK D dA s) (hI : sI D dA wM ad A H0 S H locs) (hdg : decode cc pc = .ok (.getfield 167, 3)) (kk : InR (fI S 18) → W p l e R s m args below meth c H locs cells slots Q (F0 m (pc + 3) ls (iV (fI S 18) :: rest))) : W p l e R s m args below meth c H locs cells slots Q (F0 m (pc) ls (.ref (ad 17) :: rest)) := s_geti hF.1 hF.2.1 hF.2.2.2.2 hF.2.2.2.1 hK hI 17 (by decide) wM_17 rfl in_X2 18 (by decide) q1179 rfl 0 18 rfl (by decide) hdg (kk (kdP_R (k := 0) (by decide) (hI.1.2.2.2.1.1 18)))
theorem uMX2_167_17 {p : Program} {l : Launch} {e : Env} {R : Room} {s : State} {m : MethodId} {args : Array Value} {below : List Frame} {meth : Method} {c : Code} {H : Heap} {locs : List Loc} {Q : State → Prop} {cc : ByteArray} {nL pc : Nat} {ls : Array Slot} {rest : List Value} {cells slots : Nat} {D : va_G} {dA : Nat → ClassId} {ad : Nat → Nat} {A : Nat → Prop} {H0 : Heap} {S : St} (hF : CallFix p m c cc nL s args lw_all RX2) (hK : gK D dA s) (hI : sI D dA wM ad A H0 S H locs) {v : Int} (hv : InR v) (hdg : decode cc pc = .ok (.putfield 167, 3)) (kk : ∀ (S1 : St) (H1 : Heap) (locs1 : List Loc), S1 = fset S 18 v → sI D dA wM ad A H0 S1 H1 locs1 → W p l e R s m args below meth c H1 locs1 cells slots Q (F0 m (pc + 3) ls (rest))) : W p l e R s m args below meth c H locs cells slots Q (F0 m (pc) ls (iV v :: .ref (ad 17) :: rest)) := s_put hF.1 hF.2.1 wM_U tyX2 tyX2_ok nmX2 hF.2.2.2.2 hF.2.2.2.1 hK hI 17 (by decide) wM_17 rfl in_X2 18 (by decide) q1179 rfl 0 18 rfl hv rfl rfl rfl hdg (fun H1 locs1 h => kk _ H1 locs1 rfl h)
theorem cMX2_170 {p : Program} {l : Launch} {e : Env} {R : Room} {s : State} {m : MethodId} {args : Array Value} {below : List Frame} {meth : Method} {c : Code} {H : Heap} {locs : List Loc} {Q : State → Prop} {cc : ByteArray} {nL pc : Nat} {ls : Array Slot} {rest : List Value} {cells slots : Nat} {D : va_G} {dA : Nat → ClassId} {ad : Nat → Nat} {A : Nat → Prop} {H0 : Heap} {S : St} {dk : Nat} (hF : CallFix p m c cc nL s args lw_all RX2) (hK : gK D dA s) (hI : sI D dA wM ad A H0 S H locs) (hls : ls.size = nL) (hR : R.frames = dk + 1 ∧ R.locals = 64 * dk + 64) (hd : 0 + 1 ≤ dk) (hW : (rest.map fun v => v.category).sum ≤ 8) (hf : cells ≤ R.cells ∧ slots ≤ R.slots) {x1 : Int} {x2 : Int} {K : St → Prop} (r1 : InR x1) (r2 : InR x2) (h : w_M_emit x1 x2 S K) (hdg : decode cc pc = .ok (.invokevirtual 170, 3)) (kk : ∀ (S1 : St) (H1 : Heap) (locs1 : List Loc), K S1 → sI D dA wM ad A H0 S1 H1 locs1 → W p l e R s m args below meth c H1 locs1 cells slots Q (F0 m (pc + 3) ls (rest))) : W p l e R s m args below meth c H locs cells slots Q (F0 m (pc) ls (iV x2 :: iV x1 :: .ref (ad 17) :: rest)) := s_callVv (As := [iV x1, iV x2]) (rest := rest) (K := K) hF (t_M_emit l D dA ad S H.size x1 x2 K r1 r2 h) (s_recv hK hI 17 (by decide) wM_17 rfl) (cwV 2 hF.2.2.2.2 (lw_V q1462 q1464 qs75 q109 q1465) rfl rfl rfl (by decide +kernel) ⟨by have h1 := hR.1; have h2 : (rmD 0 0 0).frames = 0 + 1 := rfl; omega, by have h1 := hR.2; have h2 : (rmD 0 0 0).locals = 64 * 0 + 64 := rfl; omega⟩) hK hI rfl hls rfl hW hdg hf kk
theorem uMX2_163_17 {p : Program} {l : Launch} {e : Env} {R : Room} {s : State} {m : MethodId} {args : Array Value} {below : List Frame} {meth : Method} {c : Code} {H : Heap} {locs : List Loc} {Q : State → Prop} {cc : ByteArray} {nL pc : Nat} {ls : Array Slot} {rest : List Value} {cells slots : Nat} {D : va_G} {dA : Nat → ClassId} {ad : Nat → Nat} {A : Nat → Prop} {H0 : Heap} {S : St} (hF : CallFix p m c cc nL s args lw_all RX2) (hK : gK D dA s) (hI : sI D dA wM ad A H0 S H locs) {v : Int} (hv : (v = 0 ∨ v = 1)) (hdg : decode cc pc = .ok (.putfield 163, 3)) (kk : ∀ (S1 : St) (H1 : Heap) (locs1 : List Loc), S1 = fset S 19 v → sI D dA wM ad A H0 S1 H1 locs1 → W p l e R s m args below meth c H1 locs1 cells slots Q (F0 m (pc + 3) ls (rest))) : W p l e R s m args below meth c H locs cells slots Q (F0 m (pc) ls (iV v :: .ref (ad 17) :: rest)) := s_put hF.1 hF.2.1 wM_U tyX2 tyX2_ok nmX2 hF.2.2.2.2 hF.2.2.2.1 hK hI 17 (by decide) wM_17 rfl in_X2 19 (by decide) q1180 rfl 2 19 rfl hv rfl (nar_z hv) (fit_z hv) hdg (fun H1 locs1 h => kk _ H1 locs1 rfl h)
set_option maxHeartbeats 4000000 in
theorem t_M_whole (l : Launch) (D : va_G) (dA : Nat → ClassId) (ad : Nat → Nat) (S : St) (sz : Nat) (K : St → Prop) (h : w_M_whole S K) : Met l yX2_whole (ws_ yX2_whole cX2_whole 1 (Option.none : Option Jvm.ClassFile.FieldType)) (rmD 1 0 0) (va_Pc [.ref (ad 17)] (sPre D dA wM ad S sz)) (va_Qv (fun S' => K S') (sPost D dA wM ad (wA wM ad S sz)) (wA wM ad S sz)) 0 0 (wA wM ad S sz) := by
  refine Met.ofW (cc := cX2_whole) (maxL := 1) (ret := (Option.none : Option Jvm.ClassFile.FieldType)) (by decide) rfl ?_
  intro p e s m args below meth c s₁ B hml hv
  obtain ⟨rfl, hsz, hK, hC⟩ := hv
  have hx := B.exec
  have hb := B.bytes
  have hr := B.returns
  have hlocks := B.notSynchronized
  have hts := atoms_spec (ws := (ws_ yX2_whole cX2_whole 1 (Option.none : Option Jvm.ClassFile.FieldType))) B.pre
  have hts : ∀ w ∈ lw_all, w.before _ s = true := fun w h => hts w (List.mem_cons_of_mem _ h)
  have hown : s.vm.findClass RX2 = some m.cls := findClass_of_methodNamed B.named
  clear B
  subst hsz
  have hI : sI D dA wM ad (wA wM ad S s.heap.size) s.heap S s.heap [] := hC.start
  clear hC
  generalize wA wM ad S s.heap.size = A at hI ⊢
  have hl := lv_entry ([.ref (ad 17)] : List Value) (n := 1) (Nat.le_of_ble_eq_true rfl)
  rw [lg_entry_eq]
  generalize (lg_sl ([.ref (ad 17)] : List Value) ++ List.replicate (1 - (lg_sl ([.ref (ad 17)] : List Value)).length) Slot.unset).toArray = ls at hl ⊢
  have hl : lv_has ls 1 [(0, .ref (ad 17))] := hl
  have hF : CallFix p m c cX2_whole 1 s _ lw_all RX2 := ⟨hx, hb, hml, hown, hts⟩
  have hR : (headSpec (ws_ yX2_whole cX2_whole 1 (Option.none : Option Jvm.ClassFile.FieldType)) (rmD 1 0 0)).room.frames = 1 + 1 ∧ (headSpec (ws_ yX2_whole cX2_whole 1 (Option.none : Option Jvm.ClassFile.FieldType)) (rmD 1 0 0)).room.locals = 64 * 1 + 64 := ⟨rfl, rfl⟩
  generalize (headSpec (ws_ yX2_whole cX2_whole 1 (Option.none : Option Jvm.ClassFile.FieldType)) (rmD 1 0 0)).room = R at hR ⊢
  generalize ([.ref (ad 17)] : List Value).toArray = args at hts hF ⊢
  generalize hQ : MQ below _ _ _ _ _ _ = Q
  have L5 : ∀ (n5 : Nat) (S : St) (H : Heap) (locs : List Loc) (ls : Array Slot), sI D dA wM ad A s.heap S H locs → lv_has ls 1 [(0, .ref (ad 17))] → l_M_whole_5 K n5 S → W p l e R s m args below meth c H locs 0 0 Q (F0 m 5 ls []) := by
    intro n5
    induction n5 with
    | zero => intro S H locs ls hI hl h; exact False.elim h
    | succ n5 ih5 =>
      intro S H locs ls hI hl h
      unfold l_M_whole_5 at h
      refine lv_aload_n hx hb dX2_whole_5 rfl (lv_at hl 0 rfl) ?_
      refine gMX2_160_17 hF hK hI dX2_whole_6 (fun f1 => ?_)
      replace h := h f1
      refine nr_if_le hx hb f1 dX2_whole_9 (tgt := 56) (by decide) (fun c2 => ?_) (fun c2 => ?_)
      · replace h := h.1 c2
        rw [← hQ]; exact s_vret (K := K) hx hb hr hlocks hI  h dX2_whole_56
      · replace h := h.2 c2
        refine lv_aload_n hx hb dX2_whole_12 rfl (lv_at hl 0 rfl) ?_
        refine gMX2_29_17 hF hK hI dX2_whole_13 ?_
        refine lv_aload_n hx hb dX2_whole_16 rfl (lv_at hl 0 rfl) ?_
        refine gMX2_160_17 hF hK hI dX2_whole_17 (fun f3 => ?_)
        refine nr_iconst hx hb dX2_whole_20 ?_
        have f4 := h.1; replace h := h.2
        refine nr_isub hx hb dX2_whole_21 ?_
        have f5 := h.1; replace h := h.2
        refine s_iald hx hb hK hI 4 (by decide) wM_4 f4 f5 dX2_whole_22 (fun f6 => ?_)
        replace h := h f6
        refine nr_iconst hx hb dX2_whole_23 ?_
        refine nr_icmp_ne hx hb f6 (by decide) dX2_whole_24 (tgt := 56) (by decide) (fun c7 => ?_) (fun c7 => ?_)
        · replace h := h.1 c7
          rw [← hQ]; exact s_vret (K := K) hx hb hr hlocks hI  h dX2_whole_56
        · replace h := h.2 c7
          refine lv_aload_n hx hb dX2_whole_27 rfl (lv_at hl 0 rfl) ?_
          refine lv_dup hx hb dX2_whole_28 rfl ?_
          refine gMX2_160_17 hF hK hI dX2_whole_29 (fun f8 => ?_)
          refine nr_iconst hx hb dX2_whole_32 ?_
          refine nr_isub hx hb dX2_whole_33 ?_
          refine uMX2_160_17 hF hK hI f4 dX2_whole_34 (fun S9 H locs eS9 hI => ?_)
          replace h := h S9 eS9
          refine lv_aload_n hx hb dX2_whole_37 rfl (lv_at hl 0 rfl) ?_
          refine lv_dup hx hb dX2_whole_38 rfl ?_
          refine gMX2_167_17 hF hK hI dX2_whole_39 (fun f10 => ?_)
          replace h := h f10
          refine nr_iconst hx hb dX2_whole_42 ?_
          have f11 := h.1; replace h := h.2
          refine nr_isub hx hb dX2_whole_43 ?_
          refine uMX2_167_17 hF hK hI f11 dX2_whole_44 (fun S12 H locs eS12 hI => ?_)
          replace h := h S12 eS12
          refine lv_aload_n hx hb dX2_whole_47 rfl (lv_at hl 0 rfl) ?_
          refine nr_iconst hx hb dX2_whole_48 ?_
          refine nr_iconst hx hb dX2_whole_49 ?_
          refine cMX2_170 hF hK hI hl.1 hR (by decide) (Nat.le_of_ble_eq_true rfl) ⟨Nat.zero_le _, Nat.zero_le _⟩ (by decide) (by decide) h dX2_whole_50 (fun S14 H locs h hI => ?_)
          refine lv_goto (tgt := 5) hx hb dX2_whole_53 (by decide) ?_
          exact ih5 S14 _ _ _ hI (lv_sub hl [0] rfl) h
  unfold w_M_whole at h
  refine lv_aload_n hx hb dX2_whole_0 rfl (lv_at hl 0 rfl) ?_
  refine nr_iconst hx hb dX2_whole_1 ?_
  refine uMX2_163_17 hF hK hI (by decide) dX2_whole_2 (fun S15 H locs eS15 hI => ?_)
  replace h := h S15 eS15
  obtain ⟨n0, h⟩ := h
  exact L5 n0 S15 _ _ _ hI (lv_sub hl [0] rfl) h
theorem cMX2_197 {p : Program} {l : Launch} {e : Env} {R : Room} {s : State} {m : MethodId} {args : Array Value} {below : List Frame} {meth : Method} {c : Code} {H : Heap} {locs : List Loc} {Q : State → Prop} {cc : ByteArray} {nL pc : Nat} {ls : Array Slot} {rest : List Value} {cells slots : Nat} {D : va_G} {dA : Nat → ClassId} {ad : Nat → Nat} {A : Nat → Prop} {H0 : Heap} {S : St} {dk : Nat} (hF : CallFix p m c cc nL s args lw_all RX2) (hK : gK D dA s) (hI : sI D dA wM ad A H0 S H locs) (hls : ls.size = nL) (hR : R.frames = dk + 1 ∧ R.locals = 64 * dk + 64) (hd : 0 + 1 ≤ dk) (hW : (rest.map fun v => v.category).sum ≤ 8) (hf : cells ≤ R.cells ∧ slots ≤ R.slots) {x1 : Int} {K : St → Prop} (r1 : InR x1) (h : w_M_push x1 S K) (hdg : decode cc pc = .ok (.invokevirtual 197, 3)) (kk : ∀ (S1 : St) (H1 : Heap) (locs1 : List Loc), K S1 → sI D dA wM ad A H0 S1 H1 locs1 → W p l e R s m args below meth c H1 locs1 cells slots Q (F0 m (pc + 3) ls (rest))) : W p l e R s m args below meth c H locs cells slots Q (F0 m (pc) ls (iV x1 :: .ref (ad 17) :: rest)) := s_callVv (As := [iV x1]) (rest := rest) (K := K) hF (t_M_push l D dA ad S H.size x1 K r1 h) (s_recv hK hI 17 (by decide) wM_17 rfl) (cwV 1 hF.2.2.2.2 (lw_V q1466 q1468 qs76 q109 q1469) rfl rfl rfl (by decide +kernel) ⟨by have h1 := hR.1; have h2 : (rmD 0 0 0).frames = 0 + 1 := rfl; omega, by have h1 := hR.2; have h2 : (rmD 0 0 0).locals = 64 * 0 + 64 := rfl; omega⟩) hK hI rfl hls rfl hW hdg hf kk
theorem cMX2_190 {p : Program} {l : Launch} {e : Env} {R : Room} {s : State} {m : MethodId} {args : Array Value} {below : List Frame} {meth : Method} {c : Code} {H : Heap} {locs : List Loc} {Q : State → Prop} {cc : ByteArray} {nL pc : Nat} {ls : Array Slot} {rest : List Value} {cells slots : Nat} {D : va_G} {dA : Nat → ClassId} {ad : Nat → Nat} {A : Nat → Prop} {H0 : Heap} {S : St} {dk : Nat} (hF : CallFix p m c cc nL s args lw_all RX2) (hK : gK D dA s) (hI : sI D dA wM ad A H0 S H locs) (hls : ls.size = nL) (hR : R.frames = dk + 1 ∧ R.locals = 64 * dk + 64) (hd : 3 + 1 ≤ dk) (hW : (rest.map fun v => v.category).sum ≤ 8) (hf : cells ≤ R.cells ∧ slots ≤ R.slots) {K : Int → Prop} (h : w_M_nameOf S K) (hdg : decode cc pc = .ok (.invokevirtual 190, 3)) (kk : ∀ (r : Int) (H1 : Heap) (locs1 : List Loc), InR r → K r → sI D dA wM ad A H0 S H1 locs1 → W p l e R s m args below meth c H1 locs1 cells slots Q (F0 m (pc + 3) ls (iV r :: rest))) : W p l e R s m args below meth c H locs cells slots Q (F0 m (pc) ls (.ref (ad 17) :: rest)) := s_callVi (As := []) (rest := rest) (K := fun r S' => S' = S ∧ K r) hF (t_M_nameOf l D dA ad S H.size K h) (s_recv hK hI 17 (by decide) wM_17 rfl) (cwV 0 hF.2.2.2.2 (lw_V q1478 q1480 qs79 q109 q1481) rfl rfl rfl (by decide +kernel) ⟨by have h1 := hR.1; have h2 : (rmD 3 0 0).frames = 3 + 1 := rfl; omega, by have h1 := hR.2; have h2 : (rmD 3 0 0).locals = 64 * 3 + 64 := rfl; omega⟩) hK hI rfl hls rfl hW hdg hf (fun r S1 H1 locs1 f hk hI1 => by obtain ⟨rfl, hk⟩ := hk; exact kk r H1 locs1 f hk hI1)
theorem cMX2_194 {p : Program} {l : Launch} {e : Env} {R : Room} {s : State} {m : MethodId} {args : Array Value} {below : List Frame} {meth : Method} {c : Code} {H : Heap} {locs : List Loc} {Q : State → Prop} {cc : ByteArray} {nL pc : Nat} {ls : Array Slot} {rest : List Value} {cells slots : Nat} {D : va_G} {dA : Nat → ClassId} {ad : Nat → Nat} {A : Nat → Prop} {H0 : Heap} {S : St} {dk : Nat} (hF : CallFix p m c cc nL s args lw_all RX2) (hK : gK D dA s) (hI : sI D dA wM ad A H0 S H locs) (hls : ls.size = nL) (hR : R.frames = dk + 1 ∧ R.locals = 64 * dk + 64) (hd : 0 + 1 ≤ dk) (hW : (rest.map fun v => v.category).sum ≤ 8) (hf : cells ≤ R.cells ∧ slots ≤ R.slots) {x1 : Int} {K : Int → Prop} (r1 : InR x1) (h : w_M_isBarred x1 S K) (hdg : decode cc pc = .ok (.invokevirtual 194, 3)) (kk : ∀ (r : Int) (H1 : Heap) (locs1 : List Loc), (r = 0 ∨ r = 1) → K r → sI D dA wM ad A H0 S H1 locs1 → W p l e R s m args below meth c H1 locs1 cells slots Q (F0 m (pc + 3) ls (iV r :: rest))) : W p l e R s m args below meth c H locs cells slots Q (F0 m (pc) ls (iV x1 :: .ref (ad 17) :: rest)) := s_callVz (As := [iV x1]) (rest := rest) (K := fun r S' => S' = S ∧ K r) hF (t_M_isBarred l D dA ad S H.size x1 K r1 h) (s_recv hK hI 17 (by decide) wM_17 rfl) (cwV 1 hF.2.2.2.2 (lw_V q1482 q1484 qs80 q109 q1485) rfl rfl rfl (by decide +kernel) ⟨by have h1 := hR.1; have h2 : (rmD 0 0 0).frames = 0 + 1 := rfl; omega, by have h1 := hR.2; have h2 : (rmD 0 0 0).locals = 64 * 0 + 64 := rfl; omega⟩) hK hI rfl hls rfl hW hdg hf (fun r S1 H1 locs1 f hk hI1 => by obtain ⟨rfl, hk⟩ := hk; exact kk r H1 locs1 f hk hI1)
theorem cMX2_187 {p : Program} {l : Launch} {e : Env} {R : Room} {s : State} {m : MethodId} {args : Array Value} {below : List Frame} {meth : Method} {c : Code} {H : Heap} {locs : List Loc} {Q : State → Prop} {cc : ByteArray} {nL pc : Nat} {ls : Array Slot} {rest : List Value} {cells slots : Nat} {D : va_G} {dA : Nat → ClassId} {ad : Nat → Nat} {A : Nat → Prop} {H0 : Heap} {S : St} {dk : Nat} (hF : CallFix p m c cc nL s args lw_all RX2) (hK : gK D dA s) (hI : sI D dA wM ad A H0 S H locs) (hls : ls.size = nL) (hR : R.frames = dk + 1 ∧ R.locals = 64 * dk + 64) (hd : 1 + 1 ≤ dk) (hW : (rest.map fun v => v.category).sum ≤ 8) (hf : cells ≤ R.cells ∧ slots ≤ R.slots) {K : St → Prop} (h : w_M_whole S K) (hdg : decode cc pc = .ok (.invokevirtual 187, 3)) (kk : ∀ (S1 : St) (H1 : Heap) (locs1 : List Loc), K S1 → sI D dA wM ad A H0 S1 H1 locs1 → W p l e R s m args below meth c H1 locs1 cells slots Q (F0 m (pc + 3) ls (rest))) : W p l e R s m args below meth c H locs cells slots Q (F0 m (pc) ls (.ref (ad 17) :: rest)) := s_callVv (As := []) (rest := rest) (K := K) hF (t_M_whole l D dA ad S H.size K h) (s_recv hK hI 17 (by decide) wM_17 rfl) (cwV 0 hF.2.2.2.2 (lw_V q1470 q1472 qs77 q109 q1473) rfl rfl rfl (by decide +kernel) ⟨by have h1 := hR.1; have h2 : (rmD 1 0 0).frames = 1 + 1 := rfl; omega, by have h1 := hR.2; have h2 : (rmD 1 0 0).locals = 64 * 1 + 64 := rfl; omega⟩) hK hI rfl hls rfl hW hdg hf kk
set_option maxHeartbeats 4000000 in
theorem t_M_beginOne (l : Launch) (D : va_G) (dA : Nat → ClassId) (ad : Nat → Nat) (S : St) (sz : Nat) (K : Int → St → Prop) (h : w_M_beginOne S K) : Met l yX2_beginOne (ws_ yX2_beginOne cX2_beginOne 2 (Option.some Jvm.ClassFile.FieldType.int)) (rmD 4 0 0) (va_Pc [.ref (ad 17)] (sPre D dA wM ad S sz)) (va_Qi (fun r S' => K r.toInt S') (sPost D dA wM ad (wA wM ad S sz)) (wA wM ad S sz)) 0 0 (wA wM ad S sz) := by
  refine Met.ofW (cc := cX2_beginOne) (maxL := 2) (ret := (Option.some Jvm.ClassFile.FieldType.int)) (by decide) rfl ?_
  intro p e s m args below meth c s₁ B hml hv
  obtain ⟨rfl, hsz, hK, hC⟩ := hv
  have hx := B.exec
  have hb := B.bytes
  have hr := B.returns
  have hlocks := B.notSynchronized
  have hts := atoms_spec (ws := (ws_ yX2_beginOne cX2_beginOne 2 (Option.some Jvm.ClassFile.FieldType.int))) B.pre
  have hts : ∀ w ∈ lw_all, w.before _ s = true := fun w h => hts w (List.mem_cons_of_mem _ h)
  have hown : s.vm.findClass RX2 = some m.cls := findClass_of_methodNamed B.named
  clear B
  subst hsz
  have hI : sI D dA wM ad (wA wM ad S s.heap.size) s.heap S s.heap [] := hC.start
  clear hC
  generalize wA wM ad S s.heap.size = A at hI ⊢
  have hl := lv_entry ([.ref (ad 17)] : List Value) (n := 2) (Nat.le_of_ble_eq_true rfl)
  rw [lg_entry_eq]
  generalize (lg_sl ([.ref (ad 17)] : List Value) ++ List.replicate (2 - (lg_sl ([.ref (ad 17)] : List Value)).length) Slot.unset).toArray = ls at hl ⊢
  have hl : lv_has ls 2 [(0, .ref (ad 17))] := hl
  have hF : CallFix p m c cX2_beginOne 2 s _ lw_all RX2 := ⟨hx, hb, hml, hown, hts⟩
  have hR : (headSpec (ws_ yX2_beginOne cX2_beginOne 2 (Option.some Jvm.ClassFile.FieldType.int)) (rmD 4 0 0)).room.frames = 4 + 1 ∧ (headSpec (ws_ yX2_beginOne cX2_beginOne 2 (Option.some Jvm.ClassFile.FieldType.int)) (rmD 4 0 0)).room.locals = 64 * 4 + 64 := ⟨rfl, rfl⟩
  generalize (headSpec (ws_ yX2_beginOne cX2_beginOne 2 (Option.some Jvm.ClassFile.FieldType.int)) (rmD 4 0 0)).room = R at hR ⊢
  generalize ([.ref (ad 17)] : List Value).toArray = args at hts hF ⊢
  generalize hQ : MQ below _ _ _ _ _ _ = Q
  have J106 : ∀ (y0 : Int) (S : St) (H : Heap) (locs : List Loc) (ls : Array Slot), InR y0 → sI D dA wM ad A s.heap S H locs → lv_has ls 2 [(0, .ref (ad 17))] → j_M_beginOne_106 y0 S K → W p l e R s m args below meth c H locs 0 0 Q (F0 m 106 ls [iV y0]) := by
    intro y0 S H locs ls ry0 hI hl h
    unfold j_M_beginOne_106 at h
    refine lv_istore_n (lv' := [(1, iV y0), (0, .ref (ad 17))]) hx hb dX2_beginOne_106 rfl hl (by decide) rfl (fun ls hl => ?_)
    refine lv_iload_n hx hb dX2_beginOne_107 rfl (lv_at hl 0 rfl) ?_
    refine nr_if_ne hx hb ry0 dX2_beginOne_108 (tgt := 113) (by decide) (fun c1 => ?_) (fun c1 => ?_)
    · replace h := h.1 c1
      refine lv_aload_n hx hb dX2_beginOne_113 rfl (lv_at hl 1 rfl) ?_
      refine gMX2_167_17 hF hK hI dX2_beginOne_114 (fun f2 => ?_)
      replace h := h f2
      refine nr_bipush hx hb dX2_beginOne_117 (by decide) ?_
      refine nr_icmp_ne hx hb f2 (by decide) dX2_beginOne_119 (tgt := 124) (by decide) (fun c3 => ?_) (fun c3 => ?_)
      · replace h := h.1 c3
        refine lv_aload_n hx hb dX2_beginOne_124 rfl (lv_at hl 1 rfl) ?_
        refine lv_dup hx hb dX2_beginOne_125 rfl ?_
        refine gMX2_167_17 hF hK hI dX2_beginOne_126 (fun f4 => ?_)
        refine nr_iconst hx hb dX2_beginOne_129 ?_
        have f5 := h.1; replace h := h.2
        refine nr_iadd hx hb dX2_beginOne_130 ?_
        refine uMX2_167_17 hF hK hI f5 dX2_beginOne_131 (fun S6 H locs eS6 hI => ?_)
        replace h := h S6 eS6
        refine lv_aload_n hx hb dX2_beginOne_134 rfl (lv_at hl 1 rfl) ?_
        refine lv_iload_n hx hb dX2_beginOne_135 rfl (lv_at hl 0 rfl) ?_
        refine cMX2_197 hF hK hI hl.1 hR (by decide) (Nat.le_of_ble_eq_true rfl) ⟨Nat.zero_le _, Nat.zero_le _⟩ ry0 h dX2_beginOne_136 (fun S8 H locs h hI => ?_)
        refine lv_aload_n hx hb dX2_beginOne_139 rfl (lv_at hl 1 rfl) ?_
        refine cMX2_184 hF hK hI hl.1 hR (by decide) (Nat.le_of_ble_eq_true rfl) ⟨Nat.zero_le _, Nat.zero_le _⟩ h dX2_beginOne_140 (fun S10 H locs h hI => ?_)
        refine nr_iconst hx hb dX2_beginOne_143 ?_
        rw [← hQ]; exact s_iret (K := K) hx hb hr hlocks hI (by decide) h dX2_beginOne_144
      · replace h := h.2 c3
        refine nr_iconst hx hb dX2_beginOne_122 ?_
        rw [← hQ]; exact s_iret (K := K) hx hb hr hlocks hI (by decide) h dX2_beginOne_123
    · replace h := h.2 c1
      refine nr_iconst hx hb dX2_beginOne_111 ?_
      rw [← hQ]; exact s_iret (K := K) hx hb hr hlocks hI (by decide) h dX2_beginOne_112
  unfold w_M_beginOne at h
  refine lv_aload_n hx hb dX2_beginOne_0 rfl (lv_at hl 0 rfl) ?_
  refine gMX2_129_17 hF hK hI dX2_beginOne_1 (fun f11 => ?_)
  replace h := h f11
  refine nr_iconst hx hb dX2_beginOne_4 ?_
  refine nr_icmp_ne hx hb f11 (by decide) dX2_beginOne_5 (tgt := 39) (by decide) (fun c12 => ?_) (fun c12 => ?_)
  · replace h := h.1 c12
    refine lv_aload_n hx hb dX2_beginOne_39 rfl (lv_at hl 0 rfl) ?_
    refine cMX2_190 hF hK hI hl.1 hR (by decide) (Nat.le_of_ble_eq_true rfl) ⟨Nat.zero_le _, Nat.zero_le _⟩ h dX2_beginOne_40 (fun r13 H locs fr13 h hI => ?_)
    replace h := h fr13
    refine nr_if_lt hx hb fr13 dX2_beginOne_43 (tgt := 78) (by decide) (fun c15 => ?_) (fun c15 => ?_)
    · replace h := h.1 c15
      refine lv_aload_n hx hb dX2_beginOne_78 rfl (lv_at hl 0 rfl) ?_
      refine gMX2_129_17 hF hK hI dX2_beginOne_79 (fun f16 => ?_)
      refine nr_bipush hx hb dX2_beginOne_82 (by decide) ?_
      refine nr_icmp_ne hx hb f11 (by decide) dX2_beginOne_84 (tgt := 92) (by decide) (fun c17 => ?_) (fun c17 => ?_)
      · replace h := h.1 c17
        refine lv_aload_n hx hb dX2_beginOne_92 rfl (lv_at hl 0 rfl) ?_
        refine gMX2_129_17 hF hK hI dX2_beginOne_93 (fun f18 => ?_)
        refine nr_bipush hx hb dX2_beginOne_96 (by decide) ?_
        refine nr_icmp_ne hx hb f11 (by decide) dX2_beginOne_98 (tgt := 105) (by decide) (fun c19 => ?_) (fun c19 => ?_)
        · replace h := h.1 c19
          refine nr_iconst hx hb dX2_beginOne_105 ?_
          exact J106 0 S _ _ _ (by decide) hI (lv_sub hl [0] rfl) h
        · replace h := h.2 c19
          refine nr_iconst hx hb dX2_beginOne_101 ?_
          refine lv_goto (tgt := 106) hx hb dX2_beginOne_102 (by decide) ?_
          exact J106 2 S _ _ _ (by decide) hI (lv_sub hl [0] rfl) h
      · replace h := h.2 c17
        refine nr_bipush hx hb dX2_beginOne_87 (by decide) ?_
        refine lv_goto (tgt := 106) hx hb dX2_beginOne_89 (by decide) ?_
        exact J106 40 S _ _ _ (by decide) hI (lv_sub hl [0] rfl) h
    · replace h := h.2 c15
      refine lv_aload_n hx hb dX2_beginOne_46 rfl (lv_at hl 0 rfl) ?_
      refine lv_aload_n hx hb dX2_beginOne_47 rfl (lv_at hl 0 rfl) ?_
      refine cMX2_190 hF hK hI hl.1 hR (by decide) (Nat.le_of_ble_eq_true rfl) ⟨Nat.zero_le _, Nat.zero_le _⟩ h dX2_beginOne_48 (fun r20 H locs fr20 h hI => ?_)
      replace h := h fr20
      refine cMX2_194 hF hK hI hl.1 hR (by decide) (Nat.le_of_ble_eq_true rfl) ⟨Nat.zero_le _, Nat.zero_le _⟩ fr20 h dX2_beginOne_51 (fun r22 H locs fr22 h hI => ?_)
      replace h := h fr22
      have gr22 : InR r22 := kdP_R (k := 2) (by decide) fr22
      refine nr_if_eq hx hb gr22 dX2_beginOne_54 (tgt := 59) (by decide) (fun c24 => ?_) (fun c24 => ?_)
      · replace h := h.1 c24
        refine lv_aload_n hx hb dX2_beginOne_59 rfl (lv_at hl 0 rfl) ?_
        refine nr_iconst hx hb dX2_beginOne_60 ?_
        refine lv_aload_n hx hb dX2_beginOne_61 rfl (lv_at hl 0 rfl) ?_
        refine cMX2_190 hF hK hI hl.1 hR (by decide) (Nat.le_of_ble_eq_true rfl) ⟨Nat.zero_le _, Nat.zero_le _⟩ h dX2_beginOne_62 (fun r25 H locs fr25 h hI => ?_)
        replace h := h fr25
        refine cMX2_170 hF hK hI hl.1 hR (by decide) (Nat.le_of_ble_eq_true rfl) ⟨Nat.zero_le _, Nat.zero_le _⟩ (by decide) fr25 h dX2_beginOne_65 (fun S28 H locs h hI => ?_)
        refine lv_aload_n hx hb dX2_beginOne_68 rfl (lv_at hl 0 rfl) ?_
        refine cMX2_184 hF hK hI hl.1 hR (by decide) (Nat.le_of_ble_eq_true rfl) ⟨Nat.zero_le _, Nat.zero_le _⟩ h dX2_beginOne_69 (fun S30 H locs h hI => ?_)
        refine lv_aload_n hx hb dX2_beginOne_72 rfl (lv_at hl 0 rfl) ?_
        refine cMX2_187 hF hK hI hl.1 hR (by decide) (Nat.le_of_ble_eq_true rfl) ⟨Nat.zero_le _, Nat.zero_le _⟩ h dX2_beginOne_73 (fun S32 H locs h hI => ?_)
        refine nr_iconst hx hb dX2_beginOne_76 ?_
        rw [← hQ]; exact s_iret (K := K) hx hb hr hlocks hI (by decide) h dX2_beginOne_77
      · replace h := h.2 c24
        refine nr_iconst hx hb dX2_beginOne_57 ?_
        rw [← hQ]; exact s_iret (K := K) hx hb hr hlocks hI (by decide) h dX2_beginOne_58
  · replace h := h.2 c12
    refine lv_aload_n hx hb dX2_beginOne_8 rfl (lv_at hl 0 rfl) ?_
    refine gMX2_135_17 hF hK hI dX2_beginOne_9 (fun f33 => ?_)
    replace h := h f33
    refine nr_sipush hx hb dX2_beginOne_12 (by decide) ?_
    refine nr_icmp_le hx hb f33 (by decide) dX2_beginOne_15 (tgt := 20) (by decide) (fun c34 => ?_) (fun c34 => ?_)
    · replace h := h.1 c34
      refine lv_aload_n hx hb dX2_beginOne_20 rfl (lv_at hl 0 rfl) ?_
      refine nr_iconst hx hb dX2_beginOne_21 ?_
      refine lv_aload_n hx hb dX2_beginOne_22 rfl (lv_at hl 0 rfl) ?_
      refine gMX2_135_17 hF hK hI dX2_beginOne_23 (fun f35 => ?_)
      refine cMX2_170 hF hK hI hl.1 hR (by decide) (Nat.le_of_ble_eq_true rfl) ⟨Nat.zero_le _, Nat.zero_le _⟩ (by decide) f33 h dX2_beginOne_26 (fun S37 H locs h hI => ?_)
      refine lv_aload_n hx hb dX2_beginOne_29 rfl (lv_at hl 0 rfl) ?_
      refine cMX2_184 hF hK hI hl.1 hR (by decide) (Nat.le_of_ble_eq_true rfl) ⟨Nat.zero_le _, Nat.zero_le _⟩ h dX2_beginOne_30 (fun S39 H locs h hI => ?_)
      refine lv_aload_n hx hb dX2_beginOne_33 rfl (lv_at hl 0 rfl) ?_
      refine cMX2_187 hF hK hI hl.1 hR (by decide) (Nat.le_of_ble_eq_true rfl) ⟨Nat.zero_le _, Nat.zero_le _⟩ h dX2_beginOne_34 (fun S41 H locs h hI => ?_)
      refine nr_iconst hx hb dX2_beginOne_37 ?_
      rw [← hQ]; exact s_iret (K := K) hx hb hr hlocks hI (by decide) h dX2_beginOne_38
    · replace h := h.2 c34
      refine nr_iconst hx hb dX2_beginOne_18 ?_
      rw [← hQ]; exact s_iret (K := K) hx hb hr hlocks hI (by decide) h dX2_beginOne_19
set_option maxHeartbeats 4000000 in
theorem t_M_settle (l : Launch) (D : va_G) (dA : Nat → ClassId) (ad : Nat → Nat) (S : St) (sz : Nat) (x1 : Int) (K : St → Prop) (rx1 : InR x1) (h : w_M_settle x1 S K) : Met l yX2_settle (ws_ yX2_settle cX2_settle 2 (Option.none : Option Jvm.ClassFile.FieldType)) (rmD 1 0 0) (va_Pc [.ref (ad 17), iV x1] (sPre D dA wM ad S sz)) (va_Qv (fun S' => K S') (sPost D dA wM ad (wA wM ad S sz)) (wA wM ad S sz)) 0 0 (wA wM ad S sz) := by
  refine Met.ofW (cc := cX2_settle) (maxL := 2) (ret := (Option.none : Option Jvm.ClassFile.FieldType)) (by decide) rfl ?_
  intro p e s m args below meth c s₁ B hml hv
  obtain ⟨rfl, hsz, hK, hC⟩ := hv
  have hx := B.exec
  have hb := B.bytes
  have hr := B.returns
  have hlocks := B.notSynchronized
  have hts := atoms_spec (ws := (ws_ yX2_settle cX2_settle 2 (Option.none : Option Jvm.ClassFile.FieldType))) B.pre
  have hts : ∀ w ∈ lw_all, w.before _ s = true := fun w h => hts w (List.mem_cons_of_mem _ h)
  have hown : s.vm.findClass RX2 = some m.cls := findClass_of_methodNamed B.named
  clear B
  subst hsz
  have hI : sI D dA wM ad (wA wM ad S s.heap.size) s.heap S s.heap [] := hC.start
  clear hC
  generalize wA wM ad S s.heap.size = A at hI ⊢
  have hl := lv_entry ([.ref (ad 17), iV x1] : List Value) (n := 2) (Nat.le_of_ble_eq_true rfl)
  rw [lg_entry_eq]
  generalize (lg_sl ([.ref (ad 17), iV x1] : List Value) ++ List.replicate (2 - (lg_sl ([.ref (ad 17), iV x1] : List Value)).length) Slot.unset).toArray = ls at hl ⊢
  have hl : lv_has ls 2 [(0, .ref (ad 17)), (1, iV x1)] := hl
  have hF : CallFix p m c cX2_settle 2 s _ lw_all RX2 := ⟨hx, hb, hml, hown, hts⟩
  have hR : (headSpec (ws_ yX2_settle cX2_settle 2 (Option.none : Option Jvm.ClassFile.FieldType)) (rmD 1 0 0)).room.frames = 1 + 1 ∧ (headSpec (ws_ yX2_settle cX2_settle 2 (Option.none : Option Jvm.ClassFile.FieldType)) (rmD 1 0 0)).room.locals = 64 * 1 + 64 := ⟨rfl, rfl⟩
  generalize (headSpec (ws_ yX2_settle cX2_settle 2 (Option.none : Option Jvm.ClassFile.FieldType)) (rmD 1 0 0)).room = R at hR ⊢
  generalize ([.ref (ad 17), iV x1] : List Value).toArray = args at hts hF ⊢
  generalize hQ : MQ below _ _ _ _ _ _ = Q
  have L0 : ∀ (x1 : Int), InR x1 → ∀ (n0 : Nat) (S : St) (H : Heap) (locs : List Loc) (ls : Array Slot), sI D dA wM ad A s.heap S H locs → lv_has ls 2 [(0, .ref (ad 17)), (1, iV x1)] → l_M_settle_0 x1 K n0 S → W p l e R s m args below meth c H locs 0 0 Q (F0 m 0 ls []) := by
    intro x1 rx1 n0
    induction n0 with
    | zero => intro S H locs ls hI hl h; exact False.elim h
    | succ n0 ih0 =>
      intro S H locs ls hI hl h
      unfold l_M_settle_0 at h
      refine lv_aload_n hx hb dX2_settle_0 rfl (lv_at hl 0 rfl) ?_
      refine gMX2_160_17 hF hK hI dX2_settle_1 (fun f1 => ?_)
      replace h := h f1
      refine nr_if_le hx hb f1 dX2_settle_4 (tgt := 65) (by decide) (fun c2 => ?_) (fun c2 => ?_)
      · replace h := h.1 c2
        rw [← hQ]; exact s_vret (K := K) hx hb hr hlocks hI  h dX2_settle_65
      · replace h := h.2 c2
        refine lv_aload_n hx hb dX2_settle_7 rfl (lv_at hl 0 rfl) ?_
        refine gMX2_29_17 hF hK hI dX2_settle_8 ?_
        refine lv_aload_n hx hb dX2_settle_11 rfl (lv_at hl 0 rfl) ?_
        refine gMX2_160_17 hF hK hI dX2_settle_12 (fun f3 => ?_)
        refine nr_iconst hx hb dX2_settle_15 ?_
        have f4 := h.1; replace h := h.2
        refine nr_isub hx hb dX2_settle_16 ?_
        have f5 := h.1; replace h := h.2
        refine s_iald hx hb hK hI 4 (by decide) wM_4 f4 f5 dX2_settle_17 (fun f6 => ?_)
        replace h := h f6
        refine nr_bipush hx hb dX2_settle_18 (by decide) ?_
        refine nr_icmp_ge hx hb f6 (by decide) dX2_settle_20 (tgt := 65) (by decide) (fun c7 => ?_) (fun c7 => ?_)
        · replace h := h.1 c7
          rw [← hQ]; exact s_vret (K := K) hx hb hr hlocks hI  h dX2_settle_65
        · replace h := h.2 c7
          refine lv_aload_n hx hb dX2_settle_23 rfl (lv_at hl 0 rfl) ?_
          refine gMX2_29_17 hF hK hI dX2_settle_24 ?_
          refine lv_aload_n hx hb dX2_settle_27 rfl (lv_at hl 0 rfl) ?_
          refine gMX2_160_17 hF hK hI dX2_settle_28 (fun f8 => ?_)
          refine nr_iconst hx hb dX2_settle_31 ?_
          refine nr_isub hx hb dX2_settle_32 ?_
          have f9 := h.1; replace h := h.2
          refine s_iald hx hb hK hI 4 (by decide) wM_4 f4 f9 dX2_settle_33 (fun f10 => ?_)
          refine lv_iload_n hx hb dX2_settle_34 rfl (lv_at hl 1 rfl) ?_
          refine nr_icmp_lt hx hb f6 rx1 dX2_settle_35 (tgt := 65) (by decide) (fun c11 => ?_) (fun c11 => ?_)
          · replace h := h.1 c11
            rw [← hQ]; exact s_vret (K := K) hx hb hr hlocks hI  h dX2_settle_65
          · replace h := h.2 c11
            refine lv_aload_n hx hb dX2_settle_38 rfl (lv_at hl 0 rfl) ?_
            refine lv_dup hx hb dX2_settle_39 rfl ?_
            refine gMX2_160_17 hF hK hI dX2_settle_40 (fun f12 => ?_)
            refine nr_iconst hx hb dX2_settle_43 ?_
            refine nr_isub hx hb dX2_settle_44 ?_
            refine uMX2_160_17 hF hK hI f4 dX2_settle_45 (fun S13 H locs eS13 hI => ?_)
            replace h := h S13 eS13
            refine lv_aload_n hx hb dX2_settle_48 rfl (lv_at hl 0 rfl) ?_
            refine lv_aload_n hx hb dX2_settle_49 rfl (lv_at hl 0 rfl) ?_
            refine gMX2_29_17 hF hK hI dX2_settle_50 ?_
            refine lv_aload_n hx hb dX2_settle_53 rfl (lv_at hl 0 rfl) ?_
            refine gMX2_160_17 hF hK hI dX2_settle_54 (fun f14 => ?_)
            replace h := h f14
            have f15 := h.1; replace h := h.2
            refine s_iald hx hb hK hI 4 (by decide) wM_4 f14 f15 dX2_settle_57 (fun f16 => ?_)
            replace h := h f16
            refine nr_iconst hx hb dX2_settle_58 ?_
            refine cMX2_170 hF hK hI hl.1 hR (by decide) (Nat.le_of_ble_eq_true rfl) ⟨Nat.zero_le _, Nat.zero_le _⟩ f16 (by decide) h dX2_settle_59 (fun S18 H locs h hI => ?_)
            refine lv_goto (tgt := 0) hx hb dX2_settle_62 (by decide) ?_
            exact ih0 S18 _ _ _ hI (lv_sub hl [0, 1] rfl) h
  unfold w_M_settle at h
  obtain ⟨n0, h⟩ := h
  exact L0 x1 rx1 n0 S _ _ _ hI (lv_sub hl [0, 1] rfl) h
theorem cMX2_204 {p : Program} {l : Launch} {e : Env} {R : Room} {s : State} {m : MethodId} {args : Array Value} {below : List Frame} {meth : Method} {c : Code} {H : Heap} {locs : List Loc} {Q : State → Prop} {cc : ByteArray} {nL pc : Nat} {ls : Array Slot} {rest : List Value} {cells slots : Nat} {D : va_G} {dA : Nat → ClassId} {ad : Nat → Nat} {A : Nat → Prop} {H0 : Heap} {S : St} {dk : Nat} (hF : CallFix p m c cc nL s args lw_all RX2) (hK : gK D dA s) (hI : sI D dA wM ad A H0 S H locs) (hls : ls.size = nL) (hR : R.frames = dk + 1 ∧ R.locals = 64 * dk + 64) (hd : 1 + 1 ≤ dk) (hW : (rest.map fun v => v.category).sum ≤ 8) (hf : cells ≤ R.cells ∧ slots ≤ R.slots) {x1 : Int} {K : St → Prop} (r1 : InR x1) (h : w_M_settle x1 S K) (hdg : decode cc pc = .ok (.invokevirtual 204, 3)) (kk : ∀ (S1 : St) (H1 : Heap) (locs1 : List Loc), K S1 → sI D dA wM ad A H0 S1 H1 locs1 → W p l e R s m args below meth c H1 locs1 cells slots Q (F0 m (pc + 3) ls (rest))) : W p l e R s m args below meth c H locs cells slots Q (F0 m (pc) ls (iV x1 :: .ref (ad 17) :: rest)) := s_callVv (As := [iV x1]) (rest := rest) (K := K) hF (t_M_settle l D dA ad S H.size x1 K r1 h) (s_recv hK hI 17 (by decide) wM_17 rfl) (cwV 1 hF.2.2.2.2 (lw_V q1458 q1460 qs74 q109 q1461) rfl rfl rfl (by decide +kernel) ⟨by have h1 := hR.1; have h2 : (rmD 1 0 0).frames = 1 + 1 := rfl; omega, by have h1 := hR.2; have h2 : (rmD 1 0 0).locals = 64 * 1 + 64 := rfl; omega⟩) hK hI rfl hls rfl hW hdg hf kk
set_option maxHeartbeats 4000000 in
theorem t_M_behindOne (l : Launch) (D : va_G) (dA : Nat → ClassId) (ad : Nat → Nat) (S : St) (sz : Nat) (K : Int → St → Prop) (h : w_M_behindOne S K) : Met l yX2_behindOne (ws_ yX2_behindOne cX2_behindOne 2 (Option.some Jvm.ClassFile.FieldType.int)) (rmD 3 0 0) (va_Pc [.ref (ad 17)] (sPre D dA wM ad S sz)) (va_Qi (fun r S' => K r.toInt S') (sPost D dA wM ad (wA wM ad S sz)) (wA wM ad S sz)) 0 0 (wA wM ad S sz) := by
  refine Met.ofW (cc := cX2_behindOne) (maxL := 2) (ret := (Option.some Jvm.ClassFile.FieldType.int)) (by decide) rfl ?_
  intro p e s m args below meth c s₁ B hml hv
  obtain ⟨rfl, hsz, hK, hC⟩ := hv
  have hx := B.exec
  have hb := B.bytes
  have hr := B.returns
  have hlocks := B.notSynchronized
  have hts := atoms_spec (ws := (ws_ yX2_behindOne cX2_behindOne 2 (Option.some Jvm.ClassFile.FieldType.int))) B.pre
  have hts : ∀ w ∈ lw_all, w.before _ s = true := fun w h => hts w (List.mem_cons_of_mem _ h)
  have hown : s.vm.findClass RX2 = some m.cls := findClass_of_methodNamed B.named
  clear B
  subst hsz
  have hI : sI D dA wM ad (wA wM ad S s.heap.size) s.heap S s.heap [] := hC.start
  clear hC
  generalize wA wM ad S s.heap.size = A at hI ⊢
  have hl := lv_entry ([.ref (ad 17)] : List Value) (n := 2) (Nat.le_of_ble_eq_true rfl)
  rw [lg_entry_eq]
  generalize (lg_sl ([.ref (ad 17)] : List Value) ++ List.replicate (2 - (lg_sl ([.ref (ad 17)] : List Value)).length) Slot.unset).toArray = ls at hl ⊢
  have hl : lv_has ls 2 [(0, .ref (ad 17))] := hl
  have hF : CallFix p m c cX2_behindOne 2 s _ lw_all RX2 := ⟨hx, hb, hml, hown, hts⟩
  have hR : (headSpec (ws_ yX2_behindOne cX2_behindOne 2 (Option.some Jvm.ClassFile.FieldType.int)) (rmD 3 0 0)).room.frames = 3 + 1 ∧ (headSpec (ws_ yX2_behindOne cX2_behindOne 2 (Option.some Jvm.ClassFile.FieldType.int)) (rmD 3 0 0)).room.locals = 64 * 3 + 64 := ⟨rfl, rfl⟩
  generalize (headSpec (ws_ yX2_behindOne cX2_behindOne 2 (Option.some Jvm.ClassFile.FieldType.int)) (rmD 3 0 0)).room = R at hR ⊢
  generalize ([.ref (ad 17)] : List Value).toArray = args at hts hF ⊢
  generalize hQ : MQ below _ _ _ _ _ _ = Q
  have J75 : ∀ (y1 : Int) (S : St) (H : Heap) (locs : List Loc) (ls : Array Slot), InR y1 → sI D dA wM ad A s.heap S H locs → lv_has ls 2 [(0, .ref (ad 17))] → j_M_behindOne_75 y1 S K → W p l e R s m args below meth c H locs 0 0 Q (F0 m 75 ls [iV y1, .ref (ad 17)]) := by
    intro y1 S H locs ls ry1 hI hl h
    unfold j_M_behindOne_75 at h
    refine cMX2_197 hF hK hI hl.1 hR (by decide) (Nat.le_of_ble_eq_true rfl) ⟨Nat.zero_le _, Nat.zero_le _⟩ ry1 h dX2_behindOne_75 (fun S2 H locs h hI => ?_)
    refine lv_aload_n hx hb dX2_behindOne_78 rfl (lv_at hl 0 rfl) ?_
    refine nr_iconst hx hb dX2_behindOne_79 ?_
    refine uMX2_163_17 hF hK hI (by decide) dX2_behindOne_80 (fun S3 H locs eS3 hI => ?_)
    replace h := h S3 eS3
    refine lv_goto (tgt := 115) hx hb dX2_behindOne_83 (by decide) ?_
    refine lv_aload_n hx hb dX2_behindOne_115 rfl (lv_at hl 0 rfl) ?_
    refine cMX2_184 hF hK hI hl.1 hR (by decide) (Nat.le_of_ble_eq_true rfl) ⟨Nat.zero_le _, Nat.zero_le _⟩ h dX2_behindOne_116 (fun S5 H locs h hI => ?_)
    refine nr_iconst hx hb dX2_behindOne_119 ?_
    rw [← hQ]; exact s_iret (K := K) hx hb hr hlocks hI (by decide) h dX2_behindOne_120
  have J57 : ∀ (x1 : Int) (S : St) (H : Heap) (locs : List Loc) (ls : Array Slot), InR x1 → sI D dA wM ad A s.heap S H locs → lv_has ls 2 [(0, .ref (ad 17)), (1, iV x1)] → j_M_behindOne_57 x1 S K → W p l e R s m args below meth c H locs 0 0 Q (F0 m 57 ls []) := by
    intro x1 S H locs ls rx1 hI hl h
    unfold j_M_behindOne_57 at h
    refine lv_aload_n hx hb dX2_behindOne_57 rfl (lv_at hl 0 rfl) ?_
    refine nr_iconst hx hb dX2_behindOne_58 ?_
    refine cMX2_204 hF hK hI hl.1 hR (by decide) (Nat.le_of_ble_eq_true rfl) ⟨Nat.zero_le _, Nat.zero_le _⟩ (by decide) h dX2_behindOne_59 (fun S7 H locs h hI => ?_)
    refine lv_aload_n hx hb dX2_behindOne_62 rfl (lv_at hl 0 rfl) ?_
    refine lv_iload_n hx hb dX2_behindOne_63 rfl (lv_at hl 1 rfl) ?_
    refine nr_bipush hx hb dX2_behindOne_64 (by decide) ?_
    refine nr_icmp_ne hx hb rx1 (by decide) dX2_behindOne_66 (tgt := 73) (by decide) (fun c8 => ?_) (fun c8 => ?_)
    · replace h := h.1 c8
      refine nr_bipush hx hb dX2_behindOne_73 (by decide) ?_
      exact J75 6 S7 _ _ _ (by decide) hI (lv_sub hl [0] rfl) h
    · replace h := h.2 c8
      refine nr_iconst hx hb dX2_behindOne_69 ?_
      refine lv_goto (tgt := 75) hx hb dX2_behindOne_70 (by decide) ?_
      exact J75 5 S7 _ _ _ (by decide) hI (lv_sub hl [0] rfl) h
  have J34 : ∀ (y1 : Int) (S : St) (H : Heap) (locs : List Loc) (ls : Array Slot), InR y1 → sI D dA wM ad A s.heap S H locs → lv_has ls 2 [(0, .ref (ad 17))] → j_M_behindOne_34 y1 S K → W p l e R s m args below meth c H locs 0 0 Q (F0 m 34 ls [iV y1, .ref (ad 17)]) := by
    intro y1 S H locs ls ry1 hI hl h
    unfold j_M_behindOne_34 at h
    refine cMX2_197 hF hK hI hl.1 hR (by decide) (Nat.le_of_ble_eq_true rfl) ⟨Nat.zero_le _, Nat.zero_le _⟩ ry1 h dX2_behindOne_34 (fun S10 H locs h hI => ?_)
    refine lv_aload_n hx hb dX2_behindOne_37 rfl (lv_at hl 0 rfl) ?_
    refine nr_iconst hx hb dX2_behindOne_38 ?_
    refine uMX2_163_17 hF hK hI (by decide) dX2_behindOne_39 (fun S11 H locs eS11 hI => ?_)
    replace h := h S11 eS11
    refine lv_goto (tgt := 115) hx hb dX2_behindOne_42 (by decide) ?_
    refine lv_aload_n hx hb dX2_behindOne_115 rfl (lv_at hl 0 rfl) ?_
    refine cMX2_184 hF hK hI hl.1 hR (by decide) (Nat.le_of_ble_eq_true rfl) ⟨Nat.zero_le _, Nat.zero_le _⟩ h dX2_behindOne_116 (fun S13 H locs h hI => ?_)
    refine nr_iconst hx hb dX2_behindOne_119 ?_
    rw [← hQ]; exact s_iret (K := K) hx hb hr hlocks hI (by decide) h dX2_behindOne_120
  have J17 : ∀ (x1 : Int) (S : St) (H : Heap) (locs : List Loc) (ls : Array Slot), InR x1 → sI D dA wM ad A s.heap S H locs → lv_has ls 2 [(0, .ref (ad 17)), (1, iV x1)] → j_M_behindOne_17 x1 S K → W p l e R s m args below meth c H locs 0 0 Q (F0 m 17 ls []) := by
    intro x1 S H locs ls rx1 hI hl h
    unfold j_M_behindOne_17 at h
    refine lv_aload_n hx hb dX2_behindOne_17 rfl (lv_at hl 0 rfl) ?_
    refine nr_iconst hx hb dX2_behindOne_18 ?_
    refine cMX2_204 hF hK hI hl.1 hR (by decide) (Nat.le_of_ble_eq_true rfl) ⟨Nat.zero_le _, Nat.zero_le _⟩ (by decide) h dX2_behindOne_19 (fun S15 H locs h hI => ?_)
    refine lv_aload_n hx hb dX2_behindOne_22 rfl (lv_at hl 0 rfl) ?_
    refine lv_iload_n hx hb dX2_behindOne_23 rfl (lv_at hl 1 rfl) ?_
    refine nr_bipush hx hb dX2_behindOne_24 (by decide) ?_
    refine nr_icmp_ne hx hb rx1 (by decide) dX2_behindOne_26 (tgt := 33) (by decide) (fun c16 => ?_) (fun c16 => ?_)
    · replace h := h.1 c16
      refine nr_iconst hx hb dX2_behindOne_33 ?_
      exact J34 4 S15 _ _ _ (by decide) hI (lv_sub hl [0] rfl) h
    · replace h := h.2 c16
      refine nr_iconst hx hb dX2_behindOne_29 ?_
      refine lv_goto (tgt := 34) hx hb dX2_behindOne_30 (by decide) ?_
      exact J34 3 S15 _ _ _ (by decide) hI (lv_sub hl [0] rfl) h
  unfold w_M_behindOne at h
  refine lv_aload_n hx hb dX2_behindOne_0 rfl (lv_at hl 0 rfl) ?_
  refine gMX2_129_17 hF hK hI dX2_behindOne_1 (fun f17 => ?_)
  replace h := h f17
  refine nr_topi (fun v18 ev18 => ?_)
  have rv18 : InR v18 := by rw [ev18]; exact f17
  replace h := h v18 ev18 rv18
  refine lv_istore_n (lv' := [(1, iV v18), (0, .ref (ad 17))]) hx hb dX2_behindOne_4 rfl hl (by decide) rfl (fun ls hl => ?_)
  refine lv_iload_n hx hb dX2_behindOne_5 rfl (lv_at hl 0 rfl) ?_
  refine nr_bipush hx hb dX2_behindOne_6 (by decide) ?_
  refine nr_icmp_eq hx hb rv18 (by decide) dX2_behindOne_8 (tgt := 17) (by decide) (fun c19 => ?_) (fun c19 => ?_)
  · replace h := h.1 c19
    exact J17 v18 S _ _ _ rv18 hI (lv_sub hl [1, 0] rfl) h
  · replace h := h.2 c19
    refine lv_iload_n hx hb dX2_behindOne_11 rfl (lv_at hl 0 rfl) ?_
    refine nr_bipush hx hb dX2_behindOne_12 (by decide) ?_
    refine nr_icmp_ne hx hb rv18 (by decide) dX2_behindOne_14 (tgt := 45) (by decide) (fun c20 => ?_) (fun c20 => ?_)
    · replace h := h.1 c20
      refine lv_iload_n hx hb dX2_behindOne_45 rfl (lv_at hl 0 rfl) ?_
      refine nr_bipush hx hb dX2_behindOne_46 (by decide) ?_
      refine nr_icmp_eq hx hb rv18 (by decide) dX2_behindOne_48 (tgt := 57) (by decide) (fun c21 => ?_) (fun c21 => ?_)
      · replace h := h.1 c21
        exact J57 v18 S _ _ _ rv18 hI (lv_sub hl [1, 0] rfl) h
      · replace h := h.2 c21
        refine lv_iload_n hx hb dX2_behindOne_51 rfl (lv_at hl 0 rfl) ?_
        refine nr_bipush hx hb dX2_behindOne_52 (by decide) ?_
        refine nr_icmp_ne hx hb rv18 (by decide) dX2_behindOne_54 (tgt := 86) (by decide) (fun c22 => ?_) (fun c22 => ?_)
        · replace h := h.1 c22
          refine lv_aload_n hx hb dX2_behindOne_86 rfl (lv_at hl 1 rfl) ?_
          refine nr_iconst hx hb dX2_behindOne_87 ?_
          refine cMX2_204 hF hK hI hl.1 hR (by decide) (Nat.le_of_ble_eq_true rfl) ⟨Nat.zero_le _, Nat.zero_le _⟩ (by decide) h dX2_behindOne_88 (fun S24 H locs h hI => ?_)
          refine lv_aload_n hx hb dX2_behindOne_91 rfl (lv_at hl 1 rfl) ?_
          refine lv_dup hx hb dX2_behindOne_92 rfl ?_
          refine gMX2_160_17 hF hK hI dX2_behindOne_93 (fun f25 => ?_)
          replace h := h f25
          refine nr_iconst hx hb dX2_behindOne_96 ?_
          have f26 := h.1; replace h := h.2
          refine nr_isub hx hb dX2_behindOne_97 ?_
          refine uMX2_160_17 hF hK hI f26 dX2_behindOne_98 (fun S27 H locs eS27 hI => ?_)
          replace h := h S27 eS27
          refine lv_aload_n hx hb dX2_behindOne_101 rfl (lv_at hl 1 rfl) ?_
          refine lv_dup hx hb dX2_behindOne_102 rfl ?_
          refine gMX2_167_17 hF hK hI dX2_behindOne_103 (fun f28 => ?_)
          replace h := h f28
          refine nr_iconst hx hb dX2_behindOne_106 ?_
          have f29 := h.1; replace h := h.2
          refine nr_isub hx hb dX2_behindOne_107 ?_
          refine uMX2_167_17 hF hK hI f29 dX2_behindOne_108 (fun S30 H locs eS30 hI => ?_)
          replace h := h S30 eS30
          refine lv_aload_n hx hb dX2_behindOne_111 rfl (lv_at hl 1 rfl) ?_
          refine cMX2_187 hF hK hI hl.1 hR (by decide) (Nat.le_of_ble_eq_true rfl) ⟨Nat.zero_le _, Nat.zero_le _⟩ h dX2_behindOne_112 (fun S32 H locs h hI => ?_)
          refine lv_aload_n hx hb dX2_behindOne_115 rfl (lv_at hl 1 rfl) ?_
          refine cMX2_184 hF hK hI hl.1 hR (by decide) (Nat.le_of_ble_eq_true rfl) ⟨Nat.zero_le _, Nat.zero_le _⟩ h dX2_behindOne_116 (fun S34 H locs h hI => ?_)
          refine nr_iconst hx hb dX2_behindOne_119 ?_
          rw [← hQ]; exact s_iret (K := K) hx hb hr hlocks hI (by decide) h dX2_behindOne_120
        · replace h := h.2 c22
          exact J57 v18 S _ _ _ rv18 hI (lv_sub hl [1, 0] rfl) h
    · replace h := h.2 c20
      exact J17 v18 S _ _ _ rv18 hI (lv_sub hl [1, 0] rfl) h
