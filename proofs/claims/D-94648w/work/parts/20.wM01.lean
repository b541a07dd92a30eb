set_option maxRecDepth 100000
set_option maxHeartbeats 4000000 in
theorem t_M_copy_0_1 (l : Launch) (D : va_G) (dA : Nat → ClassId) (ad : Nat → Nat) (S : St) (sz : Nat) (K : St → Prop) (h : w_M_copy_0_1 S K) : Met l yX2_copy (ws_ yX2_copy cX2_copy 3 (Option.none : Option Jvm.ClassFile.FieldType)) (rmD 0 0 0) (va_Pc [.ref (ad 0), .ref (ad 1)] (sPre D dA wM ad S sz)) (va_Qv (fun S' => K S') (sPost D dA wM ad (wA wM ad S sz)) (wA wM ad S sz)) 0 0 (wA wM ad S sz) := by
  refine Met.ofW (cc := cX2_copy) (maxL := 3) (ret := (Option.none : Option Jvm.ClassFile.FieldType)) (by decide) rfl ?_
  intro p e s m args below meth c s₁ B hml hv
  obtain ⟨rfl, hsz, hK, hC⟩ := hv
  have hx := B.exec
  have hb := B.bytes
  have hr := B.returns
  have hlocks := B.notSynchronized
  have hts := atoms_spec (ws := (ws_ yX2_copy cX2_copy 3 (Option.none : Option Jvm.ClassFile.FieldType))) B.pre
  have hts : ∀ w ∈ lw_all, w.before _ s = true := fun w h => hts w (List.mem_cons_of_mem _ h)
  have hown : s.vm.findClass RX2 = some m.cls := findClass_of_methodNamed B.named
  clear B
  subst hsz
  have hI : sI D dA wM ad (wA wM ad S s.heap.size) s.heap S s.heap [] := hC.start
  clear hC
  generalize wA wM ad S s.heap.size = A at hI ⊢
  have hl := lv_entry ([.ref (ad 0), .ref (ad 1)] : List Value) (n := 3) (Nat.le_of_ble_eq_true rfl)
  rw [lg_entry_eq]
  generalize (lg_sl ([.ref (ad 0), .ref (ad 1)] : List Value) ++ List.replicate (3 - (lg_sl ([.ref (ad 0), .ref (ad 1)] : List Value)).length) Slot.unset).toArray = ls at hl ⊢
  have hl : lv_has ls 3 [(0, .ref (ad 0)), (1, .ref (ad 1))] := hl
  have hF : CallFix p m c cX2_copy 3 s _ lw_all RX2 := ⟨hx, hb, hml, hown, hts⟩
  have hR : (headSpec (ws_ yX2_copy cX2_copy 3 (Option.none : Option Jvm.ClassFile.FieldType)) (rmD 0 0 0)).room.frames = 0 + 1 ∧ (headSpec (ws_ yX2_copy cX2_copy 3 (Option.none : Option Jvm.ClassFile.FieldType)) (rmD 0 0 0)).room.locals = 64 * 0 + 64 := ⟨rfl, rfl⟩
  generalize (headSpec (ws_ yX2_copy cX2_copy 3 (Option.none : Option Jvm.ClassFile.FieldType)) (rmD 0 0 0)).room = R at hR ⊢
  generalize ([.ref (ad 0), .ref (ad 1)] : List Value).toArray = args at hts hF ⊢
  generalize hQ : MQ below _ _ _ _ _ _ = Q
  have L2 : ∀ (n2 : Nat) (x2 : Int) (S : St) (H : Heap) (locs : List Loc) (ls : Array Slot), InR x2 → sI D dA wM ad A s.heap S H locs → lv_has ls 3 [(0, .ref (ad 0)), (1, .ref (ad 1)), (2, iV x2)] → l_M_copy_0_1_2 K n2 x2 S → W p l e R s m args below meth c H locs 0 0 Q (F0 m 2 ls []) := by
    intro n2
    induction n2 with
    | zero => intro x2 S H locs ls rx2 hI hl h; exact False.elim h
    | succ n2 ih2 =>
      intro x2 S H locs ls rx2 hI hl h
      unfold l_M_copy_0_1_2 at h
      refine lv_iload_n hx hb dX2_copy_2 rfl (lv_at hl 2 rfl) ?_
      refine nr_sipush hx hb dX2_copy_3 (by decide) ?_
      refine nr_icmp_ge hx hb rx2 (by decide) dX2_copy_6 (tgt := 21) (by decide) (fun c1 => ?_) (fun c1 => ?_)
      · replace h := h.1 c1
        rw [← hQ]; exact s_vret (K := K) hx hb hr hlocks hI  h dX2_copy_21
      · replace h := h.2 c1
        refine lv_aload_n hx hb dX2_copy_9 rfl (lv_at hl 1 rfl) ?_
        refine lv_iload_n hx hb dX2_copy_10 rfl (lv_at hl 2 rfl) ?_
        refine lv_aload_n hx hb dX2_copy_11 rfl (lv_at hl 0 rfl) ?_
        refine lv_iload_n hx hb dX2_copy_12 rfl (lv_at hl 2 rfl) ?_
        have f2 := h.1; replace h := h.2
        refine s_iald hx hb hK hI 0 (by decide) wM_0 rx2 f2 dX2_copy_13 (fun f3 => ?_)
        replace h := h f3
        have f4 := h.1; replace h := h.2
        refine s_iast hx hb hK hI 1 (by decide) wM_1 rx2 f4 f3 dX2_copy_14 (fun S5 H locs eS5 hI => ?_)
        replace h := h S5 eS5
        have f6 := h.1; replace h := h.2
        refine nr_iinc (lv' := [(2, iV (x2 + 1)), (0, .ref (ad 0)), (1, .ref (ad 1))]) hx hb dX2_copy_15 hl (k := 2) rfl (by decide) rfl (fun ls hl => ?_)
        refine lv_goto (tgt := 2) hx hb dX2_copy_18 (by decide) ?_
        exact ih2 (x2 + 1) S5 _ _ _ f6 hI (lv_sub hl [1, 2, 0] rfl) h
  unfold w_M_copy_0_1 at h
  refine nr_iconst hx hb dX2_copy_0 ?_
  refine lv_istore_n (lv' := [(2, iV 0), (0, .ref (ad 0)), (1, .ref (ad 1))]) hx hb dX2_copy_1 rfl hl (by decide) rfl (fun ls hl => ?_)
  obtain ⟨n0, h⟩ := h
  exact L2 n0 0 S _ _ _ (by decide) hI (lv_sub hl [1, 2, 0] rfl) h
set_option maxHeartbeats 4000000 in
theorem t_M_copy_1_0 (l : Launch) (D : va_G) (dA : Nat → ClassId) (ad : Nat → Nat) (S : St) (sz : Nat) (K : St → Prop) (h : w_M_copy_1_0 S K) : Met l yX2_copy (ws_ yX2_copy cX2_copy 3 (Option.none : Option Jvm.ClassFile.FieldType)) (rmD 0 0 0) (va_Pc [.ref (ad 1), .ref (ad 0)] (sPre D dA wM ad S sz)) (va_Qv (fun S' => K S') (sPost D dA wM ad (wA wM ad S sz)) (wA wM ad S sz)) 0 0 (wA wM ad S sz) := by
  refine Met.ofW (cc := cX2_copy) (maxL := 3) (ret := (Option.none : Option Jvm.ClassFile.FieldType)) (by decide) rfl ?_
  intro p e s m args below meth c s₁ B hml hv
  obtain ⟨rfl, hsz, hK, hC⟩ := hv
  have hx := B.exec
  have hb := B.bytes
  have hr := B.returns
  have hlocks := B.notSynchronized
  have hts := atoms_spec (ws := (ws_ yX2_copy cX2_copy 3 (Option.none : Option Jvm.ClassFile.FieldType))) B.pre
  have hts : ∀ w ∈ lw_all, w.before _ s = true := fun w h => hts w (List.mem_cons_of_mem _ h)
  have hown : s.vm.findClass RX2 = some m.cls := findClass_of_methodNamed B.named
  clear B
  subst hsz
  have hI : sI D dA wM ad (wA wM ad S s.heap.size) s.heap S s.heap [] := hC.start
  clear hC
  generalize wA wM ad S s.heap.size = A at hI ⊢
  have hl := lv_entry ([.ref (ad 1), .ref (ad 0)] : List Value) (n := 3) (Nat.le_of_ble_eq_true rfl)
  rw [lg_entry_eq]
  generalize (lg_sl ([.ref (ad 1), .ref (ad 0)] : List Value) ++ List.replicate (3 - (lg_sl ([.ref (ad 1), .ref (ad 0)] : List Value)).length) Slot.unset).toArray = ls at hl ⊢
  have hl : lv_has ls 3 [(0, .ref (ad 1)), (1, .ref (ad 0))] := hl
  have hF : CallFix p m c cX2_copy 3 s _ lw_all RX2 := ⟨hx, hb, hml, hown, hts⟩
  have hR : (headSpec (ws_ yX2_copy cX2_copy 3 (Option.none : Option Jvm.ClassFile.FieldType)) (rmD 0 0 0)).room.frames = 0 + 1 ∧ (headSpec (ws_ yX2_copy cX2_copy 3 (Option.none : Option Jvm.ClassFile.FieldType)) (rmD 0 0 0)).room.locals = 64 * 0 + 64 := ⟨rfl, rfl⟩
  generalize (headSpec (ws_ yX2_copy cX2_copy 3 (Option.none : Option Jvm.ClassFile.FieldType)) (rmD 0 0 0)).room = R at hR ⊢
  generalize ([.ref (ad 1), .ref (ad 0)] : List Value).toArray = args at hts hF ⊢
  generalize hQ : MQ below _ _ _ _ _ _ = Q
  have L2 : ∀ (n2 : Nat) (x2 : Int) (S : St) (H : Heap) (locs : List Loc) (ls : Array Slot), InR x2 → sI D dA wM ad A s.heap S H locs → lv_has ls 3 [(0, .ref (ad 1)), (1, .ref (ad 0)), (2, iV x2)] → l_M_copy_1_0_2 K n2 x2 S → W p l e R s m args below meth c H locs 0 0 Q (F0 m 2 ls []) := by
    intro n2
    induction n2 with
    | zero => intro x2 S H locs ls rx2 hI hl h; exact False.elim h
    | succ n2 ih2 =>
      intro x2 S H locs ls rx2 hI hl h
      unfold l_M_copy_1_0_2 at h
      refine lv_iload_n hx hb dX2_copy_2 rfl (lv_at hl 2 rfl) ?_
      refine nr_sipush hx hb dX2_copy_3 (by decide) ?_
      refine nr_icmp_ge hx hb rx2 (by decide) dX2_copy_6 (tgt := 21) (by decide) (fun c1 => ?_) (fun c1 => ?_)
      · replace h := h.1 c1
        rw [← hQ]; exact s_vret (K := K) hx hb hr hlocks hI  h dX2_copy_21
      · replace h := h.2 c1
        refine lv_aload_n hx hb dX2_copy_9 rfl (lv_at hl 1 rfl) ?_
        refine lv_iload_n hx hb dX2_copy_10 rfl (lv_at hl 2 rfl) ?_
        refine lv_aload_n hx hb dX2_copy_11 rfl (lv_at hl 0 rfl) ?_
        refine lv_iload_n hx hb dX2_copy_12 rfl (lv_at hl 2 rfl) ?_
        have f2 := h.1; replace h := h.2
        refine s_iald hx hb hK hI 1 (by decide) wM_1 rx2 f2 dX2_copy_13 (fun f3 => ?_)
        replace h := h f3
        have f4 := h.1; replace h := h.2
        refine s_iast hx hb hK hI 0 (by decide) wM_0 rx2 f4 f3 dX2_copy_14 (fun S5 H locs eS5 hI => ?_)
        replace h := h S5 eS5
        have f6 := h.1; replace h := h.2
        refine nr_iinc (lv' := [(2, iV (x2 + 1)), (0, .ref (ad 1)), (1, .ref (ad 0))]) hx hb dX2_copy_15 hl (k := 2) rfl (by decide) rfl (fun ls hl => ?_)
        refine lv_goto (tgt := 2) hx hb dX2_copy_18 (by decide) ?_
        exact ih2 (x2 + 1) S5 _ _ _ f6 hI (lv_sub hl [1, 2, 0] rfl) h
  unfold w_M_copy_1_0 at h
  refine nr_iconst hx hb dX2_copy_0 ?_
  refine lv_istore_n (lv' := [(2, iV 0), (0, .ref (ad 1)), (1, .ref (ad 0))]) hx hb dX2_copy_1 rfl hl (by decide) rfl (fun ls hl => ?_)
  obtain ⟨n0, h⟩ := h
  exact L2 n0 0 S _ _ _ (by decide) hI (lv_sub hl [1, 2, 0] rfl) h
set_option maxHeartbeats 4000000 in
theorem t_M_isIn (l : Launch) (x0 : Int) (x1 : Int) (x2 : Int) (K : Int → Prop) (rx0 : InR x0) (rx1 : InR x1) (rx2 : InR x2) (h : w_M_isIn x0 x1 x2 K) : Met l yX2_isIn (ws_ yX2_isIn cX2_isIn 3 (Option.some Jvm.ClassFile.FieldType.boolean)) (rmD 0 0 0) (va_Pc [iV x0, iV x1, iV x2] (fun _ => True)) (va_Qi (fun r (_ : Unit) => (r.toInt = 0 ∨ r.toInt = 1) ∧ K r.toInt) (fun _ _ => True) (fun _ => False)) 0 0 (fun _ => False) := by
  refine Met.ofW (cc := cX2_isIn) (maxL := 3) (ret := (Option.some Jvm.ClassFile.FieldType.boolean)) (by decide) rfl ?_
  intro p e s m args below meth c s₁ B hml hv
  obtain ⟨rfl, -⟩ := hv
  have hx := B.exec
  have hb := B.bytes
  have hr := B.returns
  have hlocks := B.notSynchronized
  have hts := atoms_spec (ws := (ws_ yX2_isIn cX2_isIn 3 (Option.some Jvm.ClassFile.FieldType.boolean))) B.pre
  have hts : ∀ w ∈ lw_all, w.before _ s = true := fun w h => hts w (List.mem_cons_of_mem _ h)
  have hown : s.vm.findClass RX2 = some m.cls := findClass_of_methodNamed B.named
  clear B
  have hI : va_S (fun _ => False) s.heap s.heap [] := va_S.rf
  have hl := lv_entry ([iV x0, iV x1, iV x2] : List Value) (n := 3) (Nat.le_of_ble_eq_true rfl)
  rw [lg_entry_eq]
  generalize (lg_sl ([iV x0, iV x1, iV x2] : List Value) ++ List.replicate (3 - (lg_sl ([iV x0, iV x1, iV x2] : List Value)).length) Slot.unset).toArray = ls at hl ⊢
  have hl : lv_has ls 3 [(0, iV x0), (1, iV x1), (2, iV x2)] := hl
  have hF : CallFix p m c cX2_isIn 3 s _ lw_all RX2 := ⟨hx, hb, hml, hown, hts⟩
  have hR : (headSpec (ws_ yX2_isIn cX2_isIn 3 (Option.some Jvm.ClassFile.FieldType.boolean)) (rmD 0 0 0)).room.frames = 0 + 1 ∧ (headSpec (ws_ yX2_isIn cX2_isIn 3 (Option.some Jvm.ClassFile.FieldType.boolean)) (rmD 0 0 0)).room.locals = 64 * 0 + 64 := ⟨rfl, rfl⟩
  generalize (headSpec (ws_ yX2_isIn cX2_isIn 3 (Option.some Jvm.ClassFile.FieldType.boolean)) (rmD 0 0 0)).room = R at hR ⊢
  generalize ([iV x0, iV x1, iV x2] : List Value).toArray = args at hts hF ⊢
  generalize hQ : MQ below _ _ _ _ _ _ = Q
  unfold w_M_isIn at h
  refine lv_iload_n hx hb dX2_isIn_0 rfl (lv_at hl 0 rfl) ?_
  refine lv_iload_n hx hb dX2_isIn_1 rfl (lv_at hl 1 rfl) ?_
  refine nr_icmp_lt hx hb rx0 rx1 dX2_isIn_2 (tgt := 14) (by decide) (fun c1 => ?_) (fun c1 => ?_)
  · replace h := h.1 c1
    refine nr_iconst hx hb dX2_isIn_14 ?_
    rw [← hQ]; exact p_zret (K := K) hx hb hr hlocks hI (by decide) h dX2_isIn_15
  · replace h := h.2 c1
    refine lv_iload_n hx hb dX2_isIn_5 rfl (lv_at hl 0 rfl) ?_
    refine lv_iload_n hx hb dX2_isIn_6 rfl (lv_at hl 2 rfl) ?_
    refine nr_icmp_gt hx hb rx0 rx2 dX2_isIn_7 (tgt := 14) (by decide) (fun c2 => ?_) (fun c2 => ?_)
    · replace h := h.1 c2
      refine nr_iconst hx hb dX2_isIn_14 ?_
      rw [← hQ]; exact p_zret (K := K) hx hb hr hlocks hI (by decide) h dX2_isIn_15
    · replace h := h.2 c2
      refine nr_iconst hx hb dX2_isIn_10 ?_
      refine lv_goto (tgt := 15) hx hb dX2_isIn_11 (by decide) ?_
      rw [← hQ]; exact p_zret (K := K) hx hb hr hlocks hI (by decide) h dX2_isIn_15
theorem cMX2_75 {p : Program} {l : Launch} {e : Env} {R : Room} {s : State} {m : MethodId} {args : Array Value} {below : List Frame} {meth : Method} {c : Code} {H : Heap} {locs : List Loc} {Q : State → Prop} {cc : ByteArray} {nL pc : Nat} {ls : Array Slot} {rest : List Value} {cells slots : Nat} {D : va_G} {dA : Nat → ClassId} {ad : Nat → Nat} {A : Nat → Prop} {H0 : Heap} {S : St} {dk : Nat} (hF : CallFix p m c cc nL s args lw_all RX2) (hK : gK D dA s) (hI : sI D dA wM ad A H0 S H locs) (hls : ls.size = nL) (hR : R.frames = dk + 1 ∧ R.locals = 64 * dk + 64) (hd : 0 + 1 ≤ dk) (hW : (rest.map fun v => v.category).sum ≤ 8) (hf : cells ≤ R.cells ∧ slots ≤ R.slots) {x0 : Int} {x1 : Int} {x2 : Int} {K : Int → Prop} (r0 : InR x0) (r1 : InR x1) (r2 : InR x2) (h : w_M_isIn x0 x1 x2 K) (hdg : decode cc pc = .ok (.invokestatic 75, 3)) (kk : ∀ (r : Int) (H1 : Heap) (locs1 : List Loc), (r = 0 ∨ r = 1) → K r → sI D dA wM ad A H0 S H1 locs1 → W p l e R s m args below meth c H1 locs1 cells slots Q (F0 m (pc + 3) ls (iV r :: rest))) : W p l e R s m args below meth c H locs cells slots Q (F0 m (pc) ls (iV x2 :: iV x1 :: iV x0 :: rest)) := s_callPz (As := [iV x0, iV x1, iV x2]) (rest := rest) hF (t_M_isIn l x0 x1 x2 K r0 r1 r2 h) (va_cwS 3 hF.2.2.2.2 (lw_S q1274 q1275 q109 q1276) rfl rfl rfl (by decide +kernel) ⟨by have h1 := hR.1; have h2 : (rmD 0 0 0).frames = 0 + 1 := rfl; omega, by have h1 := hR.2; have h2 : (rmD 0 0 0).locals = 64 * 0 + 64 := rfl; omega⟩) hI rfl hls rfl hW hdg hf kk
theorem gMX2_7_17 {p : Program} {l : Launch} {e : Env} {R : Room} {s : State} {m : MethodId} {args : Array Value} {below : List Frame} {meth : Method} {c : Code} {H : Heap} {locs : List Loc} {Q : State → Prop} {cc : ByteArray} {nL pc : Nat} {ls : Array Slot} {rest : List Value} {cells slots : Nat} {D : va_G} {dA : Nat → ClassId} {ad : Nat → Nat} {A : Nat → Prop} {H0 : Heap} {S : St} (hF : CallFix p m c cc nL s args lw_all RX2) (hK : gK D dA s) (hI : sI D dA wM ad A H0 S H locs) (hdg : decode cc pc = .ok (.getfield 7, 3)) (kk : W p l e R s m args below meth c H locs cells slots Q (F0 m (pc + 3) ls (.ref (ad 0) :: rest))) : W p l e R s m args below meth c H locs cells slots Q (F0 m (pc) ls (.ref (ad 17) :: rest)) := s_getr hF.1 hF.2.1 hF.2.2.2.2 hF.2.2.2.1 hK hI 17 (by decide) wM_17 rfl in_X2 0 (by decide) q1163 rfl 0 rfl hdg kk
set_option maxHeartbeats 4000000 in
theorem t_M_town (l : Launch) (D : va_G) (dA : Nat → ClassId) (ad : Nat → Nat) (S : St) (sz : Nat) (x1 : Int) (x2 : Int) (K : Int → St → Prop) (rx1 : InR x1) (rx2 : InR x2) (h : w_M_town x1 x2 S K) : Met l yX2_town (ws_ yX2_town cX2_town 3 (Option.some Jvm.ClassFile.FieldType.int)) (rmD 1 0 0) (va_Pc [.ref (ad 17), iV x1, iV x2] (sPre D dA wM ad S sz)) (va_Qi (fun r S' => K r.toInt S') (sPost D dA wM ad (wA wM ad S sz)) (wA wM ad S sz)) 0 0 (wA wM ad S sz) := by
  refine Met.ofW (cc := cX2_town) (maxL := 3) (ret := (Option.some Jvm.ClassFile.FieldType.int)) (by decide) rfl ?_
  intro p e s m args below meth c s₁ B hml hv
  obtain ⟨rfl, hsz, hK, hC⟩ := hv
  have hx := B.exec
  have hb := B.bytes
  have hr := B.returns
  have hlocks := B.notSynchronized
  have hts := atoms_spec (ws := (ws_ yX2_town cX2_town 3 (Option.some Jvm.ClassFile.FieldType.int))) B.pre
  have hts : ∀ w ∈ lw_all, w.before _ s = true := fun w h => hts w (List.mem_cons_of_mem _ h)
  have hown : s.vm.findClass RX2 = some m.cls := findClass_of_methodNamed B.named
  clear B
  subst hsz
  have hI : sI D dA wM ad (wA wM ad S s.heap.size) s.heap S s.heap [] := hC.start
  clear hC
  generalize wA wM ad S s.heap.size = A at hI ⊢
  have hl := lv_entry ([.ref (ad 17), iV x1, iV x2] : List Value) (n := 3) (Nat.le_of_ble_eq_true rfl)
  rw [lg_entry_eq]
  generalize (lg_sl ([.ref (ad 17), iV x1, iV x2] : List Value) ++ List.replicate (3 - (lg_sl ([.ref (ad 17), iV x1, iV x2] : List Value)).length) Slot.unset).toArray = ls at hl ⊢
  have hl : lv_has ls 3 [(0, .ref (ad 17)), (1, iV x1), (2, iV x2)] := hl
  have hF : CallFix p m c cX2_town 3 s _ lw_all RX2 := ⟨hx, hb, hml, hown, hts⟩
  have hR : (headSpec (ws_ yX2_town cX2_town 3 (Option.some Jvm.ClassFile.FieldType.int)) (rmD 1 0 0)).room.frames = 1 + 1 ∧ (headSpec (ws_ yX2_town cX2_town 3 (Option.some Jvm.ClassFile.FieldType.int)) (rmD 1 0 0)).room.locals = 64 * 1 + 64 := ⟨rfl, rfl⟩
  generalize (headSpec (ws_ yX2_town cX2_town 3 (Option.some Jvm.ClassFile.FieldType.int)) (rmD 1 0 0)).room = R at hR ⊢
  generalize ([.ref (ad 17), iV x1, iV x2] : List Value).toArray = args at hts hF ⊢
  generalize hQ : MQ below _ _ _ _ _ _ = Q
  unfold w_M_town at h
  refine lv_iload_n hx hb dX2_town_0 rfl (lv_at hl 1 rfl) ?_
  refine nr_iconst hx hb dX2_town_1 ?_
  refine nr_bipush hx hb dX2_town_2 (by decide) ?_
  refine cMX2_75 hF hK hI hl.1 hR (by decide) (Nat.le_of_ble_eq_true rfl) ⟨Nat.zero_le _, Nat.zero_le _⟩ rx1 (by decide) (by decide) h dX2_town_4 (fun r1 H locs fr1 h hI => ?_)
  replace h := h fr1
  have gr1 : InR r1 := kdP_R (k := 2) (by decide) fr1
  refine nr_if_eq hx hb gr1 dX2_town_7 (tgt := 31) (by decide) (fun c3 => ?_) (fun c3 => ?_)
  · replace h := h.1 c3
    refine nr_iconst hx hb dX2_town_31 ?_
    rw [← hQ]; exact s_iret (K := K) hx hb hr hlocks hI (by decide) h dX2_town_32
  · replace h := h.2 c3
    refine lv_iload_n hx hb dX2_town_10 rfl (lv_at hl 2 rfl) ?_
    refine nr_iconst hx hb dX2_town_11 ?_
    refine nr_bipush hx hb dX2_town_12 (by decide) ?_
    refine cMX2_75 hF hK hI hl.1 hR (by decide) (Nat.le_of_ble_eq_true rfl) ⟨Nat.zero_le _, Nat.zero_le _⟩ rx2 (by decide) (by decide) h dX2_town_14 (fun r4 H locs fr4 h hI => ?_)
    replace h := h fr4
    have gr4 : InR r4 := kdP_R (k := 2) (by decide) fr4
    refine nr_if_eq hx hb gr4 dX2_town_17 (tgt := 31) (by decide) (fun c6 => ?_) (fun c6 => ?_)
    · replace h := h.1 c6
      refine nr_iconst hx hb dX2_town_31 ?_
      rw [← hQ]; exact s_iret (K := K) hx hb hr hlocks hI (by decide) h dX2_town_32
    · replace h := h.2 c6
      refine lv_aload_n hx hb dX2_town_20 rfl (lv_at hl 0 rfl) ?_
      refine gMX2_7_17 hF hK hI dX2_town_21 ?_
      refine nr_iconst hx hb dX2_town_24 ?_
      refine s_iald hx hb hK hI 0 (by decide) wM_0 (by decide) (by decide) dX2_town_25 (fun f7 => ?_)
      replace h := h f7
      refine nr_bipush hx hb dX2_town_26 (by decide) ?_
      refine nr_icmp_ne hx hb f7 (by decide) dX2_town_28 (tgt := 33) (by decide) (fun c8 => ?_) (fun c8 => ?_)
      · replace h := h.1 c8
        refine lv_aload_n hx hb dX2_town_33 rfl (lv_at hl 0 rfl) ?_
        refine gMX2_7_17 hF hK hI dX2_town_34 ?_
        refine nr_bipush hx hb dX2_town_37 (by decide) ?_
        refine nr_iconst hx hb dX2_town_39 ?_
        refine lv_aload_n hx hb dX2_town_40 rfl (lv_at hl 0 rfl) ?_
        refine gMX2_7_17 hF hK hI dX2_town_41 ?_
        refine nr_iconst hx hb dX2_town_44 ?_
        refine s_iald hx hb hK hI 0 (by decide) wM_0 (by decide) (by decide) dX2_town_45 (fun f9 => ?_)
        have f10 := h.1; replace h := h.2
        refine nr_imul hx hb dX2_town_46 ?_
        have f11 := h.1; replace h := h.2
        refine nr_iadd hx hb dX2_town_47 ?_
        refine lv_iload_n hx hb dX2_town_48 rfl (lv_at hl 1 rfl) ?_
        have f12 := h.1; replace h := h.2
        refine s_iast hx hb hK hI 0 (by decide) wM_0 f11 f12 rx1 dX2_town_49 (fun S13 H locs eS13 hI => ?_)
        replace h := h S13 eS13
        refine lv_aload_n hx hb dX2_town_50 rfl (lv_at hl 0 rfl) ?_
        refine gMX2_7_17 hF hK hI dX2_town_51 ?_
        refine nr_bipush hx hb dX2_town_54 (by decide) ?_
        refine nr_iconst hx hb dX2_town_56 ?_
        refine lv_aload_n hx hb dX2_town_57 rfl (lv_at hl 0 rfl) ?_
        refine gMX2_7_17 hF hK hI dX2_town_58 ?_
        refine nr_iconst hx hb dX2_town_61 ?_
        refine s_iald hx hb hK hI 0 (by decide) wM_0 (by decide) (by decide) dX2_town_62 (fun f14 => ?_)
        replace h := h f14
        have f15 := h.1; replace h := h.2
        refine nr_imul hx hb dX2_town_63 ?_
        have f16 := h.1; replace h := h.2
        refine nr_iadd hx hb dX2_town_64 ?_
        refine nr_iconst hx hb dX2_town_65 ?_
        have f17 := h.1; replace h := h.2
        refine nr_iadd hx hb dX2_town_66 ?_
        refine lv_iload_n hx hb dX2_town_67 rfl (lv_at hl 2 rfl) ?_
        have f18 := h.1; replace h := h.2
        refine s_iast hx hb hK hI 0 (by decide) wM_0 f17 f18 rx2 dX2_town_68 (fun S19 H locs eS19 hI => ?_)
        replace h := h S19 eS19
        refine lv_aload_n hx hb dX2_town_69 rfl (lv_at hl 0 rfl) ?_
        refine gMX2_7_17 hF hK hI dX2_town_70 ?_
        refine nr_iconst hx hb dX2_town_73 ?_
        refine lv_dup2_11 hx hb dX2_town_74 rfl rfl ?_
        refine s_iald hx hb hK hI 0 (by decide) wM_0 (by decide) (by decide) dX2_town_75 (fun f20 => ?_)
        replace h := h f20
        refine nr_iconst hx hb dX2_town_76 ?_
        have f21 := h.1; replace h := h.2
        refine nr_iadd hx hb dX2_town_77 ?_
        refine s_iast hx hb hK hI 0 (by decide) wM_0 (by decide) (by decide) f21 dX2_town_78 (fun S22 H locs eS22 hI => ?_)
        replace h := h S22 eS22
        refine lv_aload_n hx hb dX2_town_79 rfl (lv_at hl 0 rfl) ?_
        refine gMX2_7_17 hF hK hI dX2_town_80 ?_
        refine nr_iconst hx hb dX2_town_83 ?_
        refine s_iald hx hb hK hI 0 (by decide) wM_0 (by decide) (by decide) dX2_town_84 (fun f23 => ?_)
        replace h := h f23
        refine nr_iconst hx hb dX2_town_85 ?_
        have f24 := h.1; replace h := h.2
        refine nr_isub hx hb dX2_town_86 ?_
        rw [← hQ]; exact s_iret (K := K) hx hb hr hlocks hI f24 h dX2_town_87
      · replace h := h.2 c8
        refine nr_iconst hx hb dX2_town_31 ?_
        rw [← hQ]; exact s_iret (K := K) hx hb hr hlocks hI (by decide) h dX2_town_32
set_option maxHeartbeats 4000000 in
theorem t_M_boneAt (l : Launch) (x0 : Int) (K : Int → Prop) (rx0 : InR x0) (h : w_M_boneAt x0 K) : Met l yX2_boneAt (ws_ yX2_boneAt cX2_boneAt 1 (Option.some Jvm.ClassFile.FieldType.int)) (rmD 0 0 0) (va_Pc [iV x0] (fun _ => True)) (va_Qi (fun r (_ : Unit) => K r.toInt) (fun _ _ => True) (fun _ => False)) 0 0 (fun _ => False) := by
  refine Met.ofW (cc := cX2_boneAt) (maxL := 1) (ret := (Option.some Jvm.ClassFile.FieldType.int)) (by decide) rfl ?_
  intro p e s m args below meth c s₁ B hml hv
  obtain ⟨rfl, -⟩ := hv
  have hx := B.exec
  have hb := B.bytes
  have hr := B.returns
  have hlocks := B.notSynchronized
  have hts := atoms_spec (ws := (ws_ yX2_boneAt cX2_boneAt 1 (Option.some Jvm.ClassFile.FieldType.int))) B.pre
  have hts : ∀ w ∈ lw_all, w.before _ s = true := fun w h => hts w (List.mem_cons_of_mem _ h)
  have hown : s.vm.findClass RX2 = some m.cls := findClass_of_methodNamed B.named
  clear B
  have hI : va_S (fun _ => False) s.heap s.heap [] := va_S.rf
  have hl := lv_entry ([iV x0] : List Value) (n := 1) (Nat.le_of_ble_eq_true rfl)
  rw [lg_entry_eq]
  generalize (lg_sl ([iV x0] : List Value) ++ List.replicate (1 - (lg_sl ([iV x0] : List Value)).length) Slot.unset).toArray = ls at hl ⊢
  have hl : lv_has ls 1 [(0, iV x0)] := hl
  have hF : CallFix p m c cX2_boneAt 1 s _ lw_all RX2 := ⟨hx, hb, hml, hown, hts⟩
  have hR : (headSpec (ws_ yX2_boneAt cX2_boneAt 1 (Option.some Jvm.ClassFile.FieldType.int)) (rmD 0 0 0)).room.frames = 0 + 1 ∧ (headSpec (ws_ yX2_boneAt cX2_boneAt 1 (Option.some Jvm.ClassFile.FieldType.int)) (rmD 0 0 0)).room.locals = 64 * 0 + 64 := ⟨rfl, rfl⟩
  generalize (headSpec (ws_ yX2_boneAt cX2_boneAt 1 (Option.some Jvm.ClassFile.FieldType.int)) (rmD 0 0 0)).room = R at hR ⊢
  generalize ([iV x0] : List Value).toArray = args at hts hF ⊢
  generalize hQ : MQ below _ _ _ _ _ _ = Q
  unfold w_M_boneAt at h
  refine nr_bipush hx hb dX2_boneAt_0 (by decide) ?_
  refine nr_bipush hx hb dX2_boneAt_2 (by decide) ?_
  refine lv_iload_n hx hb dX2_boneAt_4 rfl (lv_at hl 0 rfl) ?_
  have f1 := h.1; replace h := h.2
  refine nr_imul hx hb dX2_boneAt_5 ?_
  have f2 := h.1; replace h := h.2
  refine nr_iadd hx hb dX2_boneAt_6 ?_
  rw [← hQ]; exact p_iret (K := K) hx hb hr hlocks hI f2 h dX2_boneAt_7
set_option maxHeartbeats 4000000 in
theorem t_M_isTown (l : Launch) (D : va_G) (dA : Nat → ClassId) (ad : Nat → Nat) (S : St) (sz : Nat) (x1 : Int) (K : Int → Prop) (rx1 : InR x1) (h : w_M_isTown x1 S K) : Met l yX2_isTown (ws_ yX2_isTown cX2_isTown 2 (Option.some Jvm.ClassFile.FieldType.boolean)) (rmD 1 0 0) (va_Pc [.ref (ad 17), iV x1] (sPre D dA wM ad S sz)) (va_Qi (fun r S' => (r.toInt = 0 ∨ r.toInt = 1) ∧ (S' = S ∧ K r.toInt)) (sPost D dA wM ad (wA wM ad S sz)) (wA wM ad S sz)) 0 0 (wA wM ad S sz) := by
  refine Met.ofW (cc := cX2_isTown) (maxL := 2) (ret := (Option.some Jvm.ClassFile.FieldType.boolean)) (by decide) rfl ?_
  intro p e s m args below meth c s₁ B hml hv
  obtain ⟨rfl, hsz, hK, hC⟩ := hv
  have hx := B.exec
  have hb := B.bytes
  have hr := B.returns
  have hlocks := B.notSynchronized
  have hts := atoms_spec (ws := (ws_ yX2_isTown cX2_isTown 2 (Option.some Jvm.ClassFile.FieldType.boolean))) B.pre
  have hts : ∀ w ∈ lw_all, w.before _ s = true := fun w h => hts w (List.mem_cons_of_mem _ h)
  have hown : s.vm.findClass RX2 = some m.cls := findClass_of_methodNamed B.named
  clear B
  subst hsz
  have hI : sI D dA wM ad (wA wM ad S s.heap.size) s.heap S s.heap [] := hC.start
  clear hC
  generalize wA wM ad S s.heap.size = A at hI ⊢
  have hl := lv_entry ([.ref (ad 17), iV x1] : List Value) (n := 2) (Nat.le_of_ble_eq_true rfl)
  rw [lg_entry_eq]
  generalize (lg_sl ([.ref (ad 17), iV x1] : List Value) ++ List.replicate (2 - (lg_sl ([.ref (ad 17), iV x1] : List Value)).length) Slot.unset).toArray = ls at hl ⊢
  have hl : lv_has ls 2 [(0, .ref (ad 17)), (1, iV x1)] := hl
  have hF : CallFix p m c cX2_isTown 2 s _ lw_all RX2 := ⟨hx, hb, hml, hown, hts⟩
  have hR : (headSpec (ws_ yX2_isTown cX2_isTown 2 (Option.some Jvm.ClassFile.FieldType.boolean)) (rmD 1 0 0)).room.frames = 1 + 1 ∧ (headSpec (ws_ yX2_isTown cX2_isTown 2 (Option.some Jvm.ClassFile.FieldType.boolean)) (rmD 1 0 0)).room.locals = 64 * 1 + 64 := ⟨rfl, rfl⟩
  generalize (headSpec (ws_ yX2_isTown cX2_isTown 2 (Option.some Jvm.ClassFile.FieldType.boolean)) (rmD 1 0 0)).room = R at hR ⊢
  generalize ([.ref (ad 17), iV x1] : List Value).toArray = args at hts hF ⊢
  generalize hQ : MQ below _ _ _ _ _ _ = Q
  unfold w_M_isTown at h
  refine lv_iload_n hx hb dX2_isTown_0 rfl (lv_at hl 1 rfl) ?_
  refine nr_iconst hx hb dX2_isTown_1 ?_
  refine lv_aload_n hx hb dX2_isTown_2 rfl (lv_at hl 0 rfl) ?_
  refine gMX2_7_17 hF hK hI dX2_isTown_3 ?_
  refine nr_iconst hx hb dX2_isTown_6 ?_
  refine s_iald hx hb hK hI 0 (by decide) wM_0 (by decide) (by decide) dX2_isTown_7 (fun f1 => ?_)
  replace h := h f1
  refine nr_iconst hx hb dX2_isTown_8 ?_
  have f2 := h.1; replace h := h.2
  refine nr_isub hx hb dX2_isTown_9 ?_
  refine cMX2_75 hF hK hI hl.1 hR (by decide) (Nat.le_of_ble_eq_true rfl) ⟨Nat.zero_le _, Nat.zero_le _⟩ rx1 (by decide) f2 h dX2_isTown_10 (fun r3 H locs fr3 h hI => ?_)
  replace h := h fr3
  have gr3 : InR r3 := kdP_R (k := 2) (by decide) fr3
  rw [← hQ]; exact s_zret (K := fun r S' => S' = S ∧ K r) hx hb hr hlocks hI fr3 ⟨rfl, h⟩ dX2_isTown_13
theorem cMX2_83 {p : Program} {l : Launch} {e : Env} {R : Room} {s : State} {m : MethodId} {args : Array Value} {below : List Frame} {meth : Method} {c : Code} {H : Heap} {locs : List Loc} {Q : State → Prop} {cc : ByteArray} {nL pc : Nat} {ls : Array Slot} {rest : List Value} {cells slots : Nat} {D : va_G} {dA : Nat → ClassId} {ad : Nat → Nat} {A : Nat → Prop} {H0 : Heap} {S : St} {dk : Nat} (hF : CallFix p m c cc nL s args lw_all RX2) (hK : gK D dA s) (hI : sI D dA wM ad A H0 S H locs) (hls : ls.size = nL) (hR : R.frames = dk + 1 ∧ R.locals = 64 * dk + 64) (hd : 1 + 1 ≤ dk) (hW : (rest.map fun v => v.category).sum ≤ 8) (hf : cells ≤ R.cells ∧ slots ≤ R.slots) {x1 : Int} {K : Int → Prop} (r1 : InR x1) (h : w_M_isTown x1 S K) (hdg : decode cc pc = .ok (.invokevirtual 83, 3)) (kk : ∀ (r : Int) (H1 : Heap) (locs1 : List Loc), (r = 0 ∨ r = 1) → K r → sI D dA wM ad A H0 S H1 locs1 → W p l e R s m args below meth c H1 locs1 cells slots Q (F0 m (pc + 3) ls (iV r :: rest))) : W p l e R s m args below meth c H locs cells slots Q (F0 m (pc) ls (iV x1 :: .ref (ad 17) :: rest)) := s_callVz (As := [iV x1]) (rest := rest) (K := fun r S' => S' = S ∧ K r) hF (t_M_isTown l D dA ad S H.size x1 K r1 h) (s_recv hK hI 17 (by decide) wM_17 rfl) (cwV 1 hF.2.2.2.2 (lw_V q1281 q1283 qs49 q109 q1284) rfl rfl rfl (by decide +kernel) ⟨by have h1 := hR.1; have h2 : (rmD 1 0 0).frames = 1 + 1 := rfl; omega, by have h1 := hR.2; have h2 : (rmD 1 0 0).locals = 64 * 1 + 64 := rfl; omega⟩) hK hI rfl hls rfl hW hdg hf (fun r S1 H1 locs1 f hk hI1 => by obtain ⟨rfl, hk⟩ := hk; exact kk r H1 locs1 f hk hI1)
theorem cMX2_87 {p : Program} {l : Launch} {e : Env} {R : Room} {s : State} {m : MethodId} {args : Array Value} {below : List Frame} {meth : Method} {c : Code} {H : Heap} {locs : List Loc} {Q : State → Prop} {cc : ByteArray} {nL pc : Nat} {ls : Array Slot} {rest : List Value} {cells slots : Nat} {D : va_G} {dA : Nat → ClassId} {ad : Nat → Nat} {A : Nat → Prop} {H0 : Heap} {S : St} {dk : Nat} (hF : CallFix p m c cc nL s args lw_all RX2) (hK : gK D dA s) (hI : sI D dA wM ad A H0 S H locs) (hls : ls.size = nL) (hR : R.frames = dk + 1 ∧ R.locals = 64 * dk + 64) (hd : 0 + 1 ≤ dk) (hW : (rest.map fun v => v.category).sum ≤ 8) (hf : cells ≤ R.cells ∧ slots ≤ R.slots) {x0 : Int} {K : Int → Prop} (r0 : InR x0) (h : w_M_boneAt x0 K) (hdg : decode cc pc = .ok (.invokestatic 87, 3)) (kk : ∀ (r : Int) (H1 : Heap) (locs1 : List Loc), InR r → K r → sI D dA wM ad A H0 S H1 locs1 → W p l e R s m args below meth c H1 locs1 cells slots Q (F0 m (pc + 3) ls (iV r :: rest))) : W p l e R s m args below meth c H locs cells slots Q (F0 m (pc) ls (iV x0 :: rest)) := s_callPi (As := [iV x0]) (rest := rest) hF (t_M_boneAt l x0 K r0 h) (va_cwS 1 hF.2.2.2.2 (lw_S q1285 q1286 q109 q1287) rfl rfl rfl (by decide +kernel) ⟨by have h1 := hR.1; have h2 : (rmD 0 0 0).frames = 0 + 1 := rfl; omega, by have h1 := hR.2; have h2 : (rmD 0 0 0).locals = 64 * 0 + 64 := rfl; omega⟩) hI rfl hls rfl hW hdg hf kk
set_option maxHeartbeats 4000000 in
theorem t_M_bone (l : Launch) (D : va_G) (dA : Nat → ClassId) (ad : Nat → Nat) (S : St) (sz : Nat) (x1 : Int) (x2 : Int) (x3 : Int) (K : Int → St → Prop) (rx1 : InR x1) (rx2 : InR x2) (rx3 : InR x3) (h : w_M_bone x1 x2 x3 S K) : Met l yX2_bone (ws_ yX2_bone cX2_bone 5 (Option.some Jvm.ClassFile.FieldType.int)) (rmD 2 0 0) (va_Pc [.ref (ad 17), iV x1, iV x2, iV x3] (sPre D dA wM ad S sz)) (va_Qi (fun r S' => K r.toInt S') (sPost D dA wM ad (wA wM ad S sz)) (wA wM ad S sz)) 0 0 (wA wM ad S sz) := by
  refine Met.ofW (cc := cX2_bone) (maxL := 5) (ret := (Option.some Jvm.ClassFile.FieldType.int)) (by decide) rfl ?_
  intro p e s m args below meth c s₁ B hml hv
  obtain ⟨rfl, hsz, hK, hC⟩ := hv
  have hx := B.exec
  have hb := B.bytes
  have hr := B.returns
  have hlocks := B.notSynchronized
  have hts := atoms_spec (ws := (ws_ yX2_bone cX2_bone 5 (Option.some Jvm.ClassFile.FieldType.int))) B.pre
  have hts : ∀ w ∈ lw_all, w.before _ s = true := fun w h => hts w (List.mem_cons_of_mem _ h)
  have hown : s.vm.findClass RX2 = some m.cls := findClass_of_methodNamed B.named
  clear B
  subst hsz
  have hI : sI D dA wM ad (wA wM ad S s.heap.size) s.heap S s.heap [] := hC.start
  clear hC
  generalize wA wM ad S s.heap.size = A at hI ⊢
  have hl := lv_entry ([.ref (ad 17), iV x1, iV x2, iV x3] : List Value) (n := 5) (Nat.le_of_ble_eq_true rfl)
  rw [lg_entry_eq]
  generalize (lg_sl ([.ref (ad 17), iV x1, iV x2, iV x3] : List Value) ++ List.replicate (5 - (lg_sl ([.ref (ad 17), iV x1, iV x2, iV x3] : List Value)).length) Slot.unset).toArray = ls at hl ⊢
  have hl : lv_has ls 5 [(0, .ref (ad 17)), (1, iV x1), (2, iV x2), (3, iV x3)] := hl
  have hF : CallFix p m c cX2_bone 5 s _ lw_all RX2 := ⟨hx, hb, hml, hown, hts⟩
  have hR : (headSpec (ws_ yX2_bone cX2_bone 5 (Option.some Jvm.ClassFile.FieldType.int)) (rmD 2 0 0)).room.frames = 2 + 1 ∧ (headSpec (ws_ yX2_bone cX2_bone 5 (Option.some Jvm.ClassFile.FieldType.int)) (rmD 2 0 0)).room.locals = 64 * 2 + 64 := ⟨rfl, rfl⟩
  generalize (headSpec (ws_ yX2_bone cX2_bone 5 (Option.some Jvm.ClassFile.FieldType.int)) (rmD 2 0 0)).room = R at hR ⊢
  generalize ([.ref (ad 17), iV x1, iV x2, iV x3] : List Value).toArray = args at hts hF ⊢
  generalize hQ : MQ below _ _ _ _ _ _ = Q
  unfold w_M_bone at h
  refine lv_iload_n hx hb dX2_bone_0 rfl (lv_at hl 1 rfl) ?_
  refine nr_iconst hx hb dX2_bone_1 ?_
  refine nr_bipush hx hb dX2_bone_2 (by decide) ?_
  refine cMX2_75 hF hK hI hl.1 hR (by decide) (Nat.le_of_ble_eq_true rfl) ⟨Nat.zero_le _, Nat.zero_le _⟩ rx1 (by decide) (by decide) h dX2_bone_4 (fun r1 H locs fr1 h hI => ?_)
  replace h := h fr1
  have gr1 : InR r1 := kdP_R (k := 2) (by decide) fr1
  refine nr_if_eq hx hb gr1 dX2_bone_7 (tgt := 40) (by decide) (fun c3 => ?_) (fun c3 => ?_)
  · replace h := h.1 c3
    refine nr_iconst hx hb dX2_bone_40 ?_
    rw [← hQ]; exact s_iret (K := K) hx hb hr hlocks hI (by decide) h dX2_bone_41
  · replace h := h.2 c3
    refine lv_iload_n hx hb dX2_bone_10 rfl (lv_at hl 2 rfl) ?_
    refine nr_iconst hx hb dX2_bone_11 ?_
    refine nr_sipush hx hb dX2_bone_12 (by decide) ?_
    refine cMX2_75 hF hK hI hl.1 hR (by decide) (Nat.le_of_ble_eq_true rfl) ⟨Nat.zero_le _, Nat.zero_le _⟩ rx2 (by decide) (by decide) h dX2_bone_15 (fun r4 H locs fr4 h hI => ?_)
    replace h := h fr4
    have gr4 : InR r4 := kdP_R (k := 2) (by decide) fr4
    refine nr_if_eq hx hb gr4 dX2_bone_18 (tgt := 40) (by decide) (fun c6 => ?_) (fun c6 => ?_)
    · replace h := h.1 c6
      refine nr_iconst hx hb dX2_bone_40 ?_
      rw [← hQ]; exact s_iret (K := K) hx hb hr hlocks hI (by decide) h dX2_bone_41
    · replace h := h.2 c6
      refine lv_aload_n hx hb dX2_bone_21 rfl (lv_at hl 0 rfl) ?_
      refine lv_iload_n hx hb dX2_bone_22 rfl (lv_at hl 3 rfl) ?_
      refine cMX2_83 hF hK hI hl.1 hR (by decide) (Nat.le_of_ble_eq_true rfl) ⟨Nat.zero_le _, Nat.zero_le _⟩ rx3 h dX2_bone_23 (fun r7 H locs fr7 h hI => ?_)
      replace h := h fr7
      have gr7 : InR r7 := kdP_R (k := 2) (by decide) fr7
      refine nr_if_eq hx hb gr7 dX2_bone_26 (tgt := 40) (by decide) (fun c9 => ?_) (fun c9 => ?_)
      · replace h := h.1 c9
        refine nr_iconst hx hb dX2_bone_40 ?_
        rw [← hQ]; exact s_iret (K := K) hx hb hr hlocks hI (by decide) h dX2_bone_41
      · replace h := h.2 c9
        refine lv_aload_n hx hb dX2_bone_29 rfl (lv_at hl 0 rfl) ?_
        refine gMX2_7_17 hF hK hI dX2_bone_30 ?_
        refine nr_iconst hx hb dX2_bone_33 ?_
        refine s_iald hx hb hK hI 0 (by decide) wM_0 (by decide) (by decide) dX2_bone_34 (fun f10 => ?_)
        replace h := h f10
        refine nr_bipush hx hb dX2_bone_35 (by decide) ?_
        refine nr_icmp_ne hx hb f10 (by decide) dX2_bone_37 (tgt := 42) (by decide) (fun c11 => ?_) (fun c11 => ?_)
        · replace h := h.1 c11
          refine lv_aload_n hx hb dX2_bone_42 rfl (lv_at hl 0 rfl) ?_
          refine gMX2_7_17 hF hK hI dX2_bone_43 ?_
          refine nr_iconst hx hb dX2_bone_46 ?_
          refine s_iald hx hb hK hI 0 (by decide) wM_0 (by decide) (by decide) dX2_bone_47 (fun f12 => ?_)
          refine cMX2_87 hF hK hI hl.1 hR (by decide) (Nat.le_of_ble_eq_true rfl) ⟨Nat.zero_le _, Nat.zero_le _⟩ f10 h dX2_bone_48 (fun r13 H locs fr13 h hI => ?_)
          replace h := h fr13
          refine lv_istore (lv' := [(4, iV r13), (0, .ref (ad 17)), (1, iV x1), (2, iV x2), (3, iV x3)]) hx hb dX2_bone_51 hl (by decide) rfl (fun ls hl => ?_)
          refine lv_aload_n hx hb dX2_bone_53 rfl (lv_at hl 1 rfl) ?_
          refine gMX2_7_17 hF hK hI dX2_bone_54 ?_
          refine lv_iload hx hb dX2_bone_57 (lv_at hl 0 rfl) ?_
          refine lv_iload_n hx hb dX2_bone_59 rfl (lv_at hl 2 rfl) ?_
          have f15 := h.1; replace h := h.2
          refine s_iast hx hb hK hI 0 (by decide) wM_0 fr13 f15 rx1 dX2_bone_60 (fun S16 H locs eS16 hI => ?_)
          replace h := h S16 eS16
          refine lv_aload_n hx hb dX2_bone_61 rfl (lv_at hl 1 rfl) ?_
          refine gMX2_7_17 hF hK hI dX2_bone_62 ?_
          refine lv_iload hx hb dX2_bone_65 (lv_at hl 0 rfl) ?_
          refine nr_iconst hx hb dX2_bone_67 ?_
          have f17 := h.1; replace h := h.2
          refine nr_iadd hx hb dX2_bone_68 ?_
          refine lv_iload_n hx hb dX2_bone_69 rfl (lv_at hl 3 rfl) ?_
          have f18 := h.1; replace h := h.2
          refine s_iast hx hb hK hI 0 (by decide) wM_0 f17 f18 rx2 dX2_bone_70 (fun S19 H locs eS19 hI => ?_)
          replace h := h S19 eS19
          refine lv_aload_n hx hb dX2_bone_71 rfl (lv_at hl 1 rfl) ?_
          refine gMX2_7_17 hF hK hI dX2_bone_72 ?_
          refine lv_iload hx hb dX2_bone_75 (lv_at hl 0 rfl) ?_
          refine nr_iconst hx hb dX2_bone_77 ?_
          have f20 := h.1; replace h := h.2
          refine nr_iadd hx hb dX2_bone_78 ?_
          refine lv_iload_n hx hb dX2_bone_79 rfl (lv_at hl 4 rfl) ?_
          have f21 := h.1; replace h := h.2
          refine s_iast hx hb hK hI 0 (by decide) wM_0 f20 f21 rx3 dX2_bone_80 (fun S22 H locs eS22 hI => ?_)
          replace h := h S22 eS22
          refine lv_aload_n hx hb dX2_bone_81 rfl (lv_at hl 1 rfl) ?_
          refine gMX2_7_17 hF hK hI dX2_bone_82 ?_
          refine lv_iload hx hb dX2_bone_85 (lv_at hl 0 rfl) ?_
          refine nr_iconst hx hb dX2_bone_87 ?_
          have f23 := h.1; replace h := h.2
          refine nr_iadd hx hb dX2_bone_88 ?_
          refine lv_iload_n hx hb dX2_bone_89 rfl (lv_at hl 4 rfl) ?_
          have f24 := h.1; replace h := h.2
          refine s_iast hx hb hK hI 0 (by decide) wM_0 f23 f24 rx3 dX2_bone_90 (fun S25 H locs eS25 hI => ?_)
          replace h := h S25 eS25
          refine lv_aload_n hx hb dX2_bone_91 rfl (lv_at hl 1 rfl) ?_
          refine gMX2_7_17 hF hK hI dX2_bone_92 ?_
          refine lv_iload hx hb dX2_bone_95 (lv_at hl 0 rfl) ?_
          refine nr_iconst hx hb dX2_bone_97 ?_
          have f26 := h.1; replace h := h.2
          refine nr_iadd hx hb dX2_bone_98 ?_
          refine nr_iconst hx hb dX2_bone_99 ?_
          have f27 := h.1; replace h := h.2
          refine s_iast hx hb hK hI 0 (by decide) wM_0 f26 f27 (show InR ((-1)) by decide) dX2_bone_100 (fun S28 H locs eS28 hI => ?_)
          replace h := h S28 eS28
          refine lv_aload_n hx hb dX2_bone_101 rfl (lv_at hl 1 rfl) ?_
          refine gMX2_7_17 hF hK hI dX2_bone_102 ?_
          refine lv_iload hx hb dX2_bone_105 (lv_at hl 0 rfl) ?_
          refine nr_iconst hx hb dX2_bone_107 ?_
          have f29 := h.1; replace h := h.2
          refine nr_iadd hx hb dX2_bone_108 ?_
          refine nr_iconst hx hb dX2_bone_109 ?_
          have f30 := h.1; replace h := h.2
          refine s_iast hx hb hK hI 0 (by decide) wM_0 f29 f30 (show InR (0) by decide) dX2_bone_110 (fun S31 H locs eS31 hI => ?_)
          replace h := h S31 eS31
          refine lv_aload_n hx hb dX2_bone_111 rfl (lv_at hl 1 rfl) ?_
          refine gMX2_7_17 hF hK hI dX2_bone_112 ?_
          refine nr_iconst hx hb dX2_bone_115 ?_
          refine lv_dup2_11 hx hb dX2_bone_116 rfl rfl ?_
          refine s_iald hx hb hK hI 0 (by decide) wM_0 (by decide) (by decide) dX2_bone_117 (fun f32 => ?_)
          replace h := h f32
          refine nr_iconst hx hb dX2_bone_118 ?_
          have f33 := h.1; replace h := h.2
          refine nr_iadd hx hb dX2_bone_119 ?_
          refine s_iast hx hb hK hI 0 (by decide) wM_0 (by decide) (by decide) f33 dX2_bone_120 (fun S34 H locs eS34 hI => ?_)
          replace h := h S34 eS34
          refine lv_aload_n hx hb dX2_bone_121 rfl (lv_at hl 1 rfl) ?_
          refine gMX2_7_17 hF hK hI dX2_bone_122 ?_
          refine nr_iconst hx hb dX2_bone_125 ?_
          refine s_iald hx hb hK hI 0 (by decide) wM_0 (by decide) (by decide) dX2_bone_126 (fun f35 => ?_)
          replace h := h f35
          refine nr_iconst hx hb dX2_bone_127 ?_
          have f36 := h.1; replace h := h.2
          refine nr_isub hx hb dX2_bone_128 ?_
          rw [← hQ]; exact s_iret (K := K) hx hb hr hlocks hI f36 h dX2_bone_129
        · replace h := h.2 c11
          refine nr_iconst hx hb dX2_bone_40 ?_
          rw [← hQ]; exact s_iret (K := K) hx hb hr hlocks hI (by decide) h dX2_bone_41
set_option maxHeartbeats 4000000 in
theorem t_M_undo (l : Launch) (D : va_G) (dA : Nat → ClassId) (ad : Nat → Nat) (S : St) (sz : Nat) (K : Int → St → Prop) (h : w_M_undo S K) : Met l yX2_undo (ws_ yX2_undo cX2_undo 4 (Option.some Jvm.ClassFile.FieldType.int)) (rmD 1 0 0) (va_Pc [.ref (ad 17)] (sPre D dA wM ad S sz)) (va_Qi (fun r S' => K r.toInt S') (sPost D dA wM ad (wA wM ad S sz)) (wA wM ad S sz)) 0 0 (wA wM ad S sz) := by
  refine Met.ofW (cc := cX2_undo) (maxL := 4) (ret := (Option.some Jvm.ClassFile.FieldType.int)) (by decide) rfl ?_
  intro p e s m args below meth c s₁ B hml hv
  obtain ⟨rfl, hsz, hK, hC⟩ := hv
  have hx := B.exec
  have hb := B.bytes
  have hr := B.returns
  have hlocks := B.notSynchronized
  have hts := atoms_spec (ws := (ws_ yX2_undo cX2_undo 4 (Option.some Jvm.ClassFile.FieldType.int))) B.pre
  have hts : ∀ w ∈ lw_all, w.before _ s = true := fun w h => hts w (List.mem_cons_of_mem _ h)
  have hown : s.vm.findClass RX2 = some m.cls := findClass_of_methodNamed B.named
  clear B
  subst hsz
  have hI : sI D dA wM ad (wA wM ad S s.heap.size) s.heap S s.heap [] := hC.start
  clear hC
  generalize wA wM ad S s.heap.size = A at hI ⊢
  have hl := lv_entry ([.ref (ad 17)] : List Value) (n := 4) (Nat.le_of_ble_eq_true rfl)
  rw [lg_entry_eq]
  generalize (lg_sl ([.ref (ad 17)] : List Value) ++ List.replicate (4 - (lg_sl ([.ref (ad 17)] : List Value)).length) Slot.unset).toArray = ls at hl ⊢
  have hl : lv_has ls 4 [(0, .ref (ad 17))] := hl
  have hF : CallFix p m c cX2_undo 4 s _ lw_all RX2 := ⟨hx, hb, hml, hown, hts⟩
  have hR : (headSpec (ws_ yX2_undo cX2_undo 4 (Option.some Jvm.ClassFile.FieldType.int)) (rmD 1 0 0)).room.frames = 1 + 1 ∧ (headSpec (ws_ yX2_undo cX2_undo 4 (Option.some Jvm.ClassFile.FieldType.int)) (rmD 1 0 0)).room.locals = 64 * 1 + 64 := ⟨rfl, rfl⟩
  generalize (headSpec (ws_ yX2_undo cX2_undo 4 (Option.some Jvm.ClassFile.FieldType.int)) (rmD 1 0 0)).room = R at hR ⊢
  generalize ([.ref (ad 17)] : List Value).toArray = args at hts hF ⊢
  generalize hQ : MQ below _ _ _ _ _ _ = Q
  have L49 : ∀ (x1 : Int), InR x1 → ∀ (n49 : Nat) (x2 : Int) (S : St) (H : Heap) (locs : List Loc) (ls : Array Slot), InR x2 → sI D dA wM ad A s.heap S H locs → lv_has ls 4 [(0, .ref (ad 17)), (1, iV x1), (2, iV x2)] → l_M_undo_49 x1 K n49 x2 S → W p l e R s m args below meth c H locs 0 0 Q (F0 m 49 ls []) := by
    intro x1 rx1 n49
    induction n49 with
    | zero => intro x2 S H locs ls rx2 hI hl h; exact False.elim h
    | succ n49 ih49 =>
      intro x2 S H locs ls rx2 hI hl h
      have J101 : ∀ (x2 : Int) (S : St) (H : Heap) (locs : List Loc) (ls : Array Slot), InR x2 → sI D dA wM ad A s.heap S H locs → lv_has ls 4 [(0, .ref (ad 17)), (1, iV x1), (2, iV x2)] → j_M_undo_101 x1 x2 S K (l_M_undo_49 x1 K n49) → W p l e R s m args below meth c H locs 0 0 Q (F0 m 101 ls []) := by
        intro x2 S H locs ls rx2 hI hl h
        unfold j_M_undo_101 at h
        have f1 := h.1; replace h := h.2
        refine nr_iinc (lv' := [(2, iV (x2 + 1)), (0, .ref (ad 17)), (1, iV x1)]) hx hb dX2_undo_101 hl (k := 2) rfl (by decide) rfl (fun ls hl => ?_)
        refine lv_goto (tgt := 49) hx hb dX2_undo_104 (by decide) ?_
        exact ih49 (x2 + 1) S _ _ _ f1 hI (lv_sub hl [1, 2, 0] rfl) h
      have L63 : ∀ (x2 : Int), InR x2 → ∀ (n63 : Nat) (x3 : Int) (S : St) (H : Heap) (locs : List Loc) (ls : Array Slot), InR x3 → sI D dA wM ad A s.heap S H locs → lv_has ls 4 [(0, .ref (ad 17)), (1, iV x1), (2, iV x2), (3, iV x3)] → l_M_undo_63 x1 x2 K (fun (zS : St) => j_M_undo_101 x1 x2 zS K (l_M_undo_49 x1 K n49)) n63 x3 S → W p l e R s m args below meth c H locs 0 0 Q (F0 m 63 ls []) := by
        intro x2 rx2 n63
        induction n63 with
        | zero => intro x3 S H locs ls rx3 hI hl h; exact False.elim h
        | succ n63 ih63 =>
          intro x3 S H locs ls rx3 hI hl h
          unfold l_M_undo_63 at h
          refine lv_iload_n hx hb dX2_undo_63 rfl (lv_at hl 3 rfl) ?_
          refine nr_iconst hx hb dX2_undo_64 ?_
          refine nr_icmp_ge hx hb rx3 (by decide) dX2_undo_65 (tgt := 101) (by decide) (fun c2 => ?_) (fun c2 => ?_)
          · replace h := h.1 c2
            exact J101 x2 S _ _ _ rx2 hI (lv_sub hl [0, 1, 2] rfl) h
          · replace h := h.2 c2
            refine lv_aload_n hx hb dX2_undo_68 rfl (lv_at hl 0 rfl) ?_
            refine gMX2_7_17 hF hK hI dX2_undo_69 ?_
            refine lv_iload_n hx hb dX2_undo_72 rfl (lv_at hl 2 rfl) ?_
            refine cMX2_87 hF hK hI hl.1 hR (by decide) (Nat.le_of_ble_eq_true rfl) ⟨Nat.zero_le _, Nat.zero_le _⟩ rx2 h dX2_undo_73 (fun r3 H locs fr3 h hI => ?_)
            replace h := h fr3
            refine nr_iconst hx hb dX2_undo_76 ?_
            have f5 := h.1; replace h := h.2
            refine nr_iadd hx hb dX2_undo_77 ?_
            refine lv_iload_n hx hb dX2_undo_78 rfl (lv_at hl 3 rfl) ?_
            have f6 := h.1; replace h := h.2
            refine nr_iadd hx hb dX2_undo_79 ?_
            refine lv_aload_n hx hb dX2_undo_80 rfl (lv_at hl 0 rfl) ?_
            refine gMX2_7_17 hF hK hI dX2_undo_81 ?_
            refine lv_iload_n hx hb dX2_undo_84 rfl (lv_at hl 1 rfl) ?_
            refine nr_iconst hx hb dX2_undo_85 ?_
            have f7 := h.1; replace h := h.2
            refine nr_iadd hx hb dX2_undo_86 ?_
            refine nr_iconst hx hb dX2_undo_87 ?_
            refine lv_iload_n hx hb dX2_undo_88 rfl (lv_at hl 2 rfl) ?_
            have f8 := h.1; replace h := h.2
            refine nr_imul hx hb dX2_undo_89 ?_
            have f9 := h.1; replace h := h.2
            refine nr_iadd hx hb dX2_undo_90 ?_
            refine lv_iload_n hx hb dX2_undo_91 rfl (lv_at hl 3 rfl) ?_
            have f10 := h.1; replace h := h.2
            refine nr_iadd hx hb dX2_undo_92 ?_
            have f11 := h.1; replace h := h.2
            refine s_iald hx hb hK hI 0 (by decide) wM_0 f10 f11 dX2_undo_93 (fun f12 => ?_)
            replace h := h f12
            have f13 := h.1; replace h := h.2
            refine s_iast hx hb hK hI 0 (by decide) wM_0 f6 f13 f12 dX2_undo_94 (fun S14 H locs eS14 hI => ?_)
            replace h := h S14 eS14
            have f15 := h.1; replace h := h.2
            refine nr_iinc (lv' := [(3, iV (x3 + 1)), (0, .ref (ad 17)), (1, iV x1), (2, iV x2)]) hx hb dX2_undo_95 hl (k := 3) rfl (by decide) rfl (fun ls hl => ?_)
            refine lv_goto (tgt := 63) hx hb dX2_undo_98 (by decide) ?_
            exact ih63 (x3 + 1) S14 _ _ _ f15 hI (lv_sub hl [1, 2, 3, 0] rfl) h
      unfold l_M_undo_49 at h
      refine lv_iload_n hx hb dX2_undo_49 rfl (lv_at hl 2 rfl) ?_
      refine lv_aload_n hx hb dX2_undo_50 rfl (lv_at hl 0 rfl) ?_
      refine gMX2_7_17 hF hK hI dX2_undo_51 ?_
      refine lv_iload_n hx hb dX2_undo_54 rfl (lv_at hl 1 rfl) ?_
      refine nr_iconst hx hb dX2_undo_55 ?_
      have f16 := h.1; replace h := h.2
      refine nr_iadd hx hb dX2_undo_56 ?_
      have f17 := h.1; replace h := h.2
      refine s_iald hx hb hK hI 0 (by decide) wM_0 f16 f17 dX2_undo_57 (fun f18 => ?_)
      replace h := h f18
      refine nr_icmp_ge hx hb rx2 f18 dX2_undo_58 (tgt := 107) (by decide) (fun c19 => ?_) (fun c19 => ?_)
      · replace h := h.1 c19
        refine lv_aload_n hx hb dX2_undo_107 rfl (lv_at hl 0 rfl) ?_
        refine gMX2_7_17 hF hK hI dX2_undo_108 ?_
        refine nr_iconst hx hb dX2_undo_111 ?_
        refine s_iald hx hb hK hI 0 (by decide) wM_0 (by decide) (by decide) dX2_undo_112 (fun f20 => ?_)
        replace h := h f20
        rw [← hQ]; exact s_iret (K := K) hx hb hr hlocks hI f20 h dX2_undo_113
      · replace h := h.2 c19
        refine nr_iconst hx hb dX2_undo_61 ?_
        refine lv_istore_n (lv' := [(3, iV 0), (0, .ref (ad 17)), (1, iV x1), (2, iV x2)]) hx hb dX2_undo_62 rfl hl (by decide) rfl (fun ls hl => ?_)
        obtain ⟨n0, h⟩ := h
        exact L63 x2 rx2 n0 0 S _ _ _ (by decide) hI (lv_sub hl [1, 2, 3, 0] rfl) h
  unfold w_M_undo at h
  refine lv_aload_n hx hb dX2_undo_0 rfl (lv_at hl 0 rfl) ?_
  refine gMX2_7_17 hF hK hI dX2_undo_1 ?_
  refine nr_iconst hx hb dX2_undo_4 ?_
  refine s_iald hx hb hK hI 0 (by decide) wM_0 (by decide) (by decide) dX2_undo_5 (fun f21 => ?_)
  replace h := h f21
  refine nr_if_ne hx hb f21 dX2_undo_6 (tgt := 11) (by decide) (fun c22 => ?_) (fun c22 => ?_)
  · replace h := h.1 c22
    refine lv_aload_n hx hb dX2_undo_11 rfl (lv_at hl 0 rfl) ?_
    refine gMX2_7_17 hF hK hI dX2_undo_12 ?_
    refine nr_iconst hx hb dX2_undo_15 ?_
    refine lv_dup2_11 hx hb dX2_undo_16 rfl rfl ?_
    refine s_iald hx hb hK hI 0 (by decide) wM_0 (by decide) (by decide) dX2_undo_17 (fun f23 => ?_)
    refine nr_iconst hx hb dX2_undo_18 ?_
    have f24 := h.1; replace h := h.2
    refine nr_isub hx hb dX2_undo_19 ?_
    refine s_iast hx hb hK hI 0 (by decide) wM_0 (by decide) (by decide) f24 dX2_undo_20 (fun S25 H locs eS25 hI => ?_)
    replace h := h S25 eS25
    refine nr_sipush hx hb dX2_undo_21 (by decide) ?_
    refine nr_bipush hx hb dX2_undo_24 (by decide) ?_
    refine lv_aload_n hx hb dX2_undo_26 rfl (lv_at hl 0 rfl) ?_
    refine gMX2_7_17 hF hK hI dX2_undo_27 ?_
    refine nr_iconst hx hb dX2_undo_30 ?_
    refine s_iald hx hb hK hI 0 (by decide) wM_0 (by decide) (by decide) dX2_undo_31 (fun f26 => ?_)
    replace h := h f26
    have f27 := h.1; replace h := h.2
    refine nr_imul hx hb dX2_undo_32 ?_
    have f28 := h.1; replace h := h.2
    refine nr_iadd hx hb dX2_undo_33 ?_
    refine nr_topi (fun v29 ev29 => ?_)
    have rv29 : InR v29 := by rw [ev29]; exact f28
    replace h := h v29 ev29 rv29
    refine lv_istore_n (lv' := [(1, iV v29), (0, .ref (ad 17))]) hx hb dX2_undo_34 rfl hl (by decide) rfl (fun ls hl => ?_)
    refine lv_aload_n hx hb dX2_undo_35 rfl (lv_at hl 1 rfl) ?_
    refine gMX2_7_17 hF hK hI dX2_undo_36 ?_
    refine nr_iconst hx hb dX2_undo_39 ?_
    refine lv_aload_n hx hb dX2_undo_40 rfl (lv_at hl 1 rfl) ?_
    refine gMX2_7_17 hF hK hI dX2_undo_41 ?_
    refine lv_iload_n hx hb dX2_undo_44 rfl (lv_at hl 0 rfl) ?_
    have f30 := h.1; replace h := h.2
    refine s_iald hx hb hK hI 0 (by decide) wM_0 rv29 f30 dX2_undo_45 (fun f31 => ?_)
    replace h := h f31
    refine s_iast hx hb hK hI 0 (by decide) wM_0 (by decide) (by decide) f31 dX2_undo_46 (fun S32 H locs eS32 hI => ?_)
    replace h := h S32 eS32
    refine nr_iconst hx hb dX2_undo_47 ?_
    refine lv_istore_n (lv' := [(2, iV 0), (1, iV v29), (0, .ref (ad 17))]) hx hb dX2_undo_48 rfl hl (by decide) rfl (fun ls hl => ?_)
    obtain ⟨n0, h⟩ := h
    exact L49 v29 rv29 n0 0 S32 _ _ _ (by decide) hI (lv_sub hl [2, 1, 0] rfl) h
  · replace h := h.2 c22
    refine nr_iconst hx hb dX2_undo_9 ?_
    rw [← hQ]; exact s_iret (K := K) hx hb hr hlocks hI (by decide) h dX2_undo_10
set_option maxHeartbeats 4000000 in
theorem t_M_isBone (l : Launch) (D : va_G) (dA : Nat → ClassId) (ad : Nat → Nat) (S : St) (sz : Nat) (x1 : Int) (K : Int → Prop) (rx1 : InR x1) (h : w_M_isBone x1 S K) : Met l yX2_isBone (ws_ yX2_isBone cX2_isBone 2 (Option.some Jvm.ClassFile.FieldType.boolean)) (rmD 1 0 0) (va_Pc [.ref (ad 17), iV x1] (sPre D dA wM ad S sz)) (va_Qi (fun r S' => (r.toInt = 0 ∨ r.toInt = 1) ∧ (S' = S ∧ K r.toInt)) (sPost D dA wM ad (wA wM ad S sz)) (wA wM ad S sz)) 0 0 (wA wM ad S sz) := by
  refine Met.ofW (cc := cX2_isBone) (maxL := 2) (ret := (Option.some Jvm.ClassFile.FieldType.boolean)) (by decide) rfl ?_
  intro p e s m args below meth c s₁ B hml hv
  obtain ⟨rfl, hsz, hK, hC⟩ := hv
  have hx := B.exec
  have hb := B.bytes
  have hr := B.returns
  have hlocks := B.notSynchronized
  have hts := atoms_spec (ws := (ws_ yX2_isBone cX2_isBone 2 (Option.some Jvm.ClassFile.FieldType.boolean))) B.pre
  have hts : ∀ w ∈ lw_all, w.before _ s = true := fun w h => hts w (List.mem_cons_of_mem _ h)
  have hown : s.vm.findClass RX2 = some m.cls := findClass_of_methodNamed B.named
  clear B
  subst hsz
  have hI : sI D dA wM ad (wA wM ad S s.heap.size) s.heap S s.heap [] := hC.start
  clear hC
  generalize wA wM ad S s.heap.size = A at hI ⊢
  have hl := lv_entry ([.ref (ad 17), iV x1] : List Value) (n := 2) (Nat.le_of_ble_eq_true rfl)
  rw [lg_entry_eq]
  generalize (lg_sl ([.ref (ad 17), iV x1] : List Value) ++ List.replicate (2 - (lg_sl ([.ref (ad 17), iV x1] : List Value)).length) Slot.unset).toArray = ls at hl ⊢
  have hl : lv_has ls 2 [(0, .ref (ad 17)), (1, iV x1)] := hl
  have hF : CallFix p m c cX2_isBone 2 s _ lw_all RX2 := ⟨hx, hb, hml, hown, hts⟩
  have hR : (headSpec (ws_ yX2_isBone cX2_isBone 2 (Option.some Jvm.ClassFile.FieldType.boolean)) (rmD 1 0 0)).room.frames = 1 + 1 ∧ (headSpec (ws_ yX2_isBone cX2_isBone 2 (Option.some Jvm.ClassFile.FieldType.boolean)) (rmD 1 0 0)).room.locals = 64 * 1 + 64 := ⟨rfl, rfl⟩
  generalize (headSpec (ws_ yX2_isBone cX2_isBone 2 (Option.some Jvm.ClassFile.FieldType.boolean)) (rmD 1 0 0)).room = R at hR ⊢
  generalize ([.ref (ad 17), iV x1] : List Value).toArray = args at hts hF ⊢
  generalize hQ : MQ below _ _ _ _ _ _ = Q
  unfold w_M_isBone at h
  refine lv_iload_n hx hb dX2_isBone_0 rfl (lv_at hl 1 rfl) ?_
  refine nr_iconst hx hb dX2_isBone_1 ?_
  refine lv_aload_n hx hb dX2_isBone_2 rfl (lv_at hl 0 rfl) ?_
  refine gMX2_7_17 hF hK hI dX2_isBone_3 ?_
  refine nr_iconst hx hb dX2_isBone_6 ?_
  refine s_iald hx hb hK hI 0 (by decide) wM_0 (by decide) (by decide) dX2_isBone_7 (fun f1 => ?_)
  replace h := h f1
  refine nr_iconst hx hb dX2_isBone_8 ?_
  have f2 := h.1; replace h := h.2
  refine nr_isub hx hb dX2_isBone_9 ?_
  refine cMX2_75 hF hK hI hl.1 hR (by decide) (Nat.le_of_ble_eq_true rfl) ⟨Nat.zero_le _, Nat.zero_le _⟩ rx1 (by decide) f2 h dX2_isBone_10 (fun r3 H locs fr3 h hI => ?_)
  replace h := h fr3
  have gr3 : InR r3 := kdP_R (k := 2) (by decide) fr3
  rw [← hQ]; exact s_zret (K := fun r S' => S' = S ∧ K r) hx hb hr hlocks hI fr3 ⟨rfl, h⟩ dX2_isBone_13
set_option maxHeartbeats 4000000 in
theorem t_M_keep (l : Launch) (D : va_G) (dA : Nat → ClassId) (ad : Nat → Nat) (S : St) (sz : Nat) (K : St → Prop) (h : w_M_keep S K) : Met l yX2_keep (ws_ yX2_keep cX2_keep 4 (Option.none : Option Jvm.ClassFile.FieldType)) (rmD 1 0 0) (va_Pc [.ref (ad 17)] (sPre D dA wM ad S sz)) (va_Qv (fun S' => K S') (sPost D dA wM ad (wA wM ad S sz)) (wA wM ad S sz)) 0 0 (wA wM ad S sz) := by
  refine Met.ofW (cc := cX2_keep) (maxL := 4) (ret := (Option.none : Option Jvm.ClassFile.FieldType)) (by decide) rfl ?_
  intro p e s m args below meth c s₁ B hml hv
  obtain ⟨rfl, hsz, hK, hC⟩ := hv
  have hx := B.exec
  have hb := B.bytes
  have hr := B.returns
  have hlocks := B.notSynchronized
  have hts := atoms_spec (ws := (ws_ yX2_keep cX2_keep 4 (Option.none : Option Jvm.ClassFile.FieldType))) B.pre
  have hts : ∀ w ∈ lw_all, w.before _ s = true := fun w h => hts w (List.mem_cons_of_mem _ h)
  have hown : s.vm.findClass RX2 = some m.cls := findClass_of_methodNamed B.named
  clear B
  subst hsz
  have hI : sI D dA wM ad (wA wM ad S s.heap.size) s.heap S s.heap [] := hC.start
  clear hC
  generalize wA wM ad S s.heap.size = A at hI ⊢
  have hl := lv_entry ([.ref (ad 17)] : List Value) (n := 4) (Nat.le_of_ble_eq_true rfl)
  rw [lg_entry_eq]
  generalize (lg_sl ([.ref (ad 17)] : List Value) ++ List.replicate (4 - (lg_sl ([.ref (ad 17)] : List Value)).length) Slot.unset).toArray = ls at hl ⊢
  have hl : lv_has ls 4 [(0, .ref (ad 17))] := hl
  have hF : CallFix p m c cX2_keep 4 s _ lw_all RX2 := ⟨hx, hb, hml, hown, hts⟩
  have hR : (headSpec (ws_ yX2_keep cX2_keep 4 (Option.none : Option Jvm.ClassFile.FieldType)) (rmD 1 0 0)).room.frames = 1 + 1 ∧ (headSpec (ws_ yX2_keep cX2_keep 4 (Option.none : Option Jvm.ClassFile.FieldType)) (rmD 1 0 0)).room.locals = 64 * 1 + 64 := ⟨rfl, rfl⟩
  generalize (headSpec (ws_ yX2_keep cX2_keep 4 (Option.none : Option Jvm.ClassFile.FieldType)) (rmD 1 0 0)).room = R at hR ⊢
  generalize ([.ref (ad 17)] : List Value).toArray = args at hts hF ⊢
  generalize hQ : MQ below _ _ _ _ _ _ = Q
  have J150 : ∀ (S : St) (H : Heap) (locs : List Loc) (ls : Array Slot), sI D dA wM ad A s.heap S H locs → lv_has ls 4 [(0, .ref (ad 17))] → j_M_keep_150 S K → W p l e R s m args below meth c H locs 0 0 Q (F0 m 150 ls []) := by
    intro S H locs ls hI hl h
    unfold j_M_keep_150 at h
    refine lv_aload_n hx hb dX2_keep_150 rfl (lv_at hl 0 rfl) ?_
    refine gMX2_7_17 hF hK hI dX2_keep_151 ?_
    refine nr_iconst hx hb dX2_keep_154 ?_
    refine lv_dup2_11 hx hb dX2_keep_155 rfl rfl ?_
    refine s_iald hx hb hK hI 0 (by decide) wM_0 (by decide) (by decide) dX2_keep_156 (fun f1 => ?_)
    replace h := h f1
    refine nr_iconst hx hb dX2_keep_157 ?_
    have f2 := h.1; replace h := h.2
    refine nr_iadd hx hb dX2_keep_158 ?_
    refine s_iast hx hb hK hI 0 (by decide) wM_0 (by decide) (by decide) f2 dX2_keep_159 (fun S3 H locs eS3 hI => ?_)
    replace h := h S3 eS3
    rw [← hQ]; exact s_vret (K := K) hx hb hr hlocks hI  h dX2_keep_160
  have L98 : ∀ (x1 : Int), InR x1 → ∀ (n98 : Nat) (x2 : Int) (S : St) (H : Heap) (locs : List Loc) (ls : Array Slot), InR x2 → sI D dA wM ad A s.heap S H locs → lv_has ls 4 [(0, .ref (ad 17)), (1, iV x1), (2, iV x2)] → l_M_keep_98 x1 K (fun (zS : St) => j_M_keep_150 zS K) n98 x2 S → W p l e R s m args below meth c H locs 0 0 Q (F0 m 98 ls []) := by
    intro x1 rx1 n98
    induction n98 with
    | zero => intro x2 S H locs ls rx2 hI hl h; exact False.elim h
    | succ n98 ih98 =>
      intro x2 S H locs ls rx2 hI hl h
      have J144 : ∀ (x2 : Int) (S : St) (H : Heap) (locs : List Loc) (ls : Array Slot), InR x2 → sI D dA wM ad A s.heap S H locs → lv_has ls 4 [(0, .ref (ad 17)), (1, iV x1), (2, iV x2)] → j_M_keep_144 x1 x2 S K (fun (zS : St) => j_M_keep_150 zS K) (l_M_keep_98 x1 K (fun (zS : St) => j_M_keep_150 zS K) n98) → W p l e R s m args below meth c H locs 0 0 Q (F0 m 144 ls []) := by
        intro x2 S H locs ls rx2 hI hl h
        unfold j_M_keep_144 at h
        have f4 := h.1; replace h := h.2
        refine nr_iinc (lv' := [(2, iV (x2 + 1)), (0, .ref (ad 17)), (1, iV x1)]) hx hb dX2_keep_144 hl (k := 2) rfl (by decide) rfl (fun ls hl => ?_)
        refine lv_goto (tgt := 98) hx hb dX2_keep_147 (by decide) ?_
        exact ih98 (x2 + 1) S _ _ _ f4 hI (lv_sub hl [1, 2, 0] rfl) h
      have L106 : ∀ (x2 : Int), InR x2 → ∀ (n106 : Nat) (x3 : Int) (S : St) (H : Heap) (locs : List Loc) (ls : Array Slot), InR x3 → sI D dA wM ad A s.heap S H locs → lv_has ls 4 [(0, .ref (ad 17)), (1, iV x1), (2, iV x2), (3, iV x3)] → l_M_keep_106 x1 x2 K (fun (zS : St) => j_M_keep_144 x1 x2 zS K (fun (zS : St) => j_M_keep_150 zS K) (l_M_keep_98 x1 K (fun (zS : St) => j_M_keep_150 zS K) n98)) n106 x3 S → W p l e R s m args below meth c H locs 0 0 Q (F0 m 106 ls []) := by
        intro x2 rx2 n106
        induction n106 with
        | zero => intro x3 S H locs ls rx3 hI hl h; exact False.elim h
        | succ n106 ih106 =>
          intro x3 S H locs ls rx3 hI hl h
          unfold l_M_keep_106 at h
          refine lv_iload_n hx hb dX2_keep_106 rfl (lv_at hl 3 rfl) ?_
          refine nr_iconst hx hb dX2_keep_107 ?_
          refine nr_icmp_ge hx hb rx3 (by decide) dX2_keep_108 (tgt := 144) (by decide) (fun c5 => ?_) (fun c5 => ?_)
          · replace h := h.1 c5
            exact J144 x2 S _ _ _ rx2 hI (lv_sub hl [0, 1, 2] rfl) h
          · replace h := h.2 c5
            refine lv_aload_n hx hb dX2_keep_111 rfl (lv_at hl 0 rfl) ?_
            refine gMX2_7_17 hF hK hI dX2_keep_112 ?_
            refine lv_iload_n hx hb dX2_keep_115 rfl (lv_at hl 1 rfl) ?_
            refine nr_iconst hx hb dX2_keep_116 ?_
            have f6 := h.1; replace h := h.2
            refine nr_iadd hx hb dX2_keep_117 ?_
            refine nr_iconst hx hb dX2_keep_118 ?_
            refine lv_iload_n hx hb dX2_keep_119 rfl (lv_at hl 2 rfl) ?_
            have f7 := h.1; replace h := h.2
            refine nr_imul hx hb dX2_keep_120 ?_
            have f8 := h.1; replace h := h.2
            refine nr_iadd hx hb dX2_keep_121 ?_
            refine lv_iload_n hx hb dX2_keep_122 rfl (lv_at hl 3 rfl) ?_
            have f9 := h.1; replace h := h.2
            refine nr_iadd hx hb dX2_keep_123 ?_
            refine lv_aload_n hx hb dX2_keep_124 rfl (lv_at hl 0 rfl) ?_
            refine gMX2_7_17 hF hK hI dX2_keep_125 ?_
            refine lv_iload_n hx hb dX2_keep_128 rfl (lv_at hl 2 rfl) ?_
            refine cMX2_87 hF hK hI hl.1 hR (by decide) (Nat.le_of_ble_eq_true rfl) ⟨Nat.zero_le _, Nat.zero_le _⟩ rx2 h dX2_keep_129 (fun r10 H locs fr10 h hI => ?_)
            replace h := h fr10
            refine nr_iconst hx hb dX2_keep_132 ?_
            have f12 := h.1; replace h := h.2
            refine nr_iadd hx hb dX2_keep_133 ?_
            refine lv_iload_n hx hb dX2_keep_134 rfl (lv_at hl 3 rfl) ?_
            have f13 := h.1; replace h := h.2
            refine nr_iadd hx hb dX2_keep_135 ?_
            have f14 := h.1; replace h := h.2
            refine s_iald hx hb hK hI 0 (by decide) wM_0 f13 f14 dX2_keep_136 (fun f15 => ?_)
            replace h := h f15
            have f16 := h.1; replace h := h.2
            refine s_iast hx hb hK hI 0 (by decide) wM_0 f9 f16 f15 dX2_keep_137 (fun S17 H locs eS17 hI => ?_)
            replace h := h S17 eS17
            have f18 := h.1; replace h := h.2
            refine nr_iinc (lv' := [(3, iV (x3 + 1)), (0, .ref (ad 17)), (1, iV x1), (2, iV x2)]) hx hb dX2_keep_138 hl (k := 3) rfl (by decide) rfl (fun ls hl => ?_)
            refine lv_goto (tgt := 106) hx hb dX2_keep_141 (by decide) ?_
            exact ih106 (x3 + 1) S17 _ _ _ f18 hI (lv_sub hl [1, 2, 3, 0] rfl) h
      unfold l_M_keep_98 at h
      refine lv_iload_n hx hb dX2_keep_98 rfl (lv_at hl 2 rfl) ?_
      refine nr_bipush hx hb dX2_keep_99 (by decide) ?_
      refine nr_icmp_ge hx hb rx2 (by decide) dX2_keep_101 (tgt := 150) (by decide) (fun c19 => ?_) (fun c19 => ?_)
      · replace h := h.1 c19
        exact J150 S _ _ _ hI (lv_sub hl [0] rfl) h
      · replace h := h.2 c19
        refine nr_iconst hx hb dX2_keep_104 ?_
        refine lv_istore_n (lv' := [(3, iV 0), (0, .ref (ad 17)), (1, iV x1), (2, iV x2)]) hx hb dX2_keep_105 rfl hl (by decide) rfl (fun ls hl => ?_)
        obtain ⟨n0, h⟩ := h
        exact L106 x2 rx2 n0 0 S _ _ _ (by decide) hI (lv_sub hl [1, 2, 3, 0] rfl) h
  have J56 : ∀ (S : St) (H : Heap) (locs : List Loc) (ls : Array Slot), sI D dA wM ad A s.heap S H locs → lv_has ls 4 [(0, .ref (ad 17))] → j_M_keep_56 S K → W p l e R s m args below meth c H locs 0 0 Q (F0 m 56 ls []) := by
    intro S H locs ls hI hl h
    unfold j_M_keep_56 at h
    refine nr_sipush hx hb dX2_keep_56 (by decide) ?_
    refine nr_bipush hx hb dX2_keep_59 (by decide) ?_
    refine lv_aload_n hx hb dX2_keep_61 rfl (lv_at hl 0 rfl) ?_
    refine gMX2_7_17 hF hK hI dX2_keep_62 ?_
    refine nr_iconst hx hb dX2_keep_65 ?_
    refine s_iald hx hb hK hI 0 (by decide) wM_0 (by decide) (by decide) dX2_keep_66 (fun f20 => ?_)
    replace h := h f20
    have f21 := h.1; replace h := h.2
    refine nr_imul hx hb dX2_keep_67 ?_
    have f22 := h.1; replace h := h.2
    refine nr_iadd hx hb dX2_keep_68 ?_
    refine nr_topi (fun v23 ev23 => ?_)
    have rv23 : InR v23 := by rw [ev23]; exact f22
    replace h := h v23 ev23 rv23
    refine lv_istore_n (lv' := [(1, iV v23), (0, .ref (ad 17))]) hx hb dX2_keep_69 rfl hl (by decide) rfl (fun ls hl => ?_)
    refine lv_aload_n hx hb dX2_keep_70 rfl (lv_at hl 1 rfl) ?_
    refine gMX2_7_17 hF hK hI dX2_keep_71 ?_
    refine lv_iload_n hx hb dX2_keep_74 rfl (lv_at hl 0 rfl) ?_
    refine lv_aload_n hx hb dX2_keep_75 rfl (lv_at hl 1 rfl) ?_
    refine gMX2_7_17 hF hK hI dX2_keep_76 ?_
    refine nr_iconst hx hb dX2_keep_79 ?_
    refine s_iald hx hb hK hI 0 (by decide) wM_0 (by decide) (by decide) dX2_keep_80 (fun f24 => ?_)
    replace h := h f24
    have f25 := h.1; replace h := h.2
    refine s_iast hx hb hK hI 0 (by decide) wM_0 rv23 f25 f24 dX2_keep_81 (fun S26 H locs eS26 hI => ?_)
    replace h := h S26 eS26
    refine lv_aload_n hx hb dX2_keep_82 rfl (lv_at hl 1 rfl) ?_
    refine gMX2_7_17 hF hK hI dX2_keep_83 ?_
    refine lv_iload_n hx hb dX2_keep_86 rfl (lv_at hl 0 rfl) ?_
    refine nr_iconst hx hb dX2_keep_87 ?_
    have f27 := h.1; replace h := h.2
    refine nr_iadd hx hb dX2_keep_88 ?_
    refine lv_aload_n hx hb dX2_keep_89 rfl (lv_at hl 1 rfl) ?_
    refine gMX2_7_17 hF hK hI dX2_keep_90 ?_
    refine nr_iconst hx hb dX2_keep_93 ?_
    refine s_iald hx hb hK hI 0 (by decide) wM_0 (by decide) (by decide) dX2_keep_94 (fun f28 => ?_)
    replace h := h f28
    have f29 := h.1; replace h := h.2
    refine s_iast hx hb hK hI 0 (by decide) wM_0 f27 f29 f28 dX2_keep_95 (fun S30 H locs eS30 hI => ?_)
    replace h := h S30 eS30
    refine nr_iconst hx hb dX2_keep_96 ?_
    refine lv_istore_n (lv' := [(2, iV 0), (1, iV v23), (0, .ref (ad 17))]) hx hb dX2_keep_97 rfl hl (by decide) rfl (fun ls hl => ?_)
    obtain ⟨n0, h⟩ := h
    exact L98 v23 rv23 n0 0 S30 _ _ _ (by decide) hI (lv_sub hl [2, 1, 0] rfl) h
  have J46 : ∀ (S : St) (H : Heap) (locs : List Loc) (ls : Array Slot), sI D dA wM ad A s.heap S H locs → lv_has ls 4 [(0, .ref (ad 17))] → j_M_keep_46 S K → W p l e R s m args below meth c H locs 0 0 Q (F0 m 46 ls []) := by
    intro S H locs ls hI hl h
    unfold j_M_keep_46 at h
    refine lv_aload_n hx hb dX2_keep_46 rfl (lv_at hl 0 rfl) ?_
    refine gMX2_7_17 hF hK hI dX2_keep_47 ?_
    refine nr_iconst hx hb dX2_keep_50 ?_
    refine lv_dup2_11 hx hb dX2_keep_51 rfl rfl ?_
    refine s_iald hx hb hK hI 0 (by decide) wM_0 (by decide) (by decide) dX2_keep_52 (fun f31 => ?_)
    replace h := h f31
    refine nr_iconst hx hb dX2_keep_53 ?_
    have f32 := h.1; replace h := h.2
    refine nr_isub hx hb dX2_keep_54 ?_
    refine s_iast hx hb hK hI 0 (by decide) wM_0 (by decide) (by decide) f32 dX2_keep_55 (fun S33 H locs eS33 hI => ?_)
    replace h := h S33 eS33
    exact J56 S33 _ _ _ hI (lv_sub hl [0] rfl) h
  have L13 : ∀ (n13 : Nat) (x1 : Int) (S : St) (H : Heap) (locs : List Loc) (ls : Array Slot), InR x1 → sI D dA wM ad A s.heap S H locs → lv_has ls 4 [(0, .ref (ad 17)), (1, iV x1)] → l_M_keep_13 K (fun (zS : St) => j_M_keep_46 zS K) n13 x1 S → W p l e R s m args below meth c H locs 0 0 Q (F0 m 13 ls []) := by
    intro n13
    induction n13 with
    | zero => intro x1 S H locs ls rx1 hI hl h; exact False.elim h
    | succ n13 ih13 =>
      intro x1 S H locs ls rx1 hI hl h
      unfold l_M_keep_13 at h
      refine lv_iload_n hx hb dX2_keep_13 rfl (lv_at hl 1 rfl) ?_
      refine nr_sipush hx hb dX2_keep_14 (by decide) ?_
      refine nr_icmp_ge hx hb rx1 (by decide) dX2_keep_17 (tgt := 46) (by decide) (fun c34 => ?_) (fun c34 => ?_)
      · replace h := h.1 c34
        exact J46 S _ _ _ hI (lv_sub hl [0] rfl) h
      · replace h := h.2 c34
        refine lv_aload_n hx hb dX2_keep_20 rfl (lv_at hl 0 rfl) ?_
        refine gMX2_7_17 hF hK hI dX2_keep_21 ?_
        refine nr_sipush hx hb dX2_keep_24 (by decide) ?_
        refine lv_iload_n hx hb dX2_keep_27 rfl (lv_at hl 1 rfl) ?_
        have f35 := h.1; replace h := h.2
        refine nr_iadd hx hb dX2_keep_28 ?_
        refine lv_aload_n hx hb dX2_keep_29 rfl (lv_at hl 0 rfl) ?_
        refine gMX2_7_17 hF hK hI dX2_keep_30 ?_
        refine nr_sipush hx hb dX2_keep_33 (by decide) ?_
        refine lv_iload_n hx hb dX2_keep_36 rfl (lv_at hl 1 rfl) ?_
        have f36 := h.1; replace h := h.2
        refine nr_iadd hx hb dX2_keep_37 ?_
        have f37 := h.1; replace h := h.2
        refine s_iald hx hb hK hI 0 (by decide) wM_0 f36 f37 dX2_keep_38 (fun f38 => ?_)
        replace h := h f38
        have f39 := h.1; replace h := h.2
        refine s_iast hx hb hK hI 0 (by decide) wM_0 f35 f39 f38 dX2_keep_39 (fun S40 H locs eS40 hI => ?_)
        replace h := h S40 eS40
        have f41 := h.1; replace h := h.2
        refine nr_iinc (lv' := [(1, iV (x1 + 1)), (0, .ref (ad 17))]) hx hb dX2_keep_40 hl (k := 1) rfl (by decide) rfl (fun ls hl => ?_)
        refine lv_goto (tgt := 13) hx hb dX2_keep_43 (by decide) ?_
        exact ih13 (x1 + 1) S40 _ _ _ f41 hI (lv_sub hl [1, 0] rfl) h
  unfold w_M_keep at h
  refine lv_aload_n hx hb dX2_keep_0 rfl (lv_at hl 0 rfl) ?_
  refine gMX2_7_17 hF hK hI dX2_keep_1 ?_
  refine nr_iconst hx hb dX2_keep_4 ?_
  refine s_iald hx hb hK hI 0 (by decide) wM_0 (by decide) (by decide) dX2_keep_5 (fun f42 => ?_)
  replace h := h f42
  refine nr_bipush hx hb dX2_keep_6 (by decide) ?_
  refine nr_icmp_ne hx hb f42 (by decide) dX2_keep_8 (tgt := 56) (by decide) (fun c43 => ?_) (fun c43 => ?_)
  · replace h := h.1 c43
    exact J56 S _ _ _ hI (lv_sub hl [0] rfl) h
  · replace h := h.2 c43
    refine nr_iconst hx hb dX2_keep_11 ?_
    refine lv_istore_n (lv' := [(1, iV 0), (0, .ref (ad 17))]) hx hb dX2_keep_12 rfl hl (by decide) rfl (fun ls hl => ?_)
    obtain ⟨n0, h⟩ := h
    exact L13 n0 0 S _ _ _ (by decide) hI (lv_sub hl [1, 0] rfl) h
theorem cMX2_91 {p : Program} {l : Launch} {e : Env} {R : Room} {s : State} {m : MethodId} {args : Array Value} {below : List Frame} {meth : Method} {c : Code} {H : Heap} {locs : List Loc} {Q : State → Prop} {cc : ByteArray} {nL pc : Nat} {ls : Array Slot} {rest : List Value} {cells slots : Nat} {D : va_G} {dA : Nat → ClassId} {ad : Nat → Nat} {A : Nat → Prop} {H0 : Heap} {S : St} {dk : Nat} (hF : CallFix p m c cc nL s args lw_all RX2) (hK : gK D dA s) (hI : sI D dA wM ad A H0 S H locs) (hls : ls.size = nL) (hR : R.frames = dk + 1 ∧ R.locals = 64 * dk + 64) (hd : 1 + 1 ≤ dk) (hW : (rest.map fun v => v.category).sum ≤ 8) (hf : cells ≤ R.cells ∧ slots ≤ R.slots) {x1 : Int} {K : Int → Prop} (r1 : InR x1) (h : w_M_isBone x1 S K) (hdg : decode cc pc = .ok (.invokevirtual 91, 3)) (kk : ∀ (r : Int) (H1 : Heap) (locs1 : List Loc), (r = 0 ∨ r = 1) → K r → sI D dA wM ad A H0 S H1 locs1 → W p l e R s m args below meth c H1 locs1 cells slots Q (F0 m (pc + 3) ls (iV r :: rest))) : W p l e R s m args below meth c H locs cells slots Q (F0 m (pc) ls (iV x1 :: .ref (ad 17) :: rest)) := s_callVz (As := [iV x1]) (rest := rest) (K := fun r S' => S' = S ∧ K r) hF (t_M_isBone l D dA ad S H.size x1 K r1 h) (s_recv hK hI 17 (by decide) wM_17 rfl) (cwV 1 hF.2.2.2.2 (lw_V q1296 q1298 qs50 q109 q1299) rfl rfl rfl (by decide +kernel) ⟨by have h1 := hR.1; have h2 : (rmD 1 0 0).frames = 1 + 1 := rfl; omega, by have h1 := hR.2; have h2 : (rmD 1 0 0).locals = 64 * 1 + 64 := rfl; omega⟩) hK hI rfl hls rfl hW hdg hf (fun r S1 H1 locs1 f hk hI1 => by obtain ⟨rfl, hk⟩ := hk; exact kk r H1 locs1 f hk hI1)
theorem cMX2_94 {p : Program} {l : Launch} {e : Env} {R : Room} {s : State} {m : MethodId} {args : Array Value} {below : List Frame} {meth : Method} {c : Code} {H : Heap} {locs : List Loc} {Q : State → Prop} {cc : ByteArray} {nL pc : Nat} {ls : Array Slot} {rest : List Value} {cells slots : Nat} {D : va_G} {dA : Nat → ClassId} {ad : Nat → Nat} {A : Nat → Prop} {H0 : Heap} {S : St} {dk : Nat} (hF : CallFix p m c cc nL s args lw_all RX2) (hK : gK D dA s) (hI : sI D dA wM ad A H0 S H locs) (hls : ls.size = nL) (hR : R.frames = dk + 1 ∧ R.locals = 64 * dk + 64) (hd : 1 + 1 ≤ dk) (hW : (rest.map fun v => v.category).sum ≤ 8) (hf : cells ≤ R.cells ∧ slots ≤ R.slots) {K : St → Prop} (h : w_M_keep S K) (hdg : decode cc pc = .ok (.invokevirtual 94, 3)) (kk : ∀ (S1 : St) (H1 : Heap) (locs1 : List Loc), K S1 → sI D dA wM ad A H0 S1 H1 locs1 → W p l e R s m args below meth c H1 locs1 cells slots Q (F0 m (pc + 3) ls (rest))) : W p l e R s m args below meth c H locs cells slots Q (F0 m (pc) ls (.ref (ad 17) :: rest)) := s_callVv (As := []) (rest := rest) (K := K) hF (t_M_keep l D dA ad S H.size K h) (s_recv hK hI 17 (by decide) wM_17 rfl) (cwV 0 hF.2.2.2.2 (lw_V q1300 q1302 qs51 q109 q1303) rfl rfl rfl (by decide +kernel) ⟨by have h1 := hR.1; have h2 : (rmD 1 0 0).frames = 1 + 1 := rfl; omega, by have h1 := hR.2; have h2 : (rmD 1 0 0).locals = 64 * 1 + 64 := rfl; omega⟩) hK hI rfl hls rfl hW hdg hf kk
set_option maxHeartbeats 4000000 in
theorem t_M_prove (l : Launch) (D : va_G) (dA : Nat → ClassId) (ad : Nat → Nat) (S : St) (sz : Nat) (x1 : Int) (x2 : Int) (K : Int → St → Prop) (rx1 : InR x1) (rx2 : InR x2) (h : w_M_prove x1 x2 S K) : Met l yX2_prove (ws_ yX2_prove cX2_prove 3 (Option.some Jvm.ClassFile.FieldType.boolean)) (rmD 2 0 0) (va_Pc [.ref (ad 17), iV x1, iV x2] (sPre D dA wM ad S sz)) (va_Qi (fun r S' => (r.toInt = 0 ∨ r.toInt = 1) ∧ (K r.toInt S')) (sPost D dA wM ad (wA wM ad S sz)) (wA wM ad S sz)) 0 0 (wA wM ad S sz) := by
  refine Met.ofW (cc := cX2_prove) (maxL := 3) (ret := (Option.some Jvm.ClassFile.FieldType.boolean)) (by decide) rfl ?_
  intro p e s m args below meth c s₁ B hml hv
  obtain ⟨rfl, hsz, hK, hC⟩ := hv
  have hx := B.exec
  have hb := B.bytes
  have hr := B.returns
  have hlocks := B.notSynchronized
  have hts := atoms_spec (ws := (ws_ yX2_prove cX2_prove 3 (Option.some Jvm.ClassFile.FieldType.boolean))) B.pre
  have hts : ∀ w ∈ lw_all, w.before _ s = true := fun w h => hts w (List.mem_cons_of_mem _ h)
  have hown : s.vm.findClass RX2 = some m.cls := findClass_of_methodNamed B.named
  clear B
  subst hsz
  have hI : sI D dA wM ad (wA wM ad S s.heap.size) s.heap S s.heap [] := hC.start
  clear hC
  generalize wA wM ad S s.heap.size = A at hI ⊢
  have hl := lv_entry ([.ref (ad 17), iV x1, iV x2] : List Value) (n := 3) (Nat.le_of_ble_eq_true rfl)
  rw [lg_entry_eq]
  generalize (lg_sl ([.ref (ad 17), iV x1, iV x2] : List Value) ++ List.replicate (3 - (lg_sl ([.ref (ad 17), iV x1, iV x2] : List Value)).length) Slot.unset).toArray = ls at hl ⊢
  have hl : lv_has ls 3 [(0, .ref (ad 17)), (1, iV x1), (2, iV x2)] := hl
  have hF : CallFix p m c cX2_prove 3 s _ lw_all RX2 := ⟨hx, hb, hml, hown, hts⟩
  have hR : (headSpec (ws_ yX2_prove cX2_prove 3 (Option.some Jvm.ClassFile.FieldType.boolean)) (rmD 2 0 0)).room.frames = 2 + 1 ∧ (headSpec (ws_ yX2_prove cX2_prove 3 (Option.some Jvm.ClassFile.FieldType.boolean)) (rmD 2 0 0)).room.locals = 64 * 2 + 64 := ⟨rfl, rfl⟩
  generalize (headSpec (ws_ yX2_prove cX2_prove 3 (Option.some Jvm.ClassFile.FieldType.boolean)) (rmD 2 0 0)).room = R at hR ⊢
  generalize ([.ref (ad 17), iV x1, iV x2] : List Value).toArray = args at hts hF ⊢
  generalize hQ : MQ below _ _ _ _ _ _ = Q
  unfold w_M_prove at h
  refine lv_aload_n hx hb dX2_prove_0 rfl (lv_at hl 0 rfl) ?_
  refine lv_iload_n hx hb dX2_prove_1 rfl (lv_at hl 1 rfl) ?_
  refine cMX2_83 hF hK hI hl.1 hR (by decide) (Nat.le_of_ble_eq_true rfl) ⟨Nat.zero_le _, Nat.zero_le _⟩ rx1 h dX2_prove_2 (fun r1 H locs fr1 h hI => ?_)
  replace h := h fr1
  have gr1 : InR r1 := kdP_R (k := 2) (by decide) fr1
  refine nr_if_eq hx hb gr1 dX2_prove_5 (tgt := 35) (by decide) (fun c3 => ?_) (fun c3 => ?_)
  · replace h := h.1 c3
    refine nr_iconst hx hb dX2_prove_35 ?_
    rw [← hQ]; exact s_zret (K := K) hx hb hr hlocks hI (by decide) h dX2_prove_36
  · replace h := h.2 c3
    refine lv_aload_n hx hb dX2_prove_8 rfl (lv_at hl 0 rfl) ?_
    refine lv_iload_n hx hb dX2_prove_9 rfl (lv_at hl 2 rfl) ?_
    refine cMX2_91 hF hK hI hl.1 hR (by decide) (Nat.le_of_ble_eq_true rfl) ⟨Nat.zero_le _, Nat.zero_le _⟩ rx2 h dX2_prove_10 (fun r4 H locs fr4 h hI => ?_)
    replace h := h fr4
    have gr4 : InR r4 := kdP_R (k := 2) (by decide) fr4
    refine nr_if_eq hx hb gr4 dX2_prove_13 (tgt := 35) (by decide) (fun c6 => ?_) (fun c6 => ?_)
    · replace h := h.1 c6
      refine nr_iconst hx hb dX2_prove_35 ?_
      rw [← hQ]; exact s_zret (K := K) hx hb hr hlocks hI (by decide) h dX2_prove_36
    · replace h := h.2 c6
      refine lv_aload_n hx hb dX2_prove_16 rfl (lv_at hl 0 rfl) ?_
      refine gMX2_7_17 hF hK hI dX2_prove_17 ?_
      refine lv_iload_n hx hb dX2_prove_20 rfl (lv_at hl 2 rfl) ?_
      refine cMX2_87 hF hK hI hl.1 hR (by decide) (Nat.le_of_ble_eq_true rfl) ⟨Nat.zero_le _, Nat.zero_le _⟩ rx2 h dX2_prove_21 (fun r7 H locs fr7 h hI => ?_)
      replace h := h fr7
      refine nr_iconst hx hb dX2_prove_24 ?_
      have f9 := h.1; replace h := h.2
      refine nr_iadd hx hb dX2_prove_25 ?_
      have f10 := h.1; replace h := h.2
      refine s_iald hx hb hK hI 0 (by decide) wM_0 f9 f10 dX2_prove_26 (fun f11 => ?_)
      replace h := h f11
      refine lv_iload_n hx hb dX2_prove_27 rfl (lv_at hl 1 rfl) ?_
      have f12 := h.1; replace h := h.2
      refine nr_ishr hx hb f12 f11 dX2_prove_28 ?_
      have f13 : InR ((aI S 0 (r7 + 5)) / 2 ^ (Int.toNat x1)) := ni_shrR f11
      refine nr_iconst hx hb dX2_prove_29 ?_
      refine nr_mask hx hb 1 (by decide) (by decide) dX2_prove_30 ?_
      have f14 : InR (((aI S 0 (r7 + 5)) / 2 ^ (Int.toNat x1)) % 2) := by omega
      refine nr_iconst hx hb dX2_prove_31 ?_
      refine nr_icmp_ne hx hb f14 (by decide) dX2_prove_32 (tgt := 37) (by decide) (fun c15 => ?_) (fun c15 => ?_)
      · replace h := h.1 c15
        refine lv_aload_n hx hb dX2_prove_37 rfl (lv_at hl 0 rfl) ?_
        refine cMX2_94 hF hK hI hl.1 hR (by decide) (Nat.le_of_ble_eq_true rfl) ⟨Nat.zero_le _, Nat.zero_le _⟩ h dX2_prove_38 (fun S17 H locs h hI => ?_)
        refine lv_aload_n hx hb dX2_prove_41 rfl (lv_at hl 0 rfl) ?_
        refine gMX2_7_17 hF hK hI dX2_prove_42 ?_
        refine lv_iload_n hx hb dX2_prove_45 rfl (lv_at hl 2 rfl) ?_
        refine cMX2_87 hF hK hI hl.1 hR (by decide) (Nat.le_of_ble_eq_true rfl) ⟨Nat.zero_le _, Nat.zero_le _⟩ rx2 h dX2_prove_46 (fun r18 H locs fr18 h hI => ?_)
        replace h := h fr18
        refine nr_iconst hx hb dX2_prove_49 ?_
        have f20 := h.1; replace h := h.2
        refine nr_iadd hx hb dX2_prove_50 ?_
        refine lv_dup2_11 hx hb dX2_prove_51 rfl rfl ?_
        have f21 := h.1; replace h := h.2
        refine s_iald hx hb hK hI 0 (by decide) wM_0 f20 f21 dX2_prove_52 (fun f22 => ?_)
        replace h := h f22
        refine nr_iconst hx hb dX2_prove_53 ?_
        refine lv_iload_n hx hb dX2_prove_54 rfl (lv_at hl 1 rfl) ?_
        have f23 := h.1; replace h := h.2
        have f24 := h.1; replace h := h.2
        refine nr_ishl hx hb f23 f24 dX2_prove_55 ?_
        refine nr_ior hx hb dX2_prove_56 ?_
        have f25 := h.1; replace h := h.2
        refine s_iast hx hb hK hI 0 (by decide) wM_0 f20 f25 (iOr_R _ _) dX2_prove_57 (fun S26 H locs eS26 hI => ?_)
        replace h := h S26 eS26
        refine nr_iconst hx hb dX2_prove_58 ?_
        rw [← hQ]; exact s_zret (K := K) hx hb hr hlocks hI (by decide) h dX2_prove_59
      · replace h := h.2 c15
        refine nr_iconst hx hb dX2_prove_35 ?_
        rw [← hQ]; exact s_zret (K := K) hx hb hr hlocks hI (by decide) h dX2_prove_36
set_option maxHeartbeats 4000000 in
theorem t_M_lend (l : Launch) (D : va_G) (dA : Nat → ClassId) (ad : Nat → Nat) (S : St) (sz : Nat) (x1 : Int) (x2 : Int) (x3 : Int) (K : Int → St → Prop) (rx1 : InR x1) (rx2 : InR x2) (rx3 : InR x3) (h : w_M_lend x1 x2 x3 S K) : Met l yX2_lend (ws_ yX2_lend cX2_lend 5 (Option.some Jvm.ClassFile.FieldType.int)) (rmD 2 0 0) (va_Pc [.ref (ad 17), iV x1, iV x2, iV x3] (sPre D dA wM ad S sz)) (va_Qi (fun r S' => K r.toInt S') (sPost D dA wM ad (wA wM ad S sz)) (wA wM ad S sz)) 0 0 (wA wM ad S sz) := by
  refine Met.ofW (cc := cX2_lend) (maxL := 5) (ret := (Option.some Jvm.ClassFile.FieldType.int)) (by decide) rfl ?_
  intro p e s m args below meth c s₁ B hml hv
  obtain ⟨rfl, hsz, hK, hC⟩ := hv
  have hx := B.exec
  have hb := B.bytes
  have hr := B.returns
  have hlocks := B.notSynchronized
  have hts := atoms_spec (ws := (ws_ yX2_lend cX2_lend 5 (Option.some Jvm.ClassFile.FieldType.int))) B.pre
  have hts : ∀ w ∈ lw_all, w.before _ s = true := fun w h => hts w (List.mem_cons_of_mem _ h)
  have hown : s.vm.findClass RX2 = some m.cls := findClass_of_methodNamed B.named
  clear B
  subst hsz
  have hI : sI D dA wM ad (wA wM ad S s.heap.size) s.heap S s.heap [] := hC.start
  clear hC
  generalize wA wM ad S s.heap.size = A at hI ⊢
  have hl := lv_entry ([.ref (ad 17), iV x1, iV x2, iV x3] : List Value) (n := 5) (Nat.le_of_ble_eq_true rfl)
  rw [lg_entry_eq]
  generalize (lg_sl ([.ref (ad 17), iV x1, iV x2, iV x3] : List Value) ++ List.replicate (5 - (lg_sl ([.ref (ad 17), iV x1, iV x2, iV x3] : List Value)).length) Slot.unset).toArray = ls at hl ⊢
  have hl : lv_has ls 5 [(0, .ref (ad 17)), (1, iV x1), (2, iV x2), (3, iV x3)] := hl
  have hF : CallFix p m c cX2_lend 5 s _ lw_all RX2 := ⟨hx, hb, hml, hown, hts⟩
  have hR : (headSpec (ws_ yX2_lend cX2_lend 5 (Option.some Jvm.ClassFile.FieldType.int)) (rmD 2 0 0)).room.frames = 2 + 1 ∧ (headSpec (ws_ yX2_lend cX2_lend 5 (Option.some Jvm.ClassFile.FieldType.int)) (rmD 2 0 0)).room.locals = 64 * 2 + 64 := ⟨rfl, rfl⟩
  generalize (headSpec (ws_ yX2_lend cX2_lend 5 (Option.some Jvm.ClassFile.FieldType.int)) (rmD 2 0 0)).room = R at hR ⊢
  generalize ([.ref (ad 17), iV x1, iV x2, iV x3] : List Value).toArray = args at hts hF ⊢
  generalize hQ : MQ below _ _ _ _ _ _ = Q
  unfold w_M_lend at h
  refine lv_aload_n hx hb dX2_lend_0 rfl (lv_at hl 0 rfl) ?_
  refine lv_iload_n hx hb dX2_lend_1 rfl (lv_at hl 1 rfl) ?_
  refine cMX2_91 hF hK hI hl.1 hR (by decide) (Nat.le_of_ble_eq_true rfl) ⟨Nat.zero_le _, Nat.zero_le _⟩ rx1 h dX2_lend_2 (fun r1 H locs fr1 h hI => ?_)
  replace h := h fr1
  have gr1 : InR r1 := kdP_R (k := 2) (by decide) fr1
  refine nr_if_eq hx hb gr1 dX2_lend_5 (tgt := 40) (by decide) (fun c3 => ?_) (fun c3 => ?_)
  · replace h := h.1 c3
    refine nr_iconst hx hb dX2_lend_40 ?_
    rw [← hQ]; exact s_iret (K := K) hx hb hr hlocks hI (by decide) h dX2_lend_41
  · replace h := h.2 c3
    refine lv_aload_n hx hb dX2_lend_8 rfl (lv_at hl 0 rfl) ?_
    refine lv_iload_n hx hb dX2_lend_9 rfl (lv_at hl 2 rfl) ?_
    refine cMX2_83 hF hK hI hl.1 hR (by decide) (Nat.le_of_ble_eq_true rfl) ⟨Nat.zero_le _, Nat.zero_le _⟩ rx2 h dX2_lend_10 (fun r4 H locs fr4 h hI => ?_)
    replace h := h fr4
    have gr4 : InR r4 := kdP_R (k := 2) (by decide) fr4
    refine nr_if_eq hx hb gr4 dX2_lend_13 (tgt := 40) (by decide) (fun c6 => ?_) (fun c6 => ?_)
    · replace h := h.1 c6
      refine nr_iconst hx hb dX2_lend_40 ?_
      rw [← hQ]; exact s_iret (K := K) hx hb hr hlocks hI (by decide) h dX2_lend_41
    · replace h := h.2 c6
      refine lv_iload_n hx hb dX2_lend_16 rfl (lv_at hl 3 rfl) ?_
      refine nr_iconst hx hb dX2_lend_17 ?_
      refine nr_bipush hx hb dX2_lend_18 (by decide) ?_
      refine cMX2_75 hF hK hI hl.1 hR (by decide) (Nat.le_of_ble_eq_true rfl) ⟨Nat.zero_le _, Nat.zero_le _⟩ rx3 (by decide) (by decide) h dX2_lend_20 (fun r7 H locs fr7 h hI => ?_)
      replace h := h fr7
      have gr7 : InR r7 := kdP_R (k := 2) (by decide) fr7
      refine nr_if_eq hx hb gr7 dX2_lend_23 (tgt := 40) (by decide) (fun c9 => ?_) (fun c9 => ?_)
      · replace h := h.1 c9
        refine nr_iconst hx hb dX2_lend_40 ?_
        rw [← hQ]; exact s_iret (K := K) hx hb hr hlocks hI (by decide) h dX2_lend_41
      · replace h := h.2 c9
        refine lv_aload_n hx hb dX2_lend_26 rfl (lv_at hl 0 rfl) ?_
        refine gMX2_7_17 hF hK hI dX2_lend_27 ?_
        refine nr_iconst hx hb dX2_lend_30 ?_
        refine s_iald hx hb hK hI 0 (by decide) wM_0 (by decide) (by decide) dX2_lend_31 (fun f10 => ?_)
        replace h := h f10
        refine lv_iload_n hx hb dX2_lend_32 rfl (lv_at hl 3 rfl) ?_
        have f11 := h.1; replace h := h.2
        refine nr_iadd hx hb dX2_lend_33 ?_
        refine nr_sipush hx hb dX2_lend_34 (by decide) ?_
        refine nr_icmp_le hx hb f11 (by decide) dX2_lend_37 (tgt := 42) (by decide) (fun c12 => ?_) (fun c12 => ?_)
        · replace h := h.1 c12
          refine lv_iload_n hx hb dX2_lend_42 rfl (lv_at hl 1 rfl) ?_
          refine cMX2_87 hF hK hI hl.1 hR (by decide) (Nat.le_of_ble_eq_true rfl) ⟨Nat.zero_le _, Nat.zero_le _⟩ rx1 h dX2_lend_43 (fun r13 H locs fr13 h hI => ?_)
          replace h := h fr13
          refine lv_istore (lv' := [(4, iV r13), (0, .ref (ad 17)), (1, iV x1), (2, iV x2), (3, iV x3)]) hx hb dX2_lend_46 hl (by decide) rfl (fun ls hl => ?_)
          refine lv_aload_n hx hb dX2_lend_48 rfl (lv_at hl 1 rfl) ?_
          refine gMX2_7_17 hF hK hI dX2_lend_49 ?_
          refine lv_iload hx hb dX2_lend_52 (lv_at hl 0 rfl) ?_
          refine nr_iconst hx hb dX2_lend_54 ?_
          have f15 := h.1; replace h := h.2
          refine nr_iadd hx hb dX2_lend_55 ?_
          have f16 := h.1; replace h := h.2
          refine s_iald hx hb hK hI 0 (by decide) wM_0 f15 f16 dX2_lend_56 (fun f17 => ?_)
          replace h := h f17
          refine lv_aload_n hx hb dX2_lend_57 rfl (lv_at hl 1 rfl) ?_
          refine gMX2_7_17 hF hK hI dX2_lend_58 ?_
          refine lv_iload hx hb dX2_lend_61 (lv_at hl 0 rfl) ?_
          refine nr_iconst hx hb dX2_lend_63 ?_
          have f18 := h.1; replace h := h.2
          refine nr_iadd hx hb dX2_lend_64 ?_
          have f19 := h.1; replace h := h.2
          refine s_iald hx hb hK hI 0 (by decide) wM_0 f18 f19 dX2_lend_65 (fun f20 => ?_)
          replace h := h f20
          refine nr_icmp_ne hx hb f17 f20 dX2_lend_66 (tgt := 94) (by decide) (fun c21 => ?_) (fun c21 => ?_)
          · replace h := h.1 c21
            refine nr_iconst hx hb dX2_lend_94 ?_
            rw [← hQ]; exact s_iret (K := K) hx hb hr hlocks hI (by decide) h dX2_lend_95
          · replace h := h.2 c21
            refine lv_aload_n hx hb dX2_lend_69 rfl (lv_at hl 1 rfl) ?_
            refine gMX2_7_17 hF hK hI dX2_lend_70 ?_
            refine lv_iload hx hb dX2_lend_73 (lv_at hl 0 rfl) ?_
            refine nr_iconst hx hb dX2_lend_75 ?_
            have f22 := h.1; replace h := h.2
            refine nr_iadd hx hb dX2_lend_76 ?_
            have f23 := h.1; replace h := h.2
            refine s_iald hx hb hK hI 0 (by decide) wM_0 f22 f23 dX2_lend_77 (fun f24 => ?_)
            replace h := h f24
            refine nr_if_ge hx hb f24 dX2_lend_78 (tgt := 94) (by decide) (fun c25 => ?_) (fun c25 => ?_)
            · replace h := h.1 c25
              refine nr_iconst hx hb dX2_lend_94 ?_
              rw [← hQ]; exact s_iret (K := K) hx hb hr hlocks hI (by decide) h dX2_lend_95
            · replace h := h.2 c25
              refine lv_aload_n hx hb dX2_lend_81 rfl (lv_at hl 1 rfl) ?_
              refine gMX2_7_17 hF hK hI dX2_lend_82 ?_
              refine lv_iload hx hb dX2_lend_85 (lv_at hl 0 rfl) ?_
              refine nr_iconst hx hb dX2_lend_87 ?_
              refine nr_iadd hx hb dX2_lend_88 ?_
              have f26 := h.1; replace h := h.2
              refine s_iald hx hb hK hI 0 (by decide) wM_0 f15 f26 dX2_lend_89 (fun f27 => ?_)
              refine lv_iload_n hx hb dX2_lend_90 rfl (lv_at hl 3 rfl) ?_
              refine nr_icmp_ne hx hb f17 rx2 dX2_lend_91 (tgt := 96) (by decide) (fun c28 => ?_) (fun c28 => ?_)
              · replace h := h.1 c28
                refine lv_aload_n hx hb dX2_lend_96 rfl (lv_at hl 1 rfl) ?_
                refine cMX2_94 hF hK hI hl.1 hR (by decide) (Nat.le_of_ble_eq_true rfl) ⟨Nat.zero_le _, Nat.zero_le _⟩ h dX2_lend_97 (fun S30 H locs h hI => ?_)
                refine lv_aload_n hx hb dX2_lend_100 rfl (lv_at hl 1 rfl) ?_
                refine gMX2_7_17 hF hK hI dX2_lend_101 ?_
                refine lv_iload hx hb dX2_lend_104 (lv_at hl 0 rfl) ?_
                refine nr_iconst hx hb dX2_lend_106 ?_
                refine nr_iadd hx hb dX2_lend_107 ?_
                refine lv_iload_n hx hb dX2_lend_108 rfl (lv_at hl 3 rfl) ?_
                have f31 := h.1; replace h := h.2
                refine s_iast hx hb hK hI 0 (by decide) wM_0 f15 f31 rx2 dX2_lend_109 (fun S32 H locs eS32 hI => ?_)
                replace h := h S32 eS32
                refine lv_aload_n hx hb dX2_lend_110 rfl (lv_at hl 1 rfl) ?_
                refine gMX2_7_17 hF hK hI dX2_lend_111 ?_
                refine lv_iload hx hb dX2_lend_114 (lv_at hl 0 rfl) ?_
                refine nr_iconst hx hb dX2_lend_116 ?_
                refine nr_iadd hx hb dX2_lend_117 ?_
                refine lv_aload_n hx hb dX2_lend_118 rfl (lv_at hl 1 rfl) ?_
                refine gMX2_7_17 hF hK hI dX2_lend_119 ?_
                refine nr_iconst hx hb dX2_lend_122 ?_
                refine s_iald hx hb hK hI 0 (by decide) wM_0 (by decide) (by decide) dX2_lend_123 (fun f33 => ?_)
                replace h := h f33
                refine lv_iload_n hx hb dX2_lend_124 rfl (lv_at hl 4 rfl) ?_
                have f34 := h.1; replace h := h.2
                refine nr_iadd hx hb dX2_lend_125 ?_
                have f35 := h.1; replace h := h.2
                refine s_iast hx hb hK hI 0 (by decide) wM_0 f22 f35 f34 dX2_lend_126 (fun S36 H locs eS36 hI => ?_)
                replace h := h S36 eS36
                refine lv_aload_n hx hb dX2_lend_127 rfl (lv_at hl 1 rfl) ?_
                refine gMX2_7_17 hF hK hI dX2_lend_128 ?_
                refine lv_iload hx hb dX2_lend_131 (lv_at hl 0 rfl) ?_
                refine nr_iconst hx hb dX2_lend_133 ?_
                refine nr_iadd hx hb dX2_lend_134 ?_
                have f37 := h.1; replace h := h.2
                refine s_iald hx hb hK hI 0 (by decide) wM_0 f22 f37 dX2_lend_135 (fun f38 => ?_)
                replace h := h f38
                rw [← hQ]; exact s_iret (K := K) hx hb hr hlocks hI f38 h dX2_lend_136
              · replace h := h.2 c28
                refine nr_iconst hx hb dX2_lend_94 ?_
                rw [← hQ]; exact s_iret (K := K) hx hb hr hlocks hI (by decide) h dX2_lend_95
        · replace h := h.2 c12
          refine nr_iconst hx hb dX2_lend_40 ?_
          rw [← hQ]; exact s_iret (K := K) hx hb hr hlocks hI (by decide) h dX2_lend_41
set_option maxHeartbeats 4000000 in
theorem t_M_swap (l : Launch) (D : va_G) (dA : Nat → ClassId) (ad : Nat → Nat) (S : St) (sz : Nat) (x1 : Int) (x2 : Int) (K : Int → St → Prop) (rx1 : InR x1) (rx2 : InR x2) (h : w_M_swap x1 x2 S K) : Met l yX2_swap (ws_ yX2_swap cX2_swap 4 (Option.some Jvm.ClassFile.FieldType.boolean)) (rmD 2 0 0) (va_Pc [.ref (ad 17), iV x1, iV x2] (sPre D dA wM ad S sz)) (va_Qi (fun r S' => (r.toInt = 0 ∨ r.toInt = 1) ∧ (K r.toInt S')) (sPost D dA wM ad (wA wM ad S sz)) (wA wM ad S sz)) 0 0 (wA wM ad S sz) := by
  refine Met.ofW (cc := cX2_swap) (maxL := 4) (ret := (Option.some Jvm.ClassFile.FieldType.boolean)) (by decide) rfl ?_
  intro p e s m args below meth c s₁ B hml hv
  obtain ⟨rfl, hsz, hK, hC⟩ := hv
  have hx := B.exec
  have hb := B.bytes
  have hr := B.returns
  have hlocks := B.notSynchronized
  have hts := atoms_spec (ws := (ws_ yX2_swap cX2_swap 4 (Option.some Jvm.ClassFile.FieldType.boolean))) B.pre
  have hts : ∀ w ∈ lw_all, w.before _ s = true := fun w h => hts w (List.mem_cons_of_mem _ h)
  have hown : s.vm.findClass RX2 = some m.cls := findClass_of_methodNamed B.named
  clear B
  subst hsz
  have hI : sI D dA wM ad (wA wM ad S s.heap.size) s.heap S s.heap [] := hC.start
  clear hC
  generalize wA wM ad S s.heap.size = A at hI ⊢
  have hl := lv_entry ([.ref (ad 17), iV x1, iV x2] : List Value) (n := 4) (Nat.le_of_ble_eq_true rfl)
  rw [lg_entry_eq]
  generalize (lg_sl ([.ref (ad 17), iV x1, iV x2] : List Value) ++ List.replicate (4 - (lg_sl ([.ref (ad 17), iV x1, iV x2] : List Value)).length) Slot.unset).toArray = ls at hl ⊢
  have hl : lv_has ls 4 [(0, .ref (ad 17)), (1, iV x1), (2, iV x2)] := hl
  have hF : CallFix p m c cX2_swap 4 s _ lw_all RX2 := ⟨hx, hb, hml, hown, hts⟩
  have hR : (headSpec (ws_ yX2_swap cX2_swap 4 (Option.some Jvm.ClassFile.FieldType.boolean)) (rmD 2 0 0)).room.frames = 2 + 1 ∧ (headSpec (ws_ yX2_swap cX2_swap 4 (Option.some Jvm.ClassFile.FieldType.boolean)) (rmD 2 0 0)).room.locals = 64 * 2 + 64 := ⟨rfl, rfl⟩
  generalize (headSpec (ws_ yX2_swap cX2_swap 4 (Option.some Jvm.ClassFile.FieldType.boolean)) (rmD 2 0 0)).room = R at hR ⊢
  generalize ([.ref (ad 17), iV x1, iV x2] : List Value).toArray = args at hts hF ⊢
  generalize hQ : MQ below _ _ _ _ _ _ = Q
  unfold w_M_swap at h
  refine lv_aload_n hx hb dX2_swap_0 rfl (lv_at hl 0 rfl) ?_
  refine lv_iload_n hx hb dX2_swap_1 rfl (lv_at hl 1 rfl) ?_
  refine cMX2_91 hF hK hI hl.1 hR (by decide) (Nat.le_of_ble_eq_true rfl) ⟨Nat.zero_le _, Nat.zero_le _⟩ rx1 h dX2_swap_2 (fun r1 H locs fr1 h hI => ?_)
  replace h := h fr1
  have gr1 : InR r1 := kdP_R (k := 2) (by decide) fr1
  refine nr_if_eq hx hb gr1 dX2_swap_5 (tgt := 41) (by decide) (fun c3 => ?_) (fun c3 => ?_)
  · replace h := h.1 c3
    refine nr_iconst hx hb dX2_swap_41 ?_
    rw [← hQ]; exact s_zret (K := K) hx hb hr hlocks hI (by decide) h dX2_swap_42
  · replace h := h.2 c3
    refine lv_aload_n hx hb dX2_swap_8 rfl (lv_at hl 0 rfl) ?_
    refine lv_iload_n hx hb dX2_swap_9 rfl (lv_at hl 2 rfl) ?_
    refine cMX2_91 hF hK hI hl.1 hR (by decide) (Nat.le_of_ble_eq_true rfl) ⟨Nat.zero_le _, Nat.zero_le _⟩ rx2 h dX2_swap_10 (fun r4 H locs fr4 h hI => ?_)
    replace h := h fr4
    have gr4 : InR r4 := kdP_R (k := 2) (by decide) fr4
    refine nr_if_eq hx hb gr4 dX2_swap_13 (tgt := 41) (by decide) (fun c6 => ?_) (fun c6 => ?_)
    · replace h := h.1 c6
      refine nr_iconst hx hb dX2_swap_41 ?_
      rw [← hQ]; exact s_zret (K := K) hx hb hr hlocks hI (by decide) h dX2_swap_42
    · replace h := h.2 c6
      refine lv_aload_n hx hb dX2_swap_16 rfl (lv_at hl 0 rfl) ?_
      refine gMX2_7_17 hF hK hI dX2_swap_17 ?_
      refine lv_iload_n hx hb dX2_swap_20 rfl (lv_at hl 1 rfl) ?_
      refine cMX2_87 hF hK hI hl.1 hR (by decide) (Nat.le_of_ble_eq_true rfl) ⟨Nat.zero_le _, Nat.zero_le _⟩ rx1 h dX2_swap_21 (fun r7 H locs fr7 h hI => ?_)
      replace h := h fr7
      refine nr_iconst hx hb dX2_swap_24 ?_
      have f9 := h.1; replace h := h.2
      refine nr_iadd hx hb dX2_swap_25 ?_
      have f10 := h.1; replace h := h.2
      refine s_iald hx hb hK hI 0 (by decide) wM_0 f9 f10 dX2_swap_26 (fun f11 => ?_)
      replace h := h f11
      refine lv_aload_n hx hb dX2_swap_27 rfl (lv_at hl 0 rfl) ?_
      refine gMX2_7_17 hF hK hI dX2_swap_28 ?_
      refine lv_iload_n hx hb dX2_swap_31 rfl (lv_at hl 2 rfl) ?_
      refine cMX2_87 hF hK hI hl.1 hR (by decide) (Nat.le_of_ble_eq_true rfl) ⟨Nat.zero_le _, Nat.zero_le _⟩ rx2 h dX2_swap_32 (fun r12 H locs fr12 h hI => ?_)
      replace h := h fr12
      refine nr_iconst hx hb dX2_swap_35 ?_
      have f14 := h.1; replace h := h.2
      refine nr_iadd hx hb dX2_swap_36 ?_
      have f15 := h.1; replace h := h.2
      refine s_iald hx hb hK hI 0 (by decide) wM_0 f14 f15 dX2_swap_37 (fun f16 => ?_)
      replace h := h f16
      refine nr_icmp_ne hx hb f11 f16 dX2_swap_38 (tgt := 43) (by decide) (fun c17 => ?_) (fun c17 => ?_)
      · replace h := h.1 c17
        refine lv_aload_n hx hb dX2_swap_43 rfl (lv_at hl 0 rfl) ?_
        refine cMX2_94 hF hK hI hl.1 hR (by decide) (Nat.le_of_ble_eq_true rfl) ⟨Nat.zero_le _, Nat.zero_le _⟩ h dX2_swap_44 (fun S19 H locs h hI => ?_)
        refine lv_aload_n hx hb dX2_swap_47 rfl (lv_at hl 0 rfl) ?_
        refine gMX2_7_17 hF hK hI dX2_swap_48 ?_
        refine lv_iload_n hx hb dX2_swap_51 rfl (lv_at hl 1 rfl) ?_
        refine cMX2_87 hF hK hI hl.1 hR (by decide) (Nat.le_of_ble_eq_true rfl) ⟨Nat.zero_le _, Nat.zero_le _⟩ rx1 h dX2_swap_52 (fun r20 H locs fr20 h hI => ?_)
        replace h := h fr20
        refine nr_iconst hx hb dX2_swap_55 ?_
        have f22 := h.1; replace h := h.2
        refine nr_iadd hx hb dX2_swap_56 ?_
        have f23 := h.1; replace h := h.2
        refine s_iald hx hb hK hI 0 (by decide) wM_0 f22 f23 dX2_swap_57 (fun f24 => ?_)
        replace h := h f24
        refine nr_topi (fun v25 ev25 => ?_)
        have rv25 : InR v25 := by rw [ev25]; exact f24
        replace h := h v25 ev25 rv25
        refine lv_istore_n (lv' := [(3, iV v25), (0, .ref (ad 17)), (1, iV x1), (2, iV x2)]) hx hb dX2_swap_58 rfl hl (by decide) rfl (fun ls hl => ?_)
        refine lv_aload_n hx hb dX2_swap_59 rfl (lv_at hl 1 rfl) ?_
        refine gMX2_7_17 hF hK hI dX2_swap_60 ?_
        refine lv_iload_n hx hb dX2_swap_63 rfl (lv_at hl 2 rfl) ?_
        refine cMX2_87 hF hK hI hl.1 hR (by decide) (Nat.le_of_ble_eq_true rfl) ⟨Nat.zero_le _, Nat.zero_le _⟩ rx1 h dX2_swap_64 (fun r26 H locs fr26 h hI => ?_)
        replace h := h fr26
        refine nr_iconst hx hb dX2_swap_67 ?_
        have f28 := h.1; replace h := h.2
        refine nr_iadd hx hb dX2_swap_68 ?_
        refine lv_aload_n hx hb dX2_swap_69 rfl (lv_at hl 1 rfl) ?_
        refine gMX2_7_17 hF hK hI dX2_swap_70 ?_
        refine lv_iload_n hx hb dX2_swap_73 rfl (lv_at hl 3 rfl) ?_
        refine cMX2_87 hF hK hI hl.1 hR (by decide) (Nat.le_of_ble_eq_true rfl) ⟨Nat.zero_le _, Nat.zero_le _⟩ rx2 h dX2_swap_74 (fun r29 H locs fr29 h hI => ?_)
        replace h := h fr29
        refine nr_iconst hx hb dX2_swap_77 ?_
        have f31 := h.1; replace h := h.2
        refine nr_iadd hx hb dX2_swap_78 ?_
        have f32 := h.1; replace h := h.2
        refine s_iald hx hb hK hI 0 (by decide) wM_0 f31 f32 dX2_swap_79 (fun f33 => ?_)
        replace h := h f33
        have f34 := h.1; replace h := h.2
        refine s_iast hx hb hK hI 0 (by decide) wM_0 f28 f34 f33 dX2_swap_80 (fun S35 H locs eS35 hI => ?_)
        replace h := h S35 eS35
        refine lv_aload_n hx hb dX2_swap_81 rfl (lv_at hl 1 rfl) ?_
        refine gMX2_7_17 hF hK hI dX2_swap_82 ?_
        refine lv_iload_n hx hb dX2_swap_85 rfl (lv_at hl 3 rfl) ?_
        refine cMX2_87 hF hK hI hl.1 hR (by decide) (Nat.le_of_ble_eq_true rfl) ⟨Nat.zero_le _, Nat.zero_le _⟩ rx2 h dX2_swap_86 (fun r36 H locs fr36 h hI => ?_)
        replace h := h fr36
        refine nr_iconst hx hb dX2_swap_89 ?_
        have f38 := h.1; replace h := h.2
        refine nr_iadd hx hb dX2_swap_90 ?_
        refine lv_iload_n hx hb dX2_swap_91 rfl (lv_at hl 0 rfl) ?_
        have f39 := h.1; replace h := h.2
        refine s_iast hx hb hK hI 0 (by decide) wM_0 f38 f39 rv25 dX2_swap_92 (fun S40 H locs eS40 hI => ?_)
        replace h := h S40 eS40
        refine nr_iconst hx hb dX2_swap_93 ?_
        rw [← hQ]; exact s_zret (K := K) hx hb hr hlocks hI (by decide) h dX2_swap_94
      · replace h := h.2 c17
        refine nr_iconst hx hb dX2_swap_41 ?_
        rw [← hQ]; exact s_zret (K := K) hx hb hr hlocks hI (by decide) h dX2_swap_42
set_option maxHeartbeats 4000000 in
theorem t_M_steal (l : Launch) (D : va_G) (dA : Nat → ClassId) (ad : Nat → Nat) (S : St) (sz : Nat) (x1 : Int) (x2 : Int) (K : Int → St → Prop) (rx1 : InR x1) (rx2 : InR x2) (h : w_M_steal x1 x2 S K) : Met l yX2_steal (ws_ yX2_steal cX2_steal 4 (Option.some Jvm.ClassFile.FieldType.boolean)) (rmD 2 0 0) (va_Pc [.ref (ad 17), iV x1, iV x2] (sPre D dA wM ad S sz)) (va_Qi (fun r S' => (r.toInt = 0 ∨ r.toInt = 1) ∧ (K r.toInt S')) (sPost D dA wM ad (wA wM ad S sz)) (wA wM ad S sz)) 0 0 (wA wM ad S sz) := by
  refine Met.ofW (cc := cX2_steal) (maxL := 4) (ret := (Option.some Jvm.ClassFile.FieldType.boolean)) (by decide) rfl ?_
  intro p e s m args below meth c s₁ B hml hv
  obtain ⟨rfl, hsz, hK, hC⟩ := hv
  have hx := B.exec
  have hb := B.bytes
  have hr := B.returns
  have hlocks := B.notSynchronized
  have hts := atoms_spec (ws := (ws_ yX2_steal cX2_steal 4 (Option.some Jvm.ClassFile.FieldType.boolean))) B.pre
  have hts : ∀ w ∈ lw_all, w.before _ s = true := fun w h => hts w (List.mem_cons_of_mem _ h)
  have hown : s.vm.findClass RX2 = some m.cls := findClass_of_methodNamed B.named
  clear B
  subst hsz
  have hI : sI D dA wM ad (wA wM ad S s.heap.size) s.heap S s.heap [] := hC.start
  clear hC
  generalize wA wM ad S s.heap.size = A at hI ⊢
  have hl := lv_entry ([.ref (ad 17), iV x1, iV x2] : List Value) (n := 4) (Nat.le_of_ble_eq_true rfl)
  rw [lg_entry_eq]
  generalize (lg_sl ([.ref (ad 17), iV x1, iV x2] : List Value) ++ List.replicate (4 - (lg_sl ([.ref (ad 17), iV x1, iV x2] : List Value)).length) Slot.unset).toArray = ls at hl ⊢
  have hl : lv_has ls 4 [(0, .ref (ad 17)), (1, iV x1), (2, iV x2)] := hl
  have hF : CallFix p m c cX2_steal 4 s _ lw_all RX2 := ⟨hx, hb, hml, hown, hts⟩
  have hR : (headSpec (ws_ yX2_steal cX2_steal 4 (Option.some Jvm.ClassFile.FieldType.boolean)) (rmD 2 0 0)).room.frames = 2 + 1 ∧ (headSpec (ws_ yX2_steal cX2_steal 4 (Option.some Jvm.ClassFile.FieldType.boolean)) (rmD 2 0 0)).room.locals = 64 * 2 + 64 := ⟨rfl, rfl⟩
  generalize (headSpec (ws_ yX2_steal cX2_steal 4 (Option.some Jvm.ClassFile.FieldType.boolean)) (rmD 2 0 0)).room = R at hR ⊢
  generalize ([.ref (ad 17), iV x1, iV x2] : List Value).toArray = args at hts hF ⊢
  generalize hQ : MQ below _ _ _ _ _ _ = Q
  unfold w_M_steal at h
  refine lv_aload_n hx hb dX2_steal_0 rfl (lv_at hl 0 rfl) ?_
  refine lv_iload_n hx hb dX2_steal_1 rfl (lv_at hl 1 rfl) ?_
  refine cMX2_91 hF hK hI hl.1 hR (by decide) (Nat.le_of_ble_eq_true rfl) ⟨Nat.zero_le _, Nat.zero_le _⟩ rx1 h dX2_steal_2 (fun r1 H locs fr1 h hI => ?_)
  replace h := h fr1
  have gr1 : InR r1 := kdP_R (k := 2) (by decide) fr1
  refine nr_if_eq hx hb gr1 dX2_steal_5 (tgt := 31) (by decide) (fun c3 => ?_) (fun c3 => ?_)
  · replace h := h.1 c3
    refine nr_iconst hx hb dX2_steal_31 ?_
    rw [← hQ]; exact s_zret (K := K) hx hb hr hlocks hI (by decide) h dX2_steal_32
  · replace h := h.2 c3
    refine lv_aload_n hx hb dX2_steal_8 rfl (lv_at hl 0 rfl) ?_
    refine lv_iload_n hx hb dX2_steal_9 rfl (lv_at hl 2 rfl) ?_
    refine cMX2_83 hF hK hI hl.1 hR (by decide) (Nat.le_of_ble_eq_true rfl) ⟨Nat.zero_le _, Nat.zero_le _⟩ rx2 h dX2_steal_10 (fun r4 H locs fr4 h hI => ?_)
    replace h := h fr4
    have gr4 : InR r4 := kdP_R (k := 2) (by decide) fr4
    refine nr_if_eq hx hb gr4 dX2_steal_13 (tgt := 31) (by decide) (fun c6 => ?_) (fun c6 => ?_)
    · replace h := h.1 c6
      refine nr_iconst hx hb dX2_steal_31 ?_
      rw [← hQ]; exact s_zret (K := K) hx hb hr hlocks hI (by decide) h dX2_steal_32
    · replace h := h.2 c6
      refine lv_aload_n hx hb dX2_steal_16 rfl (lv_at hl 0 rfl) ?_
      refine gMX2_7_17 hF hK hI dX2_steal_17 ?_
      refine lv_iload_n hx hb dX2_steal_20 rfl (lv_at hl 1 rfl) ?_
      refine cMX2_87 hF hK hI hl.1 hR (by decide) (Nat.le_of_ble_eq_true rfl) ⟨Nat.zero_le _, Nat.zero_le _⟩ rx1 h dX2_steal_21 (fun r7 H locs fr7 h hI => ?_)
      replace h := h fr7
      refine nr_iconst hx hb dX2_steal_24 ?_
      have f9 := h.1; replace h := h.2
      refine nr_iadd hx hb dX2_steal_25 ?_
      have f10 := h.1; replace h := h.2
      refine s_iald hx hb hK hI 0 (by decide) wM_0 f9 f10 dX2_steal_26 (fun f11 => ?_)
      replace h := h f11
      refine lv_iload_n hx hb dX2_steal_27 rfl (lv_at hl 2 rfl) ?_
      refine nr_icmp_ne hx hb f11 rx2 dX2_steal_28 (tgt := 33) (by decide) (fun c12 => ?_) (fun c12 => ?_)
      · replace h := h.1 c12
        refine lv_aload_n hx hb dX2_steal_33 rfl (lv_at hl 0 rfl) ?_
        refine cMX2_94 hF hK hI hl.1 hR (by decide) (Nat.le_of_ble_eq_true rfl) ⟨Nat.zero_le _, Nat.zero_le _⟩ h dX2_steal_34 (fun S14 H locs h hI => ?_)
        refine lv_iload_n hx hb dX2_steal_37 rfl (lv_at hl 1 rfl) ?_
        refine cMX2_87 hF hK hI hl.1 hR (by decide) (Nat.le_of_ble_eq_true rfl) ⟨Nat.zero_le _, Nat.zero_le _⟩ rx1 h dX2_steal_38 (fun r15 H locs fr15 h hI => ?_)
        replace h := h fr15
        refine lv_istore_n (lv' := [(3, iV r15), (0, .ref (ad 17)), (1, iV x1), (2, iV x2)]) hx hb dX2_steal_41 rfl hl (by decide) rfl (fun ls hl => ?_)
        refine lv_aload_n hx hb dX2_steal_42 rfl (lv_at hl 1 rfl) ?_
        refine gMX2_7_17 hF hK hI dX2_steal_43 ?_
        refine lv_iload_n hx hb dX2_steal_46 rfl (lv_at hl 0 rfl) ?_
        refine nr_iconst hx hb dX2_steal_47 ?_
        have f17 := h.1; replace h := h.2
        refine nr_iadd hx hb dX2_steal_48 ?_
        refine lv_iload_n hx hb dX2_steal_49 rfl (lv_at hl 3 rfl) ?_
        have f18 := h.1; replace h := h.2
        refine s_iast hx hb hK hI 0 (by decide) wM_0 f17 f18 rx2 dX2_steal_50 (fun S19 H locs eS19 hI => ?_)
        replace h := h S19 eS19
        refine lv_aload_n hx hb dX2_steal_51 rfl (lv_at hl 1 rfl) ?_
        refine gMX2_7_17 hF hK hI dX2_steal_52 ?_
        refine lv_iload_n hx hb dX2_steal_55 rfl (lv_at hl 0 rfl) ?_
        refine nr_iconst hx hb dX2_steal_56 ?_
        have f20 := h.1; replace h := h.2
        refine nr_iadd hx hb dX2_steal_57 ?_
        refine lv_iload_n hx hb dX2_steal_58 rfl (lv_at hl 3 rfl) ?_
        have f21 := h.1; replace h := h.2
        refine s_iast hx hb hK hI 0 (by decide) wM_0 f20 f21 rx2 dX2_steal_59 (fun S22 H locs eS22 hI => ?_)
        replace h := h S22 eS22
        refine lv_aload_n hx hb dX2_steal_60 rfl (lv_at hl 1 rfl) ?_
        refine gMX2_7_17 hF hK hI dX2_steal_61 ?_
        refine lv_iload_n hx hb dX2_steal_64 rfl (lv_at hl 0 rfl) ?_
        refine nr_iconst hx hb dX2_steal_65 ?_
        have f23 := h.1; replace h := h.2
        refine nr_iadd hx hb dX2_steal_66 ?_
        refine nr_iconst hx hb dX2_steal_67 ?_
        have f24 := h.1; replace h := h.2
        refine s_iast hx hb hK hI 0 (by decide) wM_0 f23 f24 (show InR ((-1)) by decide) dX2_steal_68 (fun S25 H locs eS25 hI => ?_)
        replace h := h S25 eS25
        refine nr_iconst hx hb dX2_steal_69 ?_
        rw [← hQ]; exact s_zret (K := K) hx hb hr hlocks hI (by decide) h dX2_steal_70
      · replace h := h.2 c12
        refine nr_iconst hx hb dX2_steal_31 ?_
        rw [← hQ]; exact s_zret (K := K) hx hb hr hlocks hI (by decide) h dX2_steal_32
set_option maxHeartbeats 4000000 in
theorem t_M_proofsOf (l : Launch) (D : va_G) (dA : Nat → ClassId) (ad : Nat → Nat) (S : St) (sz : Nat) (x1 : Int) (K : Int → Prop) (rx1 : InR x1) (h : w_M_proofsOf x1 S K) : Met l yX2_proofsOf (ws_ yX2_proofsOf cX2_proofsOf 4 (Option.some Jvm.ClassFile.FieldType.int)) (rmD 1 0 0) (va_Pc [.ref (ad 17), iV x1] (sPre D dA wM ad S sz)) (va_Qi (fun r S' => S' = S ∧ K r.toInt) (sPost D dA wM ad (wA wM ad S sz)) (wA wM ad S sz)) 0 0 (wA wM ad S sz) := by
  refine Met.ofW (cc := cX2_proofsOf) (maxL := 4) (ret := (Option.some Jvm.ClassFile.FieldType.int)) (by decide) rfl ?_
  intro p e s m args below meth c s₁ B hml hv
  obtain ⟨rfl, hsz, hK, hC⟩ := hv
  have hx := B.exec
  have hb := B.bytes
  have hr := B.returns
  have hlocks := B.notSynchronized
  have hts := atoms_spec (ws := (ws_ yX2_proofsOf cX2_proofsOf 4 (Option.some Jvm.ClassFile.FieldType.int))) B.pre
  have hts : ∀ w ∈ lw_all, w.before _ s = true := fun w h => hts w (List.mem_cons_of_mem _ h)
  have hown : s.vm.findClass RX2 = some m.cls := findClass_of_methodNamed B.named
  clear B
  subst hsz
  have hI : sI D dA wM ad (wA wM ad S s.heap.size) s.heap S s.heap [] := hC.start
  clear hC
  generalize wA wM ad S s.heap.size = A at hI ⊢
  have hl := lv_entry ([.ref (ad 17), iV x1] : List Value) (n := 4) (Nat.le_of_ble_eq_true rfl)
  rw [lg_entry_eq]
  generalize (lg_sl ([.ref (ad 17), iV x1] : List Value) ++ List.replicate (4 - (lg_sl ([.ref (ad 17), iV x1] : List Value)).length) Slot.unset).toArray = ls at hl ⊢
  have hl : lv_has ls 4 [(0, .ref (ad 17)), (1, iV x1)] := hl
  have hF : CallFix p m c cX2_proofsOf 4 s _ lw_all RX2 := ⟨hx, hb, hml, hown, hts⟩
  have hR : (headSpec (ws_ yX2_proofsOf cX2_proofsOf 4 (Option.some Jvm.ClassFile.FieldType.int)) (rmD 1 0 0)).room.frames = 1 + 1 ∧ (headSpec (ws_ yX2_proofsOf cX2_proofsOf 4 (Option.some Jvm.ClassFile.FieldType.int)) (rmD 1 0 0)).room.locals = 64 * 1 + 64 := ⟨rfl, rfl⟩
  generalize (headSpec (ws_ yX2_proofsOf cX2_proofsOf 4 (Option.some Jvm.ClassFile.FieldType.int)) (rmD 1 0 0)).room = R at hR ⊢
  generalize ([.ref (ad 17), iV x1] : List Value).toArray = args at hts hF ⊢
  generalize hQ : MQ below _ _ _ _ _ _ = Q
  have L4 : ∀ (x1 : Int), InR x1 → ∀ (n4 : Nat) (x2 : Int) (x3 : Int) (H : Heap) (locs : List Loc) (ls : Array Slot), InR x2 → InR x3 → sI D dA wM ad A s.heap S H locs → lv_has ls 4 [(0, .ref (ad 17)), (1, iV x1), (2, iV x2), (3, iV x3)] → l_M_proofsOf_4 x1 S K n4 x2 x3 → W p l e R s m args below meth c H locs 0 0 Q (F0 m 4 ls []) := by
    intro x1 rx1 n4
    induction n4 with
    | zero => intro x2 x3 H locs ls rx2 rx3 hI hl h; exact False.elim h
    | succ n4 ih4 =>
      intro x2 x3 H locs ls rx2 rx3 hI hl h
      unfold l_M_proofsOf_4 at h
      refine lv_iload_n hx hb dX2_proofsOf_4 rfl (lv_at hl 3 rfl) ?_
      refine lv_aload_n hx hb dX2_proofsOf_5 rfl (lv_at hl 0 rfl) ?_
      refine gMX2_7_17 hF hK hI dX2_proofsOf_6 ?_
      refine nr_iconst hx hb dX2_proofsOf_9 ?_
      refine s_iald hx hb hK hI 0 (by decide) wM_0 (by decide) (by decide) dX2_proofsOf_10 (fun f1 => ?_)
      replace h := h f1
      refine nr_icmp_ge hx hb rx3 f1 dX2_proofsOf_11 (tgt := 38) (by decide) (fun c2 => ?_) (fun c2 => ?_)
      · replace h := h.1 c2
        refine lv_iload_n hx hb dX2_proofsOf_38 rfl (lv_at hl 2 rfl) ?_
        rw [← hQ]; exact s_iret (K := fun r S' => S' = S ∧ K r) hx hb hr hlocks hI rx2 ⟨rfl, h⟩ dX2_proofsOf_39
      · replace h := h.2 c2
        refine lv_iload_n hx hb dX2_proofsOf_14 rfl (lv_at hl 2 rfl) ?_
        refine lv_aload_n hx hb dX2_proofsOf_15 rfl (lv_at hl 0 rfl) ?_
        refine gMX2_7_17 hF hK hI dX2_proofsOf_16 ?_
        refine lv_iload_n hx hb dX2_proofsOf_19 rfl (lv_at hl 3 rfl) ?_
        refine cMX2_87 hF hK hI hl.1 hR (by decide) (Nat.le_of_ble_eq_true rfl) ⟨Nat.zero_le _, Nat.zero_le _⟩ rx3 h dX2_proofsOf_20 (fun r3 H locs fr3 h hI => ?_)
        replace h := h fr3
        refine nr_iconst hx hb dX2_proofsOf_23 ?_
        have f5 := h.1; replace h := h.2
        refine nr_iadd hx hb dX2_proofsOf_24 ?_
        have f6 := h.1; replace h := h.2
        refine s_iald hx hb hK hI 0 (by decide) wM_0 f5 f6 dX2_proofsOf_25 (fun f7 => ?_)
        replace h := h f7
        refine lv_iload_n hx hb dX2_proofsOf_26 rfl (lv_at hl 1 rfl) ?_
        have f8 := h.1; replace h := h.2
        refine nr_ishr hx hb f8 f7 dX2_proofsOf_27 ?_
        have f9 : InR ((aI S 0 (r3 + 5)) / 2 ^ (Int.toNat x1)) := ni_shrR f7
        refine nr_iconst hx hb dX2_proofsOf_28 ?_
        refine nr_mask hx hb 1 (by decide) (by decide) dX2_proofsOf_29 ?_
        have f10 : InR (((aI S 0 (r3 + 5)) / 2 ^ (Int.toNat x1)) % 2) := by omega
        have f11 := h.1; replace h := h.2
        refine nr_iadd hx hb dX2_proofsOf_30 ?_
        refine nr_topi (fun v12 ev12 => ?_)
        have rv12 : InR v12 := by rw [ev12]; exact f11
        replace h := h v12 ev12 rv12
        refine lv_istore_n (lv' := [(2, iV v12), (0, .ref (ad 17)), (1, iV x1), (3, iV x3)]) hx hb dX2_proofsOf_31 rfl hl (by decide) rfl (fun ls hl => ?_)
        have f13 := h.1; replace h := h.2
        refine nr_iinc (lv' := [(3, iV (x3 + 1)), (2, iV v12), (0, .ref (ad 17)), (1, iV x1)]) hx hb dX2_proofsOf_32 hl (k := 3) rfl (by decide) rfl (fun ls hl => ?_)
        refine lv_goto (tgt := 4) hx hb dX2_proofsOf_35 (by decide) ?_
        exact ih4 v12 (x3 + 1) _ _ _ rv12 f13 hI (lv_sub hl [2, 3, 1, 0] rfl) h
  unfold w_M_proofsOf at h
  refine nr_iconst hx hb dX2_proofsOf_0 ?_
  refine lv_istore_n (lv' := [(2, iV 0), (0, .ref (ad 17)), (1, iV x1)]) hx hb dX2_proofsOf_1 rfl hl (by decide) rfl (fun ls hl => ?_)
  refine nr_iconst hx hb dX2_proofsOf_2 ?_
  refine lv_istore_n (lv' := [(3, iV 0), (2, iV 0), (0, .ref (ad 17)), (1, iV x1)]) hx hb dX2_proofsOf_3 rfl hl (by decide) rfl (fun ls hl => ?_)
  obtain ⟨n0, h⟩ := h
  exact L4 x1 rx1 n0 0 0 _ _ _ (by decide) (by decide) hI (lv_sub hl [2, 3, 1, 0] rfl) h
theorem cMX2_97 {p : Program} {l : Launch} {e : Env} {R : Room} {s : State} {m : MethodId} {args : Array Value} {below : List Frame} {meth : Method} {c : Code} {H : Heap} {locs : List Loc} {Q : State → Prop} {cc : ByteArray} {nL pc : Nat} {ls : Array Slot} {rest : List Value} {cells slots : Nat} {D : va_G} {dA : Nat → ClassId} {ad : Nat → Nat} {A : Nat → Prop} {H0 : Heap} {S : St} {dk : Nat} (hF : CallFix p m c cc nL s args lw_all RX2) (hK : gK D dA s) (hI : sI D dA wM ad A H0 S H locs) (hls : ls.size = nL) (hR : R.frames = dk + 1 ∧ R.locals = 64 * dk + 64) (hd : 1 + 1 ≤ dk) (hW : (rest.map fun v => v.category).sum ≤ 8) (hf : cells ≤ R.cells ∧ slots ≤ R.slots) {x1 : Int} {K : Int → Prop} (r1 : InR x1) (h : w_M_proofsOf x1 S K) (hdg : decode cc pc = .ok (.invokevirtual 97, 3)) (kk : ∀ (r : Int) (H1 : Heap) (locs1 : List Loc), InR r → K r → sI D dA wM ad A H0 S H1 locs1 → W p l e R s m args below meth c H1 locs1 cells slots Q (F0 m (pc + 3) ls (iV r :: rest))) : W p l e R s m args below meth c H locs cells slots Q (F0 m (pc) ls (iV x1 :: .ref (ad 17) :: rest)) := s_callVi (As := [iV x1]) (rest := rest) (K := fun r S' => S' = S ∧ K r) hF (t_M_proofsOf l D dA ad S H.size x1 K r1 h) (s_recv hK hI 17 (by decide) wM_17 rfl) (cwV 1 hF.2.2.2.2 (lw_V q1320 q1322 qs52 q109 q1323) rfl rfl rfl (by decide +kernel) ⟨by have h1 := hR.1; have h2 : (rmD 1 0 0).frames = 1 + 1 := rfl; omega, by have h1 := hR.2; have h2 : (rmD 1 0 0).locals = 64 * 1 + 64 := rfl; omega⟩) hK hI rfl hls rfl hW hdg hf (fun r S1 H1 locs1 f hk hI1 => by obtain ⟨rfl, hk⟩ := hk; exact kk r H1 locs1 f hk hI1)
set_option maxHeartbeats 4000000 in
theorem t_M_burn (l : Launch) (D : va_G) (dA : Nat → ClassId) (ad : Nat → Nat) (S : St) (sz : Nat) (x1 : Int) (K : Int → St → Prop) (rx1 : InR x1) (h : w_M_burn x1 S K) : Met l yX2_burn (ws_ yX2_burn cX2_burn 4 (Option.some Jvm.ClassFile.FieldType.int)) (rmD 2 0 0) (va_Pc [.ref (ad 17), iV x1] (sPre D dA wM ad S sz)) (va_Qi (fun r S' => K r.toInt S') (sPost D dA wM ad (wA wM ad S sz)) (wA wM ad S sz)) 0 0 (wA wM ad S sz) := by
  refine Met.ofW (cc := cX2_burn) (maxL := 4) (ret := (Option.some Jvm.ClassFile.FieldType.int)) (by decide) rfl ?_
  intro p e s m args below meth c s₁ B hml hv
  obtain ⟨rfl, hsz, hK, hC⟩ := hv
  have hx := B.exec
  have hb := B.bytes
  have hr := B.returns
  have hlocks := B.notSynchronized
  have hts := atoms_spec (ws := (ws_ yX2_burn cX2_burn 4 (Option.some Jvm.ClassFile.FieldType.int))) B.pre
  have hts : ∀ w ∈ lw_all, w.before _ s = true := fun w h => hts w (List.mem_cons_of_mem _ h)
  have hown : s.vm.findClass RX2 = some m.cls := findClass_of_methodNamed B.named
  clear B
  subst hsz
  have hI : sI D dA wM ad (wA wM ad S s.heap.size) s.heap S s.heap [] := hC.start
  clear hC
  generalize wA wM ad S s.heap.size = A at hI ⊢
  have hl := lv_entry ([.ref (ad 17), iV x1] : List Value) (n := 4) (Nat.le_of_ble_eq_true rfl)
  rw [lg_entry_eq]
  generalize (lg_sl ([.ref (ad 17), iV x1] : List Value) ++ List.replicate (4 - (lg_sl ([.ref (ad 17), iV x1] : List Value)).length) Slot.unset).toArray = ls at hl ⊢
  have hl : lv_has ls 4 [(0, .ref (ad 17)), (1, iV x1)] := hl
  have hF : CallFix p m c cX2_burn 4 s _ lw_all RX2 := ⟨hx, hb, hml, hown, hts⟩
  have hR : (headSpec (ws_ yX2_burn cX2_burn 4 (Option.some Jvm.ClassFile.FieldType.int)) (rmD 2 0 0)).room.frames = 2 + 1 ∧ (headSpec (ws_ yX2_burn cX2_burn 4 (Option.some Jvm.ClassFile.FieldType.int)) (rmD 2 0 0)).room.locals = 64 * 2 + 64 := ⟨rfl, rfl⟩
  generalize (headSpec (ws_ yX2_burn cX2_burn 4 (Option.some Jvm.ClassFile.FieldType.int)) (rmD 2 0 0)).room = R at hR ⊢
  generalize ([.ref (ad 17), iV x1] : List Value).toArray = args at hts hF ⊢
  generalize hQ : MQ below _ _ _ _ _ _ = Q
  have L22 : ∀ (x1 : Int) (x2 : Int), InR x1 → InR x2 → ∀ (n22 : Nat) (x3 : Int) (S : St) (H : Heap) (locs : List Loc) (ls : Array Slot), InR x3 → sI D dA wM ad A s.heap S H locs → lv_has ls 4 [(0, .ref (ad 17)), (1, iV x1), (2, iV x2), (3, iV x3)] → l_M_burn_22 x1 x2 K n22 x3 S → W p l e R s m args below meth c H locs 0 0 Q (F0 m 22 ls []) := by
    intro x1 x2 rx1 rx2 n22
    induction n22 with
    | zero => intro x3 S H locs ls rx3 hI hl h; exact False.elim h
    | succ n22 ih22 =>
      intro x3 S H locs ls rx3 hI hl h
      unfold l_M_burn_22 at h
      refine lv_iload_n hx hb dX2_burn_22 rfl (lv_at hl 3 rfl) ?_
      refine lv_aload_n hx hb dX2_burn_23 rfl (lv_at hl 0 rfl) ?_
      refine gMX2_7_17 hF hK hI dX2_burn_24 ?_
      refine nr_iconst hx hb dX2_burn_27 ?_
      refine s_iald hx hb hK hI 0 (by decide) wM_0 (by decide) (by decide) dX2_burn_28 (fun f1 => ?_)
      replace h := h f1
      refine nr_icmp_ge hx hb rx3 f1 dX2_burn_29 (tgt := 57) (by decide) (fun c2 => ?_) (fun c2 => ?_)
      · replace h := h.1 c2
        refine lv_iload_n hx hb dX2_burn_57 rfl (lv_at hl 2 rfl) ?_
        rw [← hQ]; exact s_iret (K := K) hx hb hr hlocks hI rx2 h dX2_burn_58
      · replace h := h.2 c2
        refine lv_aload_n hx hb dX2_burn_32 rfl (lv_at hl 0 rfl) ?_
        refine gMX2_7_17 hF hK hI dX2_burn_33 ?_
        refine lv_iload_n hx hb dX2_burn_36 rfl (lv_at hl 3 rfl) ?_
        refine cMX2_87 hF hK hI hl.1 hR (by decide) (Nat.le_of_ble_eq_true rfl) ⟨Nat.zero_le _, Nat.zero_le _⟩ rx3 h dX2_burn_37 (fun r3 H locs fr3 h hI => ?_)
        replace h := h fr3
        refine nr_iconst hx hb dX2_burn_40 ?_
        have f5 := h.1; replace h := h.2
        refine nr_iadd hx hb dX2_burn_41 ?_
        refine lv_dup2_11 hx hb dX2_burn_42 rfl rfl ?_
        have f6 := h.1; replace h := h.2
        refine s_iald hx hb hK hI 0 (by decide) wM_0 f5 f6 dX2_burn_43 (fun f7 => ?_)
        replace h := h f7
        refine nr_iconst hx hb dX2_burn_44 ?_
        refine lv_iload_n hx hb dX2_burn_45 rfl (lv_at hl 1 rfl) ?_
        have f8 := h.1; replace h := h.2
        have f9 := h.1; replace h := h.2
        refine nr_ishl hx hb f8 f9 dX2_burn_46 ?_
        refine nr_iconst hx hb dX2_burn_47 ?_
        refine nr_ixor hx hb dX2_burn_48 ?_
        refine nr_iand hx hb dX2_burn_49 ?_
        have f10 := h.1; replace h := h.2
        refine s_iast hx hb hK hI 0 (by decide) wM_0 f5 f10 (iAnd_R _ _) dX2_burn_50 (fun S11 H locs eS11 hI => ?_)
        replace h := h S11 eS11
        have f12 := h.1; replace h := h.2
        refine nr_iinc (lv' := [(3, iV (x3 + 1)), (0, .ref (ad 17)), (1, iV x1), (2, iV x2)]) hx hb dX2_burn_51 hl (k := 3) rfl (by decide) rfl (fun ls hl => ?_)
        refine lv_goto (tgt := 22) hx hb dX2_burn_54 (by decide) ?_
        exact ih22 (x3 + 1) S11 _ _ _ f12 hI (lv_sub hl [1, 2, 3, 0] rfl) h
  unfold w_M_burn at h
  refine lv_aload_n hx hb dX2_burn_0 rfl (lv_at hl 0 rfl) ?_
  refine lv_iload_n hx hb dX2_burn_1 rfl (lv_at hl 1 rfl) ?_
  refine cMX2_83 hF hK hI hl.1 hR (by decide) (Nat.le_of_ble_eq_true rfl) ⟨Nat.zero_le _, Nat.zero_le _⟩ rx1 h dX2_burn_2 (fun r13 H locs fr13 h hI => ?_)
  replace h := h fr13
  have gr13 : InR r13 := kdP_R (k := 2) (by decide) fr13
  refine nr_if_ne hx hb gr13 dX2_burn_5 (tgt := 10) (by decide) (fun c15 => ?_) (fun c15 => ?_)
  · replace h := h.1 c15
    refine lv_aload_n hx hb dX2_burn_10 rfl (lv_at hl 0 rfl) ?_
    refine cMX2_94 hF hK hI hl.1 hR (by decide) (Nat.le_of_ble_eq_true rfl) ⟨Nat.zero_le _, Nat.zero_le _⟩ h dX2_burn_11 (fun S17 H locs h hI => ?_)
    refine lv_aload_n hx hb dX2_burn_14 rfl (lv_at hl 0 rfl) ?_
    refine lv_iload_n hx hb dX2_burn_15 rfl (lv_at hl 1 rfl) ?_
    refine cMX2_97 hF hK hI hl.1 hR (by decide) (Nat.le_of_ble_eq_true rfl) ⟨Nat.zero_le _, Nat.zero_le _⟩ rx1 h dX2_burn_16 (fun r18 H locs fr18 h hI => ?_)
    replace h := h fr18
    refine lv_istore_n (lv' := [(2, iV r18), (0, .ref (ad 17)), (1, iV x1)]) hx hb dX2_burn_19 rfl hl (by decide) rfl (fun ls hl => ?_)
    refine nr_iconst hx hb dX2_burn_20 ?_
    refine lv_istore_n (lv' := [(3, iV 0), (2, iV r18), (0, .ref (ad 17)), (1, iV x1)]) hx hb dX2_burn_21 rfl hl (by decide) rfl (fun ls hl => ?_)
    obtain ⟨n0, h⟩ := h
    exact L22 x1 r18 rx1 fr18 n0 0 S17 _ _ _ (by decide) hI (lv_sub hl [2, 3, 1, 0] rfl) h
  · replace h := h.2 c15
    refine nr_iconst hx hb dX2_burn_8 ?_
    rw [← hQ]; exact s_iret (K := K) hx hb hr hlocks hI (by decide) h dX2_burn_9
theorem gMX2_16_17 {p : Program} {l : Launch} {e : Env} {R : Room} {s : State} {m : MethodId} {args : Array Value} {below : List Frame} {meth : Method} {c : Code} {H : Heap} {locs : List Loc} {Q : State → Prop} {cc : ByteArray} {nL pc : Nat} {ls : Array Slot} {rest : List Value} {cells slots : Nat} {D : va_G} {dA : Nat → ClassId} {ad : Nat → Nat} {A : Nat → Prop} {H0 : Heap} {S : St} (hF : CallFix p m c cc nL s args lw_all RX2) (hK : gK D dA s) (hI : sI D dA wM ad A H0 S H locs) (hdg : decode cc pc = .ok (.getfield 16, 3)) (kk : W p l e R s m args below meth c H locs cells slots Q (F0 m (pc + 3) ls (.ref (ad 2) :: rest))) : W p l e R s m args below meth c H locs cells slots Q (F0 m (pc) ls (.ref (ad 17) :: rest)) := s_getr hF.1 hF.2.1 hF.2.2.2.2 hF.2.2.2.1 hK hI 17 (by decide) wM_17 rfl in_X2 2 (by decide) q1165 rfl 2 rfl hdg kk
set_option maxHeartbeats 4000000 in
theorem t_M_clauseOf (l : Launch) (D : va_G) (dA : Nat → ClassId) (ad : Nat → Nat) (S : St) (sz : Nat) (x1 : Int) (K : Int → Prop) (rx1 : InR x1) (h : w_M_clauseOf x1 S K) : Met l yX2_clauseOf (ws_ yX2_clauseOf cX2_clauseOf 3 (Option.some Jvm.ClassFile.FieldType.int)) (rmD 0 0 0) (va_Pc [.ref (ad 17), iV x1] (sPre D dA wM ad S sz)) (va_Qi (fun r S' => S' = S ∧ K r.toInt) (sPost D dA wM ad (wA wM ad S sz)) (wA wM ad S sz)) 0 0 (wA wM ad S sz) := by
  refine Met.ofW (cc := cX2_clauseOf) (maxL := 3) (ret := (Option.some Jvm.ClassFile.FieldType.int)) (by decide) rfl ?_
  intro p e s m args below meth c s₁ B hml hv
  obtain ⟨rfl, hsz, hK, hC⟩ := hv
  have hx := B.exec
  have hb := B.bytes
  have hr := B.returns
  have hlocks := B.notSynchronized
  have hts := atoms_spec (ws := (ws_ yX2_clauseOf cX2_clauseOf 3 (Option.some Jvm.ClassFile.FieldType.int))) B.pre
  have hts : ∀ w ∈ lw_all, w.before _ s = true := fun w h => hts w (List.mem_cons_of_mem _ h)
  have hown : s.vm.findClass RX2 = some m.cls := findClass_of_methodNamed B.named
  clear B
  subst hsz
  have hI : sI D dA wM ad (wA wM ad S s.heap.size) s.heap S s.heap [] := hC.start
  clear hC
  generalize wA wM ad S s.heap.size = A at hI ⊢
  have hl := lv_entry ([.ref (ad 17), iV x1] : List Value) (n := 3) (Nat.le_of_ble_eq_true rfl)
  rw [lg_entry_eq]
  generalize (lg_sl ([.ref (ad 17), iV x1] : List Value) ++ List.replicate (3 - (lg_sl ([.ref (ad 17), iV x1] : List Value)).length) Slot.unset).toArray = ls at hl ⊢
  have hl : lv_has ls 3 [(0, .ref (ad 17)), (1, iV x1)] := hl
  have hF : CallFix p m c cX2_clauseOf 3 s _ lw_all RX2 := ⟨hx, hb, hml, hown, hts⟩
  have hR : (headSpec (ws_ yX2_clauseOf cX2_clauseOf 3 (Option.some Jvm.ClassFile.FieldType.int)) (rmD 0 0 0)).room.frames = 0 + 1 ∧ (headSpec (ws_ yX2_clauseOf cX2_clauseOf 3 (Option.some Jvm.ClassFile.FieldType.int)) (rmD 0 0 0)).room.locals = 64 * 0 + 64 := ⟨rfl, rfl⟩
  generalize (headSpec (ws_ yX2_clauseOf cX2_clauseOf 3 (Option.some Jvm.ClassFile.FieldType.int)) (rmD 0 0 0)).room = R at hR ⊢
  generalize ([.ref (ad 17), iV x1] : List Value).toArray = args at hts hF ⊢
  generalize hQ : MQ below _ _ _ _ _ _ = Q
  have L2 : ∀ (x1 : Int), InR x1 → ∀ (n2 : Nat) (x2 : Int) (H : Heap) (locs : List Loc) (ls : Array Slot), InR x2 → sI D dA wM ad A s.heap S H locs → lv_has ls 3 [(0, .ref (ad 17)), (1, iV x1), (2, iV x2)] → l_M_clauseOf_2 x1 S K n2 x2 → W p l e R s m args below meth c H locs 0 0 Q (F0 m 2 ls []) := by
    intro x1 rx1 n2
    induction n2 with
    | zero => intro x2 H locs ls rx2 hI hl h; exact False.elim h
    | succ n2 ih2 =>
      intro x2 H locs ls rx2 hI hl h
      unfold l_M_clauseOf_2 at h
      refine lv_aload_n hx hb dX2_clauseOf_2 rfl (lv_at hl 0 rfl) ?_
      refine gMX2_7_17 hF hK hI dX2_clauseOf_3 ?_
      refine nr_iconst hx hb dX2_clauseOf_6 ?_
      refine s_iald hx hb hK hI 0 (by decide) wM_0 (by decide) (by decide) dX2_clauseOf_7 (fun f1 => ?_)
      replace h := h f1
      refine nr_if_lt hx hb f1 dX2_clauseOf_8 (tgt := 63) (by decide) (fun c2 => ?_) (fun c2 => ?_)
      · replace h := h.1 c2
        refine nr_iconst hx hb dX2_clauseOf_63 ?_
        rw [← hQ]; exact s_iret (K := fun r S' => S' = S ∧ K r) hx hb hr hlocks hI (by decide) ⟨rfl, h⟩ dX2_clauseOf_64
      · replace h := h.2 c2
        refine lv_iload_n hx hb dX2_clauseOf_11 rfl (lv_at hl 2 rfl) ?_
        refine lv_aload_n hx hb dX2_clauseOf_12 rfl (lv_at hl 0 rfl) ?_
        refine gMX2_16_17 hF hK hI dX2_clauseOf_13 ?_
        refine nr_sipush hx hb dX2_clauseOf_16 (by decide) ?_
        refine lv_aload_n hx hb dX2_clauseOf_19 rfl (lv_at hl 0 rfl) ?_
        refine gMX2_7_17 hF hK hI dX2_clauseOf_20 ?_
        refine nr_iconst hx hb dX2_clauseOf_23 ?_
        refine s_iald hx hb hK hI 0 (by decide) wM_0 (by decide) (by decide) dX2_clauseOf_24 (fun f3 => ?_)
        have f4 := h.1; replace h := h.2
        refine nr_imul hx hb dX2_clauseOf_25 ?_
        have f5 := h.1; replace h := h.2
        refine s_iald hx hb hK hI 2 (by decide) wM_2 f4 f5 dX2_clauseOf_26 (fun f6 => ?_)
        replace h := h f6
        refine nr_icmp_ge hx hb rx2 f6 dX2_clauseOf_27 (tgt := 63) (by decide) (fun c7 => ?_) (fun c7 => ?_)
        · replace h := h.1 c7
          refine nr_iconst hx hb dX2_clauseOf_63 ?_
          rw [← hQ]; exact s_iret (K := fun r S' => S' = S ∧ K r) hx hb hr hlocks hI (by decide) ⟨rfl, h⟩ dX2_clauseOf_64
        · replace h := h.2 c7
          refine lv_aload_n hx hb dX2_clauseOf_30 rfl (lv_at hl 0 rfl) ?_
          refine gMX2_16_17 hF hK hI dX2_clauseOf_31 ?_
          refine nr_sipush hx hb dX2_clauseOf_34 (by decide) ?_
          refine lv_aload_n hx hb dX2_clauseOf_37 rfl (lv_at hl 0 rfl) ?_
          refine gMX2_7_17 hF hK hI dX2_clauseOf_38 ?_
          refine nr_iconst hx hb dX2_clauseOf_41 ?_
          refine s_iald hx hb hK hI 0 (by decide) wM_0 (by decide) (by decide) dX2_clauseOf_42 (fun f8 => ?_)
          refine nr_imul hx hb dX2_clauseOf_43 ?_
          refine nr_iconst hx hb dX2_clauseOf_44 ?_
          have f9 := h.1; replace h := h.2
          refine nr_iadd hx hb dX2_clauseOf_45 ?_
          refine nr_iconst hx hb dX2_clauseOf_46 ?_
          refine lv_iload_n hx hb dX2_clauseOf_47 rfl (lv_at hl 2 rfl) ?_
          have f10 := h.1; replace h := h.2
          refine nr_imul hx hb dX2_clauseOf_48 ?_
          have f11 := h.1; replace h := h.2
          refine nr_iadd hx hb dX2_clauseOf_49 ?_
          have f12 := h.1; replace h := h.2
          refine s_iald hx hb hK hI 2 (by decide) wM_2 f11 f12 dX2_clauseOf_50 (fun f13 => ?_)
          replace h := h f13
          refine lv_iload_n hx hb dX2_clauseOf_51 rfl (lv_at hl 1 rfl) ?_
          refine nr_icmp_ne hx hb f13 rx1 dX2_clauseOf_52 (tgt := 57) (by decide) (fun c14 => ?_) (fun c14 => ?_)
          · replace h := h.1 c14
            have f15 := h.1; replace h := h.2
            refine nr_iinc (lv' := [(2, iV (x2 + 1)), (0, .ref (ad 17)), (1, iV x1)]) hx hb dX2_clauseOf_57 hl (k := 2) rfl (by decide) rfl (fun ls hl => ?_)
            refine lv_goto (tgt := 2) hx hb dX2_clauseOf_60 (by decide) ?_
            exact ih2 (x2 + 1) _ _ _ f15 hI (lv_sub hl [1, 2, 0] rfl) h
          · replace h := h.2 c14
            refine lv_iload_n hx hb dX2_clauseOf_55 rfl (lv_at hl 2 rfl) ?_
            rw [← hQ]; exact s_iret (K := fun r S' => S' = S ∧ K r) hx hb hr hlocks hI rx2 ⟨rfl, h⟩ dX2_clauseOf_56
  unfold w_M_clauseOf at h
  refine nr_iconst hx hb dX2_clauseOf_0 ?_
  refine lv_istore_n (lv' := [(2, iV 0), (0, .ref (ad 17)), (1, iV x1)]) hx hb dX2_clauseOf_1 rfl hl (by decide) rfl (fun ls hl => ?_)
  obtain ⟨n0, h⟩ := h
  exact L2 x1 rx1 n0 0 _ _ _ (by decide) hI (lv_sub hl [1, 2, 0] rfl) h
