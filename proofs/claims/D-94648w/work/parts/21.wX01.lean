set_option maxRecDepth 100000
set_option maxHeartbeats 4000000 in
theorem t_J12_bitCount (l : Launch) (x0 : Int) (K : Int → Prop) (rx0 : InR x0) (h : w_J12_bitCount x0 K) : Met l yJ12_bitCount (ws_ yJ12_bitCount cJ12_bitCount 1 (Option.some Jvm.ClassFile.FieldType.int)) (rmD 0 0 0) (va_Pc [iV x0] (fun _ => True)) (va_Qi (fun r (_ : Unit) => K r.toInt) (fun _ _ => True) (fun _ => False)) 0 0 (fun _ => False) := by
  refine Met.ofW (cc := cJ12_bitCount) (maxL := 1) (ret := (Option.some Jvm.ClassFile.FieldType.int)) (by decide) rfl ?_
  intro p e s m args below meth c s₁ B hml hv
  obtain ⟨rfl, -⟩ := hv
  have hx := B.exec
  have hb := B.bytes
  have hr := B.returns
  have hlocks := B.notSynchronized
  have hts := atoms_spec (ws := (ws_ yJ12_bitCount cJ12_bitCount 1 (Option.some Jvm.ClassFile.FieldType.int))) B.pre
  have hts : ∀ w ∈ lw_all, w.before _ s = true := fun w h => hts w (List.mem_cons_of_mem _ h)
  have hown : s.vm.findClass RJ12 = some m.cls := findClass_of_methodNamed B.named
  clear B
  have hI : va_S (fun _ => False) s.heap s.heap [] := va_S.rf
  have hl := lv_entry ([iV x0] : List Value) (n := 1) (Nat.le_of_ble_eq_true rfl)
  rw [lg_entry_eq]
  generalize (lg_sl ([iV x0] : List Value) ++ List.replicate (1 - (lg_sl ([iV x0] : List Value)).length) Slot.unset).toArray = ls at hl ⊢
  have hl : lv_has ls 1 [(0, iV x0)] := hl
  have hF : CallFix p m c cJ12_bitCount 1 s _ lw_all RJ12 := ⟨hx, hb, hml, hown, hts⟩
  have hR : (headSpec (ws_ yJ12_bitCount cJ12_bitCount 1 (Option.some Jvm.ClassFile.FieldType.int)) (rmD 0 0 0)).room.frames = 0 + 1 ∧ (headSpec (ws_ yJ12_bitCount cJ12_bitCount 1 (Option.some Jvm.ClassFile.FieldType.int)) (rmD 0 0 0)).room.locals = 64 * 0 + 64 := ⟨rfl, rfl⟩
  generalize (headSpec (ws_ yJ12_bitCount cJ12_bitCount 1 (Option.some Jvm.ClassFile.FieldType.int)) (rmD 0 0 0)).room = R at hR ⊢
  generalize ([iV x0] : List Value).toArray = args at hts hF ⊢
  generalize hQ : MQ below _ _ _ _ _ _ = Q
  unfold w_J12_bitCount at h
  refine lv_iload_n hx hb dJ12_bitCount_0 rfl (lv_at hl 0 rfl) ?_
  refine lv_iload_n hx hb dJ12_bitCount_1 rfl (lv_at hl 0 rfl) ?_
  refine nr_iconst hx hb dJ12_bitCount_2 ?_
  refine nr_iushr hx hb dJ12_bitCount_3 ?_
  refine nr_ldcw (v := 1431655765) hx hb hown (by decide) (hts _ q872) dJ12_bitCount_4 ?_
  refine nr_iand hx hb dJ12_bitCount_7 ?_
  have f1 := h.1; replace h := h.2
  refine nr_isub hx hb dJ12_bitCount_8 ?_
  refine nr_topi (fun v2 ev2 => ?_)
  have rv2 : InR v2 := by rw [ev2]; exact f1
  replace h := h v2 ev2 rv2
  refine lv_istore_n (lv' := [(0, iV v2)]) hx hb dJ12_bitCount_9 rfl hl (by decide) rfl (fun ls hl => ?_)
  refine lv_iload_n hx hb dJ12_bitCount_10 rfl (lv_at hl 0 rfl) ?_
  refine nr_ldcw (v := 858993459) hx hb hown (by decide) (hts _ q873) dJ12_bitCount_11 ?_
  refine nr_iand hx hb dJ12_bitCount_14 ?_
  refine lv_iload_n hx hb dJ12_bitCount_15 rfl (lv_at hl 0 rfl) ?_
  refine nr_iconst hx hb dJ12_bitCount_16 ?_
  refine nr_iushr hx hb dJ12_bitCount_17 ?_
  refine nr_ldcw (v := 858993459) hx hb hown (by decide) (hts _ q873) dJ12_bitCount_18 ?_
  refine nr_iand hx hb dJ12_bitCount_21 ?_
  have f3 := h.1; replace h := h.2
  refine nr_iadd hx hb dJ12_bitCount_22 ?_
  refine nr_topi (fun v4 ev4 => ?_)
  have rv4 : InR v4 := by rw [ev4]; exact f3
  replace h := h v4 ev4 rv4
  refine lv_istore_n (lv' := [(0, iV v4)]) hx hb dJ12_bitCount_23 rfl hl (by decide) rfl (fun ls hl => ?_)
  refine lv_iload_n hx hb dJ12_bitCount_24 rfl (lv_at hl 0 rfl) ?_
  refine lv_iload_n hx hb dJ12_bitCount_25 rfl (lv_at hl 0 rfl) ?_
  refine nr_iconst hx hb dJ12_bitCount_26 ?_
  refine nr_iushr hx hb dJ12_bitCount_27 ?_
  have f5 := h.1; replace h := h.2
  refine nr_iadd hx hb dJ12_bitCount_28 ?_
  refine nr_ldcw (v := 252645135) hx hb hown (by decide) (hts _ q874) dJ12_bitCount_29 ?_
  refine nr_iand hx hb dJ12_bitCount_32 ?_
  refine nr_topi (fun v6 ev6 => ?_)
  have rv6 : InR v6 := by rw [ev6]; exact (iAnd_R _ _)
  replace h := h v6 ev6 rv6
  refine lv_istore_n (lv' := [(0, iV v6)]) hx hb dJ12_bitCount_33 rfl hl (by decide) rfl (fun ls hl => ?_)
  refine lv_iload_n hx hb dJ12_bitCount_34 rfl (lv_at hl 0 rfl) ?_
  refine lv_iload_n hx hb dJ12_bitCount_35 rfl (lv_at hl 0 rfl) ?_
  refine nr_bipush hx hb dJ12_bitCount_36 (by decide) ?_
  refine nr_iushr hx hb dJ12_bitCount_38 ?_
  have f7 := h.1; replace h := h.2
  refine nr_iadd hx hb dJ12_bitCount_39 ?_
  refine nr_topi (fun v8 ev8 => ?_)
  have rv8 : InR v8 := by rw [ev8]; exact f7
  replace h := h v8 ev8 rv8
  refine lv_istore_n (lv' := [(0, iV v8)]) hx hb dJ12_bitCount_40 rfl hl (by decide) rfl (fun ls hl => ?_)
  refine lv_iload_n hx hb dJ12_bitCount_41 rfl (lv_at hl 0 rfl) ?_
  refine lv_iload_n hx hb dJ12_bitCount_42 rfl (lv_at hl 0 rfl) ?_
  refine nr_bipush hx hb dJ12_bitCount_43 (by decide) ?_
  refine nr_iushr hx hb dJ12_bitCount_45 ?_
  have f9 := h.1; replace h := h.2
  refine nr_iadd hx hb dJ12_bitCount_46 ?_
  refine nr_topi (fun v10 ev10 => ?_)
  have rv10 : InR v10 := by rw [ev10]; exact f9
  replace h := h v10 ev10 rv10
  refine lv_istore_n (lv' := [(0, iV v10)]) hx hb dJ12_bitCount_47 rfl hl (by decide) rfl (fun ls hl => ?_)
  refine lv_iload_n hx hb dJ12_bitCount_48 rfl (lv_at hl 0 rfl) ?_
  refine nr_bipush hx hb dJ12_bitCount_49 (by decide) ?_
  refine nr_mask hx hb 6 (by decide) (by decide) dJ12_bitCount_51 ?_
  have f11 : InR (v10 % 64) := by omega
  rw [← hQ]; exact p_iret (K := K) hx hb hr hlocks hI f11 h dJ12_bitCount_52
set_option maxHeartbeats 4000000 in
theorem t_J14_fill (l : Launch) (D : va_G) (dA : Nat → ClassId) (ad : Nat → Nat) (S : St) (sz : Nat) (k0 n0 : Nat) (x1 : Int) (K : St → Prop) (hk0 : k0 < wX.1) (hd0 : wX.2.1 k0 = .inl (0, n0)) (hn0 : n0 ≤ 100000) (rx1 : InR x1) (h : w_J14_fill k0 n0 x1 S K) : Met l yJ14_fill (ws_ yJ14_fill cJ14_fill 4 (Option.none : Option Jvm.ClassFile.FieldType)) (rmD 0 0 0) (va_Pc [.ref (ad k0), iV x1] (sPre D dA wX ad S sz)) (va_Qv (fun S' => K S') (sPost D dA wX ad (wA wX ad S sz)) (wA wX ad S sz)) 0 0 (wA wX ad S sz) := by
  refine Met.ofW (cc := cJ14_fill) (maxL := 4) (ret := (Option.none : Option Jvm.ClassFile.FieldType)) (by decide) rfl ?_
  intro p e s m args below meth c s₁ B hml hv
  obtain ⟨rfl, hsz, hK, hC⟩ := hv
  have hx := B.exec
  have hb := B.bytes
  have hr := B.returns
  have hlocks := B.notSynchronized
  have hts := atoms_spec (ws := (ws_ yJ14_fill cJ14_fill 4 (Option.none : Option Jvm.ClassFile.FieldType))) B.pre
  have hts : ∀ w ∈ lw_all, w.before _ s = true := fun w h => hts w (List.mem_cons_of_mem _ h)
  have hown : s.vm.findClass RJ14 = some m.cls := findClass_of_methodNamed B.named
  clear B
  subst hsz
  have hI : sI D dA wX ad (wA wX ad S s.heap.size) s.heap S s.heap [] := hC.start
  clear hC
  generalize wA wX ad S s.heap.size = A at hI ⊢
  have rn0 : InR (n0 : Int) := ⟨by omega, by omega⟩
  have hl := lv_entry ([.ref (ad k0), iV x1] : List Value) (n := 4) (Nat.le_of_ble_eq_true rfl)
  rw [lg_entry_eq]
  generalize (lg_sl ([.ref (ad k0), iV x1] : List Value) ++ List.replicate (4 - (lg_sl ([.ref (ad k0), iV x1] : List Value)).length) Slot.unset).toArray = ls at hl ⊢
  have hl : lv_has ls 4 [(0, .ref (ad k0)), (1, iV x1)] := hl
  have hF : CallFix p m c cJ14_fill 4 s _ lw_all RJ14 := ⟨hx, hb, hml, hown, hts⟩
  have hR : (headSpec (ws_ yJ14_fill cJ14_fill 4 (Option.none : Option Jvm.ClassFile.FieldType)) (rmD 0 0 0)).room.frames = 0 + 1 ∧ (headSpec (ws_ yJ14_fill cJ14_fill 4 (Option.none : Option Jvm.ClassFile.FieldType)) (rmD 0 0 0)).room.locals = 64 * 0 + 64 := ⟨rfl, rfl⟩
  generalize (headSpec (ws_ yJ14_fill cJ14_fill 4 (Option.none : Option Jvm.ClassFile.FieldType)) (rmD 0 0 0)).room = R at hR ⊢
  generalize ([.ref (ad k0), iV x1] : List Value).toArray = args at hts hF ⊢
  generalize hQ : MQ below _ _ _ _ _ _ = Q
  have L5 : ∀ (x1 : Int) (x3 : Int), InR x1 → InR x3 → ∀ (n5 : Nat) (x2 : Int) (S : St) (H : Heap) (locs : List Loc) (ls : Array Slot), InR x2 → sI D dA wX ad A s.heap S H locs → lv_has ls 4 [(0, .ref (ad k0)), (1, iV x1), (2, iV x2), (3, iV x3)] → l_J14_fill_5 k0 n0 x1 x3 K n5 x2 S → W p l e R s m args below meth c H locs 0 0 Q (F0 m 5 ls []) := by
    intro x1 x3 rx1 rx3 n5
    induction n5 with
    | zero => intro x2 S H locs ls rx2 hI hl h; exact False.elim h
    | succ n5 ih5 =>
      intro x2 S H locs ls rx2 hI hl h
      unfold l_J14_fill_5 at h
      refine lv_iload_n hx hb dJ14_fill_5 rfl (lv_at hl 2 rfl) ?_
      refine lv_iload_n hx hb dJ14_fill_6 rfl (lv_at hl 3 rfl) ?_
      refine nr_icmp_ge hx hb rx2 rx3 dJ14_fill_7 (tgt := 20) (by decide) (fun c1 => ?_) (fun c1 => ?_)
      · replace h := h.1 c1
        rw [← hQ]; exact s_vret (K := K) hx hb hr hlocks hI  h dJ14_fill_20
      · replace h := h.2 c1
        refine lv_aload_n hx hb dJ14_fill_10 rfl (lv_at hl 0 rfl) ?_
        refine lv_iload_n hx hb dJ14_fill_11 rfl (lv_at hl 2 rfl) ?_
        refine lv_iload_n hx hb dJ14_fill_12 rfl (lv_at hl 1 rfl) ?_
        have f2 := h.1; replace h := h.2
        refine s_iast hx hb hK hI k0 hk0 hd0 rx2 f2 rx1 dJ14_fill_13 (fun S3 H locs eS3 hI => ?_)
        replace h := h S3 eS3
        have f4 := h.1; replace h := h.2
        refine nr_iinc (lv' := [(2, iV (x2 + 1)), (0, .ref (ad k0)), (1, iV x1), (3, iV x3)]) hx hb dJ14_fill_14 hl (k := 2) rfl (by decide) rfl (fun ls hl => ?_)
        refine lv_goto (tgt := 5) hx hb dJ14_fill_17 (by decide) ?_
        exact ih5 (x2 + 1) S3 _ _ _ f4 hI (lv_sub hl [1, 2, 0, 3] rfl) h
  unfold w_J14_fill at h
  refine nr_iconst hx hb dJ14_fill_0 ?_
  refine lv_istore_n (lv' := [(2, iV 0), (0, .ref (ad k0)), (1, iV x1)]) hx hb dJ14_fill_1 rfl hl (by decide) rfl (fun ls hl => ?_)
  refine lv_aload_n hx hb dJ14_fill_2 rfl (lv_at hl 1 rfl) ?_
  refine s_alen hx hb hK hI k0 hk0 (by decide) hd0 dJ14_fill_3 ?_
  refine nr_topi (fun v5 ev5 => ?_)
  have rv5 : InR v5 := by rw [ev5]; exact rn0
  replace h := h v5 ev5 rv5
  refine lv_istore_n (lv' := [(3, iV v5), (2, iV 0), (0, .ref (ad k0)), (1, iV x1)]) hx hb dJ14_fill_4 rfl hl (by decide) rfl (fun ls hl => ?_)
  obtain ⟨n0, h⟩ := h
  exact L5 x1 v5 rx1 rv5 n0 0 S _ _ _ (by decide) hI (lv_sub hl [2, 3, 1, 0] rfl) h
set_option maxHeartbeats 4000000 in
theorem t_J14_fill_2 (l : Launch) (D : va_G) (dA : Nat → ClassId) (ad : Nat → Nat) (S : St) (sz : Nat) (k0 n0 : Nat) (x1 : Int) (K : St → Prop) (hk0 : k0 < wX.1) (hd0 : wX.2.1 k0 = .inl (1, n0)) (hn0 : n0 ≤ 100000) (rx1 : InL x1) (h : w_J14_fill_2 k0 n0 x1 S K) : Met l yJ14_fill_2 (ws_ yJ14_fill_2 cJ14_fill_2 5 (Option.none : Option Jvm.ClassFile.FieldType)) (rmD 0 0 0) (va_Pc [.ref (ad k0), jV x1] (sPre D dA wX ad S sz)) (va_Qv (fun S' => K S') (sPost D dA wX ad (wA wX ad S sz)) (wA wX ad S sz)) 0 0 (wA wX ad S sz) := by
  refine Met.ofW (cc := cJ14_fill_2) (maxL := 5) (ret := (Option.none : Option Jvm.ClassFile.FieldType)) (by decide) rfl ?_
  intro p e s m args below meth c s₁ B hml hv
  obtain ⟨rfl, hsz, hK, hC⟩ := hv
  have hx := B.exec
  have hb := B.bytes
  have hr := B.returns
  have hlocks := B.notSynchronized
  have hts := atoms_spec (ws := (ws_ yJ14_fill_2 cJ14_fill_2 5 (Option.none : Option Jvm.ClassFile.FieldType))) B.pre
  have hts : ∀ w ∈ lw_all, w.before _ s = true := fun w h => hts w (List.mem_cons_of_mem _ h)
  have hown : s.vm.findClass RJ14 = some m.cls := findClass_of_methodNamed B.named
  clear B
  subst hsz
  have hI : sI D dA wX ad (wA wX ad S s.heap.size) s.heap S s.heap [] := hC.start
  clear hC
  generalize wA wX ad S s.heap.size = A at hI ⊢
  have rn0 : InR (n0 : Int) := ⟨by omega, by omega⟩
  have hl := lv_entry ([.ref (ad k0), jV x1] : List Value) (n := 5) (Nat.le_of_ble_eq_true rfl)
  rw [lg_entry_eq]
  generalize (lg_sl ([.ref (ad k0), jV x1] : List Value) ++ List.replicate (5 - (lg_sl ([.ref (ad k0), jV x1] : List Value)).length) Slot.unset).toArray = ls at hl ⊢
  have hl : lv_has ls 5 [(0, .ref (ad k0)), (1, jV x1)] := hl
  have hF : CallFix p m c cJ14_fill_2 5 s _ lw_all RJ14 := ⟨hx, hb, hml, hown, hts⟩
  have hR : (headSpec (ws_ yJ14_fill_2 cJ14_fill_2 5 (Option.none : Option Jvm.ClassFile.FieldType)) (rmD 0 0 0)).room.frames = 0 + 1 ∧ (headSpec (ws_ yJ14_fill_2 cJ14_fill_2 5 (Option.none : Option Jvm.ClassFile.FieldType)) (rmD 0 0 0)).room.locals = 64 * 0 + 64 := ⟨rfl, rfl⟩
  generalize (headSpec (ws_ yJ14_fill_2 cJ14_fill_2 5 (Option.none : Option Jvm.ClassFile.FieldType)) (rmD 0 0 0)).room = R at hR ⊢
  generalize ([.ref (ad k0), jV x1] : List Value).toArray = args at hts hF ⊢
  generalize hQ : MQ below _ _ _ _ _ _ = Q
  have L6 : ∀ (x1 : Int) (x4 : Int), InL x1 → InR x4 → ∀ (n6 : Nat) (x3 : Int) (S : St) (H : Heap) (locs : List Loc) (ls : Array Slot), InR x3 → sI D dA wX ad A s.heap S H locs → lv_has ls 5 [(0, .ref (ad k0)), (1, jV x1), (3, iV x3), (4, iV x4)] → l_J14_fill_2_6 k0 n0 x1 x4 K n6 x3 S → W p l e R s m args below meth c H locs 0 0 Q (F0 m 6 ls []) := by
    intro x1 x4 rx1 rx4 n6
    induction n6 with
    | zero => intro x3 S H locs ls rx3 hI hl h; exact False.elim h
    | succ n6 ih6 =>
      intro x3 S H locs ls rx3 hI hl h
      unfold l_J14_fill_2_6 at h
      refine lv_iload_n hx hb dJ14_fill_2_6 rfl (lv_at hl 2 rfl) ?_
      refine lv_iload hx hb dJ14_fill_2_7 (lv_at hl 3 rfl) ?_
      refine nr_icmp_ge hx hb rx3 rx4 dJ14_fill_2_9 (tgt := 22) (by decide) (fun c1 => ?_) (fun c1 => ?_)
      · replace h := h.1 c1
        rw [← hQ]; exact s_vret (K := K) hx hb hr hlocks hI  h dJ14_fill_2_22
      · replace h := h.2 c1
        refine lv_aload_n hx hb dJ14_fill_2_12 rfl (lv_at hl 0 rfl) ?_
        refine lv_iload_n hx hb dJ14_fill_2_13 rfl (lv_at hl 2 rfl) ?_
        refine lv_lload_n hx hb dJ14_fill_2_14 rfl (lv_at hl 1 rfl) ?_
        have f2 := h.1; replace h := h.2
        refine s_last hx hb hK hI k0 hk0 hd0 rx3 f2 rx1 dJ14_fill_2_15 (fun S3 H locs eS3 hI => ?_)
        replace h := h S3 eS3
        have f4 := h.1; replace h := h.2
        refine nr_iinc (lv' := [(3, iV (x3 + 1)), (0, .ref (ad k0)), (1, jV x1), (4, iV x4)]) hx hb dJ14_fill_2_16 hl (k := 2) rfl (by decide) rfl (fun ls hl => ?_)
        refine lv_goto (tgt := 6) hx hb dJ14_fill_2_19 (by decide) ?_
        exact ih6 (x3 + 1) S3 _ _ _ f4 hI (lv_sub hl [1, 2, 0, 3] rfl) h
  unfold w_J14_fill_2 at h
  refine nr_iconst hx hb dJ14_fill_2_0 ?_
  refine lv_istore_n (lv' := [(3, iV 0), (0, .ref (ad k0)), (1, jV x1)]) hx hb dJ14_fill_2_1 rfl hl (by decide) rfl (fun ls hl => ?_)
  refine lv_aload_n hx hb dJ14_fill_2_2 rfl (lv_at hl 1 rfl) ?_
  refine s_alen hx hb hK hI k0 hk0 (by decide) hd0 dJ14_fill_2_3 ?_
  refine nr_topi (fun v5 ev5 => ?_)
  have rv5 : InR v5 := by rw [ev5]; exact rn0
  replace h := h v5 ev5 rv5
  refine lv_istore (lv' := [(4, iV v5), (3, iV 0), (0, .ref (ad k0)), (1, jV x1)]) hx hb dJ14_fill_2_4 hl (by decide) rfl (fun ls hl => ?_)
  obtain ⟨n0, h⟩ := h
  exact L6 x1 v5 rx1 rv5 n0 0 S _ _ _ (by decide) hI (lv_sub hl [2, 3, 1, 0] rfl) h
set_option maxHeartbeats 4000000 in
theorem t_X1_copy (l : Launch) (D : va_G) (dA : Nat → ClassId) (ad : Nat → Nat) (S : St) (sz : Nat) (k0 n0 : Nat) (k1 n1 : Nat) (K : St → Prop) (hk0 : k0 < wX.1) (hd0 : wX.2.1 k0 = .inl (0, n0)) (hn0 : n0 ≤ 100000) (hk1 : k1 < wX.1) (hd1 : wX.2.1 k1 = .inl (0, n1)) (hn1 : n1 ≤ 100000) (h : w_X1_copy k0 n0 k1 n1 S K) : Met l yX1_copy (ws_ yX1_copy cX1_copy 2 (Option.none : Option Jvm.ClassFile.FieldType)) (rmD 1 0 0) (va_Pc [.ref (ad k0), .ref (ad k1)] (sPre D dA wX ad S sz)) (va_Qv (fun S' => K S') (sPost D dA wX ad (wA wX ad S sz)) (wA wX ad S sz)) 0 0 (wA wX ad S sz) := by
  refine Met.ofW (cc := cX1_copy) (maxL := 2) (ret := (Option.none : Option Jvm.ClassFile.FieldType)) (by decide) rfl ?_
  intro p e s m args below meth c s₁ B hml hv
  obtain ⟨rfl, hsz, hK, hC⟩ := hv
  have hx := B.exec
  have hb := B.bytes
  have hr := B.returns
  have hlocks := B.notSynchronized
  have hts := atoms_spec (ws := (ws_ yX1_copy cX1_copy 2 (Option.none : Option Jvm.ClassFile.FieldType))) B.pre
  have hts : ∀ w ∈ lw_all, w.before _ s = true := fun w h => hts w (List.mem_cons_of_mem _ h)
  have hown : s.vm.findClass RX1 = some m.cls := findClass_of_methodNamed B.named
  clear B
  subst hsz
  have hI : sI D dA wX ad (wA wX ad S s.heap.size) s.heap S s.heap [] := hC.start
  clear hC
  generalize wA wX ad S s.heap.size = A at hI ⊢
  have rn0 : InR (n0 : Int) := ⟨by omega, by omega⟩
  have rn1 : InR (n1 : Int) := ⟨by omega, by omega⟩
  have hl := lv_entry ([.ref (ad k0), .ref (ad k1)] : List Value) (n := 2) (Nat.le_of_ble_eq_true rfl)
  rw [lg_entry_eq]
  generalize (lg_sl ([.ref (ad k0), .ref (ad k1)] : List Value) ++ List.replicate (2 - (lg_sl ([.ref (ad k0), .ref (ad k1)] : List Value)).length) Slot.unset).toArray = ls at hl ⊢
  have hl : lv_has ls 2 [(0, .ref (ad k0)), (1, .ref (ad k1))] := hl
  have hF : CallFix p m c cX1_copy 2 s _ lw_all RX1 := ⟨hx, hb, hml, hown, hts⟩
  have hR : (headSpec (ws_ yX1_copy cX1_copy 2 (Option.none : Option Jvm.ClassFile.FieldType)) (rmD 1 0 0)).room.frames = 1 + 1 ∧ (headSpec (ws_ yX1_copy cX1_copy 2 (Option.none : Option Jvm.ClassFile.FieldType)) (rmD 1 0 0)).room.locals = 64 * 1 + 64 := ⟨rfl, rfl⟩
  generalize (headSpec (ws_ yX1_copy cX1_copy 2 (Option.none : Option Jvm.ClassFile.FieldType)) (rmD 1 0 0)).room = R at hR ⊢
  generalize ([.ref (ad k0), .ref (ad k1)] : List Value).toArray = args at hts hF ⊢
  generalize hQ : MQ below _ _ _ _ _ _ = Q
  unfold w_X1_copy at h
  refine lv_aload_n hx hb dX1_copy_0 rfl (lv_at hl 0 rfl) ?_
  refine nr_iconst hx hb dX1_copy_1 ?_
  refine lv_aload_n hx hb dX1_copy_2 rfl (lv_at hl 1 rfl) ?_
  refine nr_iconst hx hb dX1_copy_3 ?_
  refine lv_aload_n hx hb dX1_copy_4 rfl (lv_at hl 0 rfl) ?_
  refine s_alen hx hb hK hI k0 hk0 (by decide) hd0 dX1_copy_5 ?_
  have f2 := h.1; replace h := h.2
  refine s_acpy hx hb (hl.1.trans hml.symm) hown hts q198 hK hI k0 hk0 hd0 k1 hk1 hd1 (by decide) (by decide) rn0 f2 (by have h1 := hR.1; have h2 := hR.2; omega) (Nat.le_of_ble_eq_true rfl) dX1_copy_6 (fun S1 H locs eS1 hI => ?_)
  replace h := h S1 eS1
  rw [← hQ]; exact s_vret (K := K) hx hb hr hlocks hI  h dX1_copy_9
set_option maxHeartbeats 4000000 in
theorem t_X1_copy_q (l : Launch) (D : va_G) (dA : Nat → ClassId) (ad : Nat → Nat) (S : St) (sz : Nat) (k1 n1 : Nat) (x0 : Nat) (K : St → Prop) (hk1 : k1 < wX.1) (hd1 : wX.2.1 k1 = .inl (0, n1)) (hn1 : n1 ≤ 100000) (h : w_X1_copy_q k1 n1 x0 S K) : Met l yX1_copy (ws_ yX1_copy cX1_copy 2 (Option.none : Option Jvm.ClassFile.FieldType)) (rmD 1 0 0) (va_Pc [.ref x0, .ref (ad k1)] (sPre D dA wX ad S sz)) (va_Qv (fun S' => K S') (sPost D dA wX ad (wA wX ad S sz)) (wA wX ad S sz)) 0 0 (wA wX ad S sz) := by
  refine Met.ofW (cc := cX1_copy) (maxL := 2) (ret := (Option.none : Option Jvm.ClassFile.FieldType)) (by decide) rfl ?_
  intro p e s m args below meth c s₁ B hml hv
  obtain ⟨rfl, hsz, hK, hC⟩ := hv
  have hx := B.exec
  have hb := B.bytes
  have hr := B.returns
  have hlocks := B.notSynchronized
  have hts := atoms_spec (ws := (ws_ yX1_copy cX1_copy 2 (Option.none : Option Jvm.ClassFile.FieldType))) B.pre
  have hts : ∀ w ∈ lw_all, w.before _ s = true := fun w h => hts w (List.mem_cons_of_mem _ h)
  have hown : s.vm.findClass RX1 = some m.cls := findClass_of_methodNamed B.named
  clear B
  subst hsz
  have hI : sI D dA wX ad (wA wX ad S s.heap.size) s.heap S s.heap [] := hC.start
  clear hC
  generalize wA wX ad S s.heap.size = A at hI ⊢
  have rn1 : InR (n1 : Int) := ⟨by omega, by omega⟩
  have hl := lv_entry ([.ref x0, .ref (ad k1)] : List Value) (n := 2) (Nat.le_of_ble_eq_true rfl)
  rw [lg_entry_eq]
  generalize (lg_sl ([.ref x0, .ref (ad k1)] : List Value) ++ List.replicate (2 - (lg_sl ([.ref x0, .ref (ad k1)] : List Value)).length) Slot.unset).toArray = ls at hl ⊢
  have hl : lv_has ls 2 [(0, .ref x0), (1, .ref (ad k1))] := hl
  have hF : CallFix p m c cX1_copy 2 s _ lw_all RX1 := ⟨hx, hb, hml, hown, hts⟩
  have hR : (headSpec (ws_ yX1_copy cX1_copy 2 (Option.none : Option Jvm.ClassFile.FieldType)) (rmD 1 0 0)).room.frames = 1 + 1 ∧ (headSpec (ws_ yX1_copy cX1_copy 2 (Option.none : Option Jvm.ClassFile.FieldType)) (rmD 1 0 0)).room.locals = 64 * 1 + 64 := ⟨rfl, rfl⟩
  generalize (headSpec (ws_ yX1_copy cX1_copy 2 (Option.none : Option Jvm.ClassFile.FieldType)) (rmD 1 0 0)).room = R at hR ⊢
  generalize ([.ref x0, .ref (ad k1)] : List Value).toArray = args at hts hF ⊢
  generalize hQ : MQ below _ _ _ _ _ _ = Q
  unfold w_X1_copy_q at h
  refine lv_aload_n hx hb dX1_copy_0 rfl (lv_at hl 0 rfl) ?_
  refine nr_iconst hx hb dX1_copy_1 ?_
  refine lv_aload_n hx hb dX1_copy_2 rfl (lv_at hl 1 rfl) ?_
  refine nr_iconst hx hb dX1_copy_3 ?_
  refine lv_aload_n hx hb dX1_copy_4 rfl (lv_at hl 0 rfl) ?_
  obtain ⟨pn1, pf2, hp3, h⟩ := h
  refine s_plen hx hb hK hI hp3 dX1_copy_5 (fun f4 => ?_)
  replace h := h f4
  obtain ⟨pn6, pf7, hp8, h⟩ := h
  have f9 := h.1; replace h := h.2
  refine s_pcpy hx hb (hl.1.trans hml.symm) hown hts q198 hK hI hp8 k1 hk1 hd1 (by decide) (by decide) f4 f9 (by have h1 := hR.1; have h2 := hR.2; omega) (Nat.le_of_ble_eq_true rfl) dX1_copy_6 (fun S5 H locs eS5 hI => ?_)
  replace h := h S5 eS5
  rw [← hQ]; exact s_vret (K := K) hx hb hr hlocks hI  h dX1_copy_9
theorem gXX1_21_130 {p : Program} {l : Launch} {e : Env} {R : Room} {s : State} {m : MethodId} {args : Array Value} {below : List Frame} {meth : Method} {c : Code} {H : Heap} {locs : List Loc} {Q : State → Prop} {cc : ByteArray} {nL pc : Nat} {ls : Array Slot} {rest : List Value} {cells slots : Nat} {D : va_G} {dA : Nat → ClassId} {ad : Nat → Nat} {A : Nat → Prop} {H0 : Heap} {S : St} (hF : CallFix p m c cc nL s args lw_all RX1) (hK : gK D dA s) (hI : sI D dA wX ad A H0 S H locs) (hdg : decode cc pc = .ok (.getfield 21, 3)) (kk : W p l e R s m args below meth c H locs cells slots Q (F0 m (pc + 3) ls (.ref (ad 3) :: rest))) : W p l e R s m args below meth c H locs cells slots Q (F0 m (pc) ls (.ref (ad 130) :: rest)) := s_getr hF.1 hF.2.1 hF.2.2.2.2 hF.2.2.2.1 hK hI 130 (by decide) wX_130 rfl in_X1 3 (by decide) q162 rfl 3 rfl hdg kk
theorem gXX1_26_130 {p : Program} {l : Launch} {e : Env} {R : Room} {s : State} {m : MethodId} {args : Array Value} {below : List Frame} {meth : Method} {c : Code} {H : Heap} {locs : List Loc} {Q : State → Prop} {cc : ByteArray} {nL pc : Nat} {ls : Array Slot} {rest : List Value} {cells slots : Nat} {D : va_G} {dA : Nat → ClassId} {ad : Nat → Nat} {A : Nat → Prop} {H0 : Heap} {S : St} (hF : CallFix p m c cc nL s args lw_all RX1) (hK : gK D dA s) (hI : sI D dA wX ad A H0 S H locs) (hdg : decode cc pc = .ok (.getfield 26, 3)) (kk : W p l e R s m args below meth c H locs cells slots Q (F0 m (pc + 3) ls (.ref (ad 132) :: rest))) : W p l e R s m args below meth c H locs cells slots Q (F0 m (pc) ls (.ref (ad 130) :: rest)) := s_getr hF.1 hF.2.1 hF.2.2.2.2 hF.2.2.2.1 hK hI 130 (by decide) wX_130 rfl in_X1 4 (by decide) q164 rfl 132 rfl hdg kk
theorem gXX1_9_130 {p : Program} {l : Launch} {e : Env} {R : Room} {s : State} {m : MethodId} {args : Array Value} {below : List Frame} {meth : Method} {c : Code} {H : Heap} {locs : List Loc} {Q : State → Prop} {cc : ByteArray} {nL pc : Nat} {ls : Array Slot} {rest : List Value} {cells slots : Nat} {D : va_G} {dA : Nat → ClassId} {ad : Nat → Nat} {A : Nat → Prop} {H0 : Heap} {S : St} (hF : CallFix p m c cc nL s args lw_all RX1) (hK : gK D dA s) (hI : sI D dA wX ad A H0 S H locs) (hdg : decode cc pc = .ok (.getfield 9, 3)) (kk : W p l e R s m args below meth c H locs cells slots Q (F0 m (pc + 3) ls (.ref (ad 0) :: rest))) : W p l e R s m args below meth c H locs cells slots Q (F0 m (pc) ls (.ref (ad 130) :: rest)) := s_getr hF.1 hF.2.1 hF.2.2.2.2 hF.2.2.2.1 hK hI 130 (by decide) wX_130 rfl in_X1 0 (by decide) q156 rfl 0 rfl hdg kk
theorem cXX1_44 {p : Program} {l : Launch} {e : Env} {R : Room} {s : State} {m : MethodId} {args : Array Value} {below : List Frame} {meth : Method} {c : Code} {H : Heap} {locs : List Loc} {Q : State → Prop} {cc : ByteArray} {nL pc : Nat} {ls : Array Slot} {rest : List Value} {cells slots : Nat} {D : va_G} {dA : Nat → ClassId} {ad : Nat → Nat} {A : Nat → Prop} {H0 : Heap} {S : St} {dk : Nat} (hF : CallFix p m c cc nL s args lw_all RX1) (hK : gK D dA s) (hI : sI D dA wX ad A H0 S H locs) (hls : ls.size = nL) (hR : R.frames = dk + 1 ∧ R.locals = 64 * dk + 64) (hd : 1 + 1 ≤ dk) (hW : (rest.map fun v => v.category).sum ≤ 8) (hf : cells ≤ R.cells ∧ slots ≤ R.slots) {k0 n0 : Nat} {k1 n1 : Nat} {K : St → Prop} (hk0 : k0 < wX.1) (hd0 : wX.2.1 k0 = .inl (0, n0)) (hn0 : n0 ≤ 100000) (hk1 : k1 < wX.1) (hd1 : wX.2.1 k1 = .inl (0, n1)) (hn1 : n1 ≤ 100000) (h : w_X1_copy k0 n0 k1 n1 S K) (hdg : decode cc pc = .ok (.invokestatic 44, 3)) (kk : ∀ (S1 : St) (H1 : Heap) (locs1 : List Loc), K S1 → sI D dA wX ad A H0 S1 H1 locs1 → W p l e R s m args below meth c H1 locs1 cells slots Q (F0 m (pc + 3) ls (rest))) : W p l e R s m args below meth c H locs cells slots Q (F0 m (pc) ls (.ref (ad k1) :: .ref (ad k0) :: rest)) := s_callSv (As := [.ref (ad k0), .ref (ad k1)]) (rest := rest) (K := K) hF (t_X1_copy l D dA ad S H.size k0 n0 k1 n1 K hk0 hd0 hn0 hk1 hd1 hn1 h) (va_cwS 2 hF.2.2.2.2 (lw_S q195 q196 q107 q197) rfl rfl rfl (by decide +kernel) ⟨by have h1 := hR.1; have h2 : (rmD 1 0 0).frames = 1 + 1 := rfl; omega, by have h1 := hR.2; have h2 : (rmD 1 0 0).locals = 64 * 1 + 64 := rfl; omega⟩) hK hI rfl hls rfl hW hdg hf kk
set_option maxHeartbeats 4000000 in
theorem t_X1_keeps (l : Launch) (D : va_G) (dA : Nat → ClassId) (ad : Nat → Nat) (S : St) (sz : Nat) (K : St → Prop) (h : w_X1_keeps S K) : Met l yX1_keeps (ws_ yX1_keeps cX1_keeps 2 (Option.none : Option Jvm.ClassFile.FieldType)) (rmD 2 0 0) (va_Pc [.ref (ad 130)] (sPre D dA wX ad S sz)) (va_Qv (fun S' => K S') (sPost D dA wX ad (wA wX ad S sz)) (wA wX ad S sz)) 0 0 (wA wX ad S sz) := by
  refine Met.ofW (cc := cX1_keeps) (maxL := 2) (ret := (Option.none : Option Jvm.ClassFile.FieldType)) (by decide) rfl ?_
  intro p e s m args below meth c s₁ B hml hv
  obtain ⟨rfl, hsz, hK, hC⟩ := hv
  have hx := B.exec
  have hb := B.bytes
  have hr := B.returns
  have hlocks := B.notSynchronized
  have hts := atoms_spec (ws := (ws_ yX1_keeps cX1_keeps 2 (Option.none : Option Jvm.ClassFile.FieldType))) B.pre
  have hts : ∀ w ∈ lw_all, w.before _ s = true := fun w h => hts w (List.mem_cons_of_mem _ h)
  have hown : s.vm.findClass RX1 = some m.cls := findClass_of_methodNamed B.named
  clear B
  subst hsz
  have hI : sI D dA wX ad (wA wX ad S s.heap.size) s.heap S s.heap [] := hC.start
  clear hC
  generalize wA wX ad S s.heap.size = A at hI ⊢
  have hl := lv_entry ([.ref (ad 130)] : List Value) (n := 2) (Nat.le_of_ble_eq_true rfl)
  rw [lg_entry_eq]
  generalize (lg_sl ([.ref (ad 130)] : List Value) ++ List.replicate (2 - (lg_sl ([.ref (ad 130)] : List Value)).length) Slot.unset).toArray = ls at hl ⊢
  have hl : lv_has ls 2 [(0, .ref (ad 130))] := hl
  have hF : CallFix p m c cX1_keeps 2 s _ lw_all RX1 := ⟨hx, hb, hml, hown, hts⟩
  have hR : (headSpec (ws_ yX1_keeps cX1_keeps 2 (Option.none : Option Jvm.ClassFile.FieldType)) (rmD 2 0 0)).room.frames = 2 + 1 ∧ (headSpec (ws_ yX1_keeps cX1_keeps 2 (Option.none : Option Jvm.ClassFile.FieldType)) (rmD 2 0 0)).room.locals = 64 * 2 + 64 := ⟨rfl, rfl⟩
  generalize (headSpec (ws_ yX1_keeps cX1_keeps 2 (Option.none : Option Jvm.ClassFile.FieldType)) (rmD 2 0 0)).room = R at hR ⊢
  generalize ([.ref (ad 130)] : List Value).toArray = args at hts hF ⊢
  generalize hQ : MQ below _ _ _ _ _ _ = Q
  have J52 : ∀ (S : St) (H : Heap) (locs : List Loc) (ls : Array Slot), sI D dA wX ad A s.heap S H locs → lv_has ls 2 [(0, .ref (ad 130))] → j_X1_keeps_52 S K → W p l e R s m args below meth c H locs 0 0 Q (F0 m 52 ls []) := by
    intro S H locs ls hI hl h
    unfold j_X1_keeps_52 at h
    refine lv_aload_n hx hb dX1_keeps_52 rfl (lv_at hl 0 rfl) ?_
    refine gXX1_21_130 hF hK hI dX1_keeps_53 ?_
    refine lv_aload_n hx hb dX1_keeps_56 rfl (lv_at hl 0 rfl) ?_
    refine gXX1_26_130 hF hK hI dX1_keeps_57 ?_
    refine lv_aload_n hx hb dX1_keeps_60 rfl (lv_at hl 0 rfl) ?_
    refine gXX1_9_130 hF hK hI dX1_keeps_61 ?_
    refine nr_iconst hx hb dX1_keeps_64 ?_
    refine s_iald hx hb hK hI 0 (by decide) wX_0 (by decide) (by decide) dX1_keeps_65 (fun f1 => ?_)
    replace h := h f1
    have f2 := h.1; replace h := h.2
    refine s_aald hx hb hK hI 132 (by decide) wX_132 ⟨rfl, rfl⟩ f1 f2 dX1_keeps_66 ?_
    refine cXX1_44 hF hK hI hl.1 hR (by decide) (Nat.le_of_ble_eq_true rfl) ⟨Nat.zero_le _, Nat.zero_le _⟩ (k0 := 3) (n0 := 91) (hk0 := (by decide)) (hd0 := wX_3) (hn0 := (by decide)) (k1 := (15 + Int.toNat (aI S 0 4))) (n1 := 91) (hk1 := (wX_rk132 f2)) (hd1 := (wX_rw132 f2)) (hn1 := (by decide)) h dX1_keeps_67 (fun S4 H locs h hI => ?_)
    refine lv_aload_n hx hb dX1_keeps_70 rfl (lv_at hl 0 rfl) ?_
    refine gXX1_9_130 hF hK hI dX1_keeps_71 ?_
    refine nr_iconst hx hb dX1_keeps_74 ?_
    refine lv_dup2_11 hx hb dX1_keeps_75 rfl rfl ?_
    refine s_iald hx hb hK hI 0 (by decide) wX_0 (by decide) (by decide) dX1_keeps_76 (fun f5 => ?_)
    replace h := h f5
    refine nr_iconst hx hb dX1_keeps_77 ?_
    have f6 := h.1; replace h := h.2
    refine nr_iadd hx hb dX1_keeps_78 ?_
    refine s_iast hx hb hK hI 0 (by decide) wX_0 (by decide) (by decide) f6 dX1_keeps_79 (fun S7 H locs eS7 hI => ?_)
    replace h := h S7 eS7
    rw [← hQ]; exact s_vret (K := K) hx hb hr hlocks hI  h dX1_keeps_80
  have J42 : ∀ (S : St) (H : Heap) (locs : List Loc) (ls : Array Slot), sI D dA wX ad A s.heap S H locs → lv_has ls 2 [(0, .ref (ad 130))] → j_X1_keeps_42 S K → W p l e R s m args below meth c H locs 0 0 Q (F0 m 42 ls []) := by
    intro S H locs ls hI hl h
    unfold j_X1_keeps_42 at h
    refine lv_aload_n hx hb dX1_keeps_42 rfl (lv_at hl 0 rfl) ?_
    refine gXX1_9_130 hF hK hI dX1_keeps_43 ?_
    refine nr_iconst hx hb dX1_keeps_46 ?_
    refine lv_dup2_11 hx hb dX1_keeps_47 rfl rfl ?_
    refine s_iald hx hb hK hI 0 (by decide) wX_0 (by decide) (by decide) dX1_keeps_48 (fun f8 => ?_)
    replace h := h f8
    refine nr_iconst hx hb dX1_keeps_49 ?_
    have f9 := h.1; replace h := h.2
    refine nr_isub hx hb dX1_keeps_50 ?_
    refine s_iast hx hb hK hI 0 (by decide) wX_0 (by decide) (by decide) f9 dX1_keeps_51 (fun S10 H locs eS10 hI => ?_)
    replace h := h S10 eS10
    exact J52 S10 _ _ _ hI (lv_sub hl [0] rfl) h
  have L13 : ∀ (n13 : Nat) (x1 : Int) (S : St) (H : Heap) (locs : List Loc) (ls : Array Slot), InR x1 → sI D dA wX ad A s.heap S H locs → lv_has ls 2 [(0, .ref (ad 130)), (1, iV x1)] → l_X1_keeps_13 K (fun (zS : St) => j_X1_keeps_42 zS K) n13 x1 S → W p l e R s m args below meth c H locs 0 0 Q (F0 m 13 ls []) := by
    intro n13
    induction n13 with
    | zero => intro x1 S H locs ls rx1 hI hl h; exact False.elim h
    | succ n13 ih13 =>
      intro x1 S H locs ls rx1 hI hl h
      unfold l_X1_keeps_13 at h
      refine lv_iload_n hx hb dX1_keeps_13 rfl (lv_at hl 1 rfl) ?_
      refine nr_bipush hx hb dX1_keeps_14 (by decide) ?_
      refine nr_icmp_ge hx hb rx1 (by decide) dX1_keeps_16 (tgt := 42) (by decide) (fun c11 => ?_) (fun c11 => ?_)
      · replace h := h.1 c11
        exact J42 S _ _ _ hI (lv_sub hl [0] rfl) h
      · replace h := h.2 c11
        refine lv_aload_n hx hb dX1_keeps_19 rfl (lv_at hl 0 rfl) ?_
        refine gXX1_26_130 hF hK hI dX1_keeps_20 ?_
        refine lv_iload_n hx hb dX1_keeps_23 rfl (lv_at hl 1 rfl) ?_
        have f12 := h.1; replace h := h.2
        refine s_aald hx hb hK hI 132 (by decide) wX_132 ⟨rfl, rfl⟩ rx1 f12 dX1_keeps_24 ?_
        refine lv_aload_n hx hb dX1_keeps_25 rfl (lv_at hl 0 rfl) ?_
        refine gXX1_26_130 hF hK hI dX1_keeps_26 ?_
        refine lv_iload_n hx hb dX1_keeps_29 rfl (lv_at hl 1 rfl) ?_
        refine nr_iconst hx hb dX1_keeps_30 ?_
        have f13 := h.1; replace h := h.2
        refine nr_isub hx hb dX1_keeps_31 ?_
        have f14 := h.1; replace h := h.2
        refine s_aald hx hb hK hI 132 (by decide) wX_132 ⟨rfl, rfl⟩ f13 f14 dX1_keeps_32 ?_
        refine cXX1_44 hF hK hI hl.1 hR (by decide) (Nat.le_of_ble_eq_true rfl) ⟨Nat.zero_le _, Nat.zero_le _⟩ (k0 := (15 + Int.toNat x1)) (n0 := 91) (hk0 := (wX_rk132 f12)) (hd0 := (wX_rw132 f12)) (hn0 := (by decide)) (k1 := (15 + Int.toNat (x1 - 1))) (n1 := 91) (hk1 := (wX_rk132 f14)) (hd1 := (wX_rw132 f14)) (hn1 := (by decide)) h dX1_keeps_33 (fun S16 H locs h hI => ?_)
        have f17 := h.1; replace h := h.2
        refine nr_iinc (lv' := [(1, iV (x1 + 1)), (0, .ref (ad 130))]) hx hb dX1_keeps_36 hl (k := 1) rfl (by decide) rfl (fun ls hl => ?_)
        refine lv_goto (tgt := 13) hx hb dX1_keeps_39 (by decide) ?_
        exact ih13 (x1 + 1) S16 _ _ _ f17 hI (lv_sub hl [1, 0] rfl) h
  unfold w_X1_keeps at h
  refine lv_aload_n hx hb dX1_keeps_0 rfl (lv_at hl 0 rfl) ?_
  refine gXX1_9_130 hF hK hI dX1_keeps_1 ?_
  refine nr_iconst hx hb dX1_keeps_4 ?_
  refine s_iald hx hb hK hI 0 (by decide) wX_0 (by decide) (by decide) dX1_keeps_5 (fun f18 => ?_)
  replace h := h f18
  refine nr_bipush hx hb dX1_keeps_6 (by decide) ?_
  refine nr_icmp_ne hx hb f18 (by decide) dX1_keeps_8 (tgt := 52) (by decide) (fun c19 => ?_) (fun c19 => ?_)
  · replace h := h.1 c19
    exact J52 S _ _ _ hI (lv_sub hl [0] rfl) h
  · replace h := h.2 c19
    refine nr_iconst hx hb dX1_keeps_11 ?_
    refine lv_istore_n (lv' := [(1, iV 1), (0, .ref (ad 130))]) hx hb dX1_keeps_12 rfl hl (by decide) rfl (fun ls hl => ?_)
    obtain ⟨n0, h⟩ := h
    exact L13 n0 1 S _ _ _ (by decide) hI (lv_sub hl [1, 0] rfl) h
set_option maxHeartbeats 4000000 in
theorem t_X_in (l : Launch) (x0 : Int) (x1 : Int) (x2 : Int) (K : Int → Prop) (rx0 : InR x0) (rx1 : InR x1) (rx2 : InR x2) (h : w_X_in x0 x1 x2 K) : Met l yX0_in (ws_ yX0_in cX0_in 3 (Option.some Jvm.ClassFile.FieldType.boolean)) (rmD 0 0 0) (va_Pc [iV x0, iV x1, iV x2] (fun _ => True)) (va_Qi (fun r (_ : Unit) => (r.toInt = 0 ∨ r.toInt = 1) ∧ K r.toInt) (fun _ _ => True) (fun _ => False)) 0 0 (fun _ => False) := by
  refine Met.ofW (cc := cX0_in) (maxL := 3) (ret := (Option.some Jvm.ClassFile.FieldType.boolean)) (by decide) rfl ?_
  intro p e s m args below meth c s₁ B hml hv
  obtain ⟨rfl, -⟩ := hv
  have hx := B.exec
  have hb := B.bytes
  have hr := B.returns
  have hlocks := B.notSynchronized
  have hts := atoms_spec (ws := (ws_ yX0_in cX0_in 3 (Option.some Jvm.ClassFile.FieldType.boolean))) B.pre
  have hts : ∀ w ∈ lw_all, w.before _ s = true := fun w h => hts w (List.mem_cons_of_mem _ h)
  have hown : s.vm.findClass RX0 = some m.cls := findClass_of_methodNamed B.named
  clear B
  have hI : va_S (fun _ => False) s.heap s.heap [] := va_S.rf
  have hl := lv_entry ([iV x0, iV x1, iV x2] : List Value) (n := 3) (Nat.le_of_ble_eq_true rfl)
  rw [lg_entry_eq]
  generalize (lg_sl ([iV x0, iV x1, iV x2] : List Value) ++ List.replicate (3 - (lg_sl ([iV x0, iV x1, iV x2] : List Value)).length) Slot.unset).toArray = ls at hl ⊢
  have hl : lv_has ls 3 [(0, iV x0), (1, iV x1), (2, iV x2)] := hl
  have hF : CallFix p m c cX0_in 3 s _ lw_all RX0 := ⟨hx, hb, hml, hown, hts⟩
  have hR : (headSpec (ws_ yX0_in cX0_in 3 (Option.some Jvm.ClassFile.FieldType.boolean)) (rmD 0 0 0)).room.frames = 0 + 1 ∧ (headSpec (ws_ yX0_in cX0_in 3 (Option.some Jvm.ClassFile.FieldType.boolean)) (rmD 0 0 0)).room.locals = 64 * 0 + 64 := ⟨rfl, rfl⟩
  generalize (headSpec (ws_ yX0_in cX0_in 3 (Option.some Jvm.ClassFile.FieldType.boolean)) (rmD 0 0 0)).room = R at hR ⊢
  generalize ([iV x0, iV x1, iV x2] : List Value).toArray = args at hts hF ⊢
  generalize hQ : MQ below _ _ _ _ _ _ = Q
  unfold w_X_in at h
  refine lv_iload_n hx hb dX0_in_0 rfl (lv_at hl 0 rfl) ?_
  refine lv_iload_n hx hb dX0_in_1 rfl (lv_at hl 1 rfl) ?_
  refine nr_icmp_lt hx hb rx0 rx1 dX0_in_2 (tgt := 14) (by decide) (fun c1 => ?_) (fun c1 => ?_)
  · replace h := h.1 c1
    refine nr_iconst hx hb dX0_in_14 ?_
    rw [← hQ]; exact p_zret (K := K) hx hb hr hlocks hI (by decide) h dX0_in_15
  · replace h := h.2 c1
    refine lv_iload_n hx hb dX0_in_5 rfl (lv_at hl 0 rfl) ?_
    refine lv_iload_n hx hb dX0_in_6 rfl (lv_at hl 2 rfl) ?_
    refine nr_icmp_gt hx hb rx0 rx2 dX0_in_7 (tgt := 14) (by decide) (fun c2 => ?_) (fun c2 => ?_)
    · replace h := h.1 c2
      refine nr_iconst hx hb dX0_in_14 ?_
      rw [← hQ]; exact p_zret (K := K) hx hb hr hlocks hI (by decide) h dX0_in_15
    · replace h := h.2 c2
      refine nr_iconst hx hb dX0_in_10 ?_
      refine lv_goto (tgt := 15) hx hb dX0_in_11 (by decide) ?_
      rw [← hQ]; exact p_zret (K := K) hx hb hr hlocks hI (by decide) h dX0_in_15
theorem gXX0_12_129 {p : Program} {l : Launch} {e : Env} {R : Room} {s : State} {m : MethodId} {args : Array Value} {below : List Frame} {meth : Method} {c : Code} {H : Heap} {locs : List Loc} {Q : State → Prop} {cc : ByteArray} {nL pc : Nat} {ls : Array Slot} {rest : List Value} {cells slots : Nat} {D : va_G} {dA : Nat → ClassId} {ad : Nat → Nat} {A : Nat → Prop} {H0 : Heap} {S : St} (hF : CallFix p m c cc nL s args lw_all RX0) (hK : gK D dA s) (hI : sI D dA wX ad A H0 S H locs) (hdg : decode cc pc = .ok (.getfield 12, 3)) (kk : W p l e R s m args below meth c H locs cells slots Q (F0 m (pc + 3) ls (.ref (ad 130) :: rest))) : W p l e R s m args below meth c H locs cells slots Q (F0 m (pc) ls (.ref (ad 129) :: rest)) := s_getr hF.1 hF.2.1 hF.2.2.2.2 hF.2.2.2.1 hK hI 129 (by decide) wX_129 rfl in_X0 0 (by decide) q204 rfl 130 rfl hdg kk
theorem gXX0_71_130 {p : Program} {l : Launch} {e : Env} {R : Room} {s : State} {m : MethodId} {args : Array Value} {below : List Frame} {meth : Method} {c : Code} {H : Heap} {locs : List Loc} {Q : State → Prop} {cc : ByteArray} {nL pc : Nat} {ls : Array Slot} {rest : List Value} {cells slots : Nat} {D : va_G} {dA : Nat → ClassId} {ad : Nat → Nat} {A : Nat → Prop} {H0 : Heap} {S : St} (hF : CallFix p m c cc nL s args lw_all RX0) (hK : gK D dA s) (hI : sI D dA wX ad A H0 S H locs) (hdg : decode cc pc = .ok (.getfield 71, 3)) (kk : W p l e R s m args below meth c H locs cells slots Q (F0 m (pc + 3) ls (.ref (ad 0) :: rest))) : W p l e R s m args below meth c H locs cells slots Q (F0 m (pc) ls (.ref (ad 130) :: rest)) := s_getrN hF.1 hF.2.1 hF.2.2.2.2 hF.2.2.2.1 hK hI 130 (by decide) wX_130 rfl in_X1 0 (by decide) (nFl_0 hK.2) rfl 0 rfl hdg kk
theorem cXX0_74 {p : Program} {l : Launch} {e : Env} {R : Room} {s : State} {m : MethodId} {args : Array Value} {below : List Frame} {meth : Method} {c : Code} {H : Heap} {locs : List Loc} {Q : State → Prop} {cc : ByteArray} {nL pc : Nat} {ls : Array Slot} {rest : List Value} {cells slots : Nat} {D : va_G} {dA : Nat → ClassId} {ad : Nat → Nat} {A : Nat → Prop} {H0 : Heap} {S : St} {dk : Nat} (hF : CallFix p m c cc nL s args lw_all RX0) (hK : gK D dA s) (hI : sI D dA wX ad A H0 S H locs) (hls : ls.size = nL) (hR : R.frames = dk + 1 ∧ R.locals = 64 * dk + 64) (hd : 0 + 1 ≤ dk) (hW : (rest.map fun v => v.category).sum ≤ 8) (hf : cells ≤ R.cells ∧ slots ≤ R.slots) {x0 : Int} {x1 : Int} {x2 : Int} {K : Int → Prop} (r0 : InR x0) (r1 : InR x1) (r2 : InR x2) (h : w_X_in x0 x1 x2 K) (hdg : decode cc pc = .ok (.invokestatic 74, 3)) (kk : ∀ (r : Int) (H1 : Heap) (locs1 : List Loc), (r = 0 ∨ r = 1) → K r → sI D dA wX ad A H0 S H1 locs1 → W p l e R s m args below meth c H1 locs1 cells slots Q (F0 m (pc + 3) ls (iV r :: rest))) : W p l e R s m args below meth c H locs cells slots Q (F0 m (pc) ls (iV x2 :: iV x1 :: iV x0 :: rest)) := s_callPz (As := [iV x0, iV x1, iV x2]) (rest := rest) hF (t_X_in l x0 x1 x2 K r0 r1 r2 h) (va_cwS 3 hF.2.2.2.2 (lw_S q275 q276 q106 q277) rfl rfl rfl (by decide +kernel) ⟨by have h1 := hR.1; have h2 : (rmD 0 0 0).frames = 0 + 1 := rfl; omega, by have h1 := hR.2; have h2 : (rmD 0 0 0).locals = 64 * 0 + 64 := rfl; omega⟩) hI rfl hls rfl hW hdg hf kk
theorem gXX0_81_130 {p : Program} {l : Launch} {e : Env} {R : Room} {s : State} {m : MethodId} {args : Array Value} {below : List Frame} {meth : Method} {c : Code} {H : Heap} {locs : List Loc} {Q : State → Prop} {cc : ByteArray} {nL pc : Nat} {ls : Array Slot} {rest : List Value} {cells slots : Nat} {D : va_G} {dA : Nat → ClassId} {ad : Nat → Nat} {A : Nat → Prop} {H0 : Heap} {S : St} (hF : CallFix p m c cc nL s args lw_all RX0) (hK : gK D dA s) (hI : sI D dA wX ad A H0 S H locs) (hdg : decode cc pc = .ok (.getfield 81, 3)) (kk : W p l e R s m args below meth c H locs cells slots Q (F0 m (pc + 3) ls (.ref (ad 1) :: rest))) : W p l e R s m args below meth c H locs cells slots Q (F0 m (pc) ls (.ref (ad 130) :: rest)) := s_getrN hF.1 hF.2.1 hF.2.2.2.2 hF.2.2.2.1 hK hI 130 (by decide) wX_130 rfl in_X1 1 (by decide) (nFl_1 hK.2) rfl 1 rfl hdg kk
theorem gXX0_90_130 {p : Program} {l : Launch} {e : Env} {R : Room} {s : State} {m : MethodId} {args : Array Value} {below : List Frame} {meth : Method} {c : Code} {H : Heap} {locs : List Loc} {Q : State → Prop} {cc : ByteArray} {nL pc : Nat} {ls : Array Slot} {rest : List Value} {cells slots : Nat} {D : va_G} {dA : Nat → ClassId} {ad : Nat → Nat} {A : Nat → Prop} {H0 : Heap} {S : St} (hF : CallFix p m c cc nL s args lw_all RX0) (hK : gK D dA s) (hI : sI D dA wX ad A H0 S H locs) (hdg : decode cc pc = .ok (.getfield 90, 3)) (kk : W p l e R s m args below meth c H locs cells slots Q (F0 m (pc + 3) ls (.ref (ad 2) :: rest))) : W p l e R s m args below meth c H locs cells slots Q (F0 m (pc) ls (.ref (ad 130) :: rest)) := s_getrN hF.1 hF.2.1 hF.2.2.2.2 hF.2.2.2.1 hK hI 130 (by decide) wX_130 rfl in_X1 2 (by decide) (nFl_2 hK.2) rfl 2 rfl hdg kk
set_option maxHeartbeats 4000000 in
theorem t_X_town (l : Launch) (D : va_G) (dA : Nat → ClassId) (ad : Nat → Nat) (S : St) (sz : Nat) (x1 : Int) (x2 : Int) (K : Int → St → Prop) (rx1 : InR x1) (rx2 : InR x2) (h : w_X_town x1 x2 S K) : Met l yX0_town (ws_ yX0_town cX0_town 4 (Option.some Jvm.ClassFile.FieldType.int)) (rmD 1 0 0) (va_Pc [.ref (ad 129), iV x1, iV x2] (sPre D dA wX ad S sz)) (va_Qi (fun r S' => K r.toInt S') (sPost D dA wX ad (wA wX ad S sz)) (wA wX ad S sz)) 0 0 (wA wX ad S sz) := by
  refine Met.ofW (cc := cX0_town) (maxL := 4) (ret := (Option.some Jvm.ClassFile.FieldType.int)) (by decide) rfl ?_
  intro p e s m args below meth c s₁ B hml hv
  obtain ⟨rfl, hsz, hK, hC⟩ := hv
  have hx := B.exec
  have hb := B.bytes
  have hr := B.returns
  have hlocks := B.notSynchronized
  have hts := atoms_spec (ws := (ws_ yX0_town cX0_town 4 (Option.some Jvm.ClassFile.FieldType.int))) B.pre
  have hts : ∀ w ∈ lw_all, w.before _ s = true := fun w h => hts w (List.mem_cons_of_mem _ h)
  have hown : s.vm.findClass RX0 = some m.cls := findClass_of_methodNamed B.named
  clear B
  subst hsz
  have hI : sI D dA wX ad (wA wX ad S s.heap.size) s.heap S s.heap [] := hC.start
  clear hC
  generalize wA wX ad S s.heap.size = A at hI ⊢
  have hl := lv_entry ([.ref (ad 129), iV x1, iV x2] : List Value) (n := 4) (Nat.le_of_ble_eq_true rfl)
  rw [lg_entry_eq]
  generalize (lg_sl ([.ref (ad 129), iV x1, iV x2] : List Value) ++ List.replicate (4 - (lg_sl ([.ref (ad 129), iV x1, iV x2] : List Value)).length) Slot.unset).toArray = ls at hl ⊢
  have hl : lv_has ls 4 [(0, .ref (ad 129)), (1, iV x1), (2, iV x2)] := hl
  have hF : CallFix p m c cX0_town 4 s _ lw_all RX0 := ⟨hx, hb, hml, hown, hts⟩
  have hR : (headSpec (ws_ yX0_town cX0_town 4 (Option.some Jvm.ClassFile.FieldType.int)) (rmD 1 0 0)).room.frames = 1 + 1 ∧ (headSpec (ws_ yX0_town cX0_town 4 (Option.some Jvm.ClassFile.FieldType.int)) (rmD 1 0 0)).room.locals = 64 * 1 + 64 := ⟨rfl, rfl⟩
  generalize (headSpec (ws_ yX0_town cX0_town 4 (Option.some Jvm.ClassFile.FieldType.int)) (rmD 1 0 0)).room = R at hR ⊢
  generalize ([.ref (ad 129), iV x1, iV x2] : List Value).toArray = args at hts hF ⊢
  generalize hQ : MQ below _ _ _ _ _ _ = Q
  unfold w_X_town at h
  refine lv_aload_n hx hb dX0_town_0 rfl (lv_at hl 0 rfl) ?_
  refine gXX0_12_129 hF hK hI dX0_town_1 ?_
  refine gXX0_71_130 hF hK hI dX0_town_4 ?_
  refine nr_iconst hx hb dX0_town_7 ?_
  refine s_iald hx hb hK hI 0 (by decide) wX_0 (by decide) (by decide) dX0_town_8 (fun f1 => ?_)
  replace h := h f1
  refine nr_topi (fun v2 ev2 => ?_)
  have rv2 : InR v2 := by rw [ev2]; exact f1
  replace h := h v2 ev2 rv2
  refine lv_istore_n (lv' := [(3, iV v2), (0, .ref (ad 129)), (1, iV x1), (2, iV x2)]) hx hb dX0_town_9 rfl hl (by decide) rfl (fun ls hl => ?_)
  refine lv_iload_n hx hb dX0_town_10 rfl (lv_at hl 2 rfl) ?_
  refine nr_iconst hx hb dX0_town_11 ?_
  refine nr_bipush hx hb dX0_town_12 (by decide) ?_
  refine cXX0_74 hF hK hI hl.1 hR (by decide) (Nat.le_of_ble_eq_true rfl) ⟨Nat.zero_le _, Nat.zero_le _⟩ rx1 (by decide) (by decide) h dX0_town_14 (fun r3 H locs fr3 h hI => ?_)
  replace h := h fr3
  have gr3 : InR r3 := kdP_R (k := 2) (by decide) fr3
  refine nr_if_eq hx hb gr3 dX0_town_17 (tgt := 36) (by decide) (fun c5 => ?_) (fun c5 => ?_)
  · replace h := h.1 c5
    refine nr_iconst hx hb dX0_town_36 ?_
    rw [← hQ]; exact s_iret (K := K) hx hb hr hlocks hI (by decide) h dX0_town_37
  · replace h := h.2 c5
    refine lv_iload_n hx hb dX0_town_20 rfl (lv_at hl 3 rfl) ?_
    refine nr_iconst hx hb dX0_town_21 ?_
    refine nr_bipush hx hb dX0_town_22 (by decide) ?_
    refine cXX0_74 hF hK hI hl.1 hR (by decide) (Nat.le_of_ble_eq_true rfl) ⟨Nat.zero_le _, Nat.zero_le _⟩ rx2 (by decide) (by decide) h dX0_town_24 (fun r6 H locs fr6 h hI => ?_)
    replace h := h fr6
    have gr6 : InR r6 := kdP_R (k := 2) (by decide) fr6
    refine nr_if_eq hx hb gr6 dX0_town_27 (tgt := 36) (by decide) (fun c8 => ?_) (fun c8 => ?_)
    · replace h := h.1 c8
      refine nr_iconst hx hb dX0_town_36 ?_
      rw [← hQ]; exact s_iret (K := K) hx hb hr hlocks hI (by decide) h dX0_town_37
    · replace h := h.2 c8
      refine lv_iload_n hx hb dX0_town_30 rfl (lv_at hl 0 rfl) ?_
      refine nr_bipush hx hb dX0_town_31 (by decide) ?_
      refine nr_icmp_ne hx hb rv2 (by decide) dX0_town_33 (tgt := 38) (by decide) (fun c9 => ?_) (fun c9 => ?_)
      · replace h := h.1 c9
        refine lv_aload_n hx hb dX0_town_38 rfl (lv_at hl 1 rfl) ?_
        refine gXX0_12_129 hF hK hI dX0_town_39 ?_
        refine gXX0_81_130 hF hK hI dX0_town_42 ?_
        refine lv_iload_n hx hb dX0_town_45 rfl (lv_at hl 0 rfl) ?_
        refine lv_iload_n hx hb dX0_town_46 rfl (lv_at hl 2 rfl) ?_
        have f10 := h.1; replace h := h.2
        refine s_iast hx hb hK hI 1 (by decide) wX_1 rv2 f10 rx1 dX0_town_47 (fun S11 H locs eS11 hI => ?_)
        replace h := h S11 eS11
        refine lv_aload_n hx hb dX0_town_48 rfl (lv_at hl 1 rfl) ?_
        refine gXX0_12_129 hF hK hI dX0_town_49 ?_
        refine gXX0_90_130 hF hK hI dX0_town_52 ?_
        refine lv_iload_n hx hb dX0_town_55 rfl (lv_at hl 0 rfl) ?_
        refine lv_iload_n hx hb dX0_town_56 rfl (lv_at hl 3 rfl) ?_
        have f12 := h.1; replace h := h.2
        refine s_iast hx hb hK hI 2 (by decide) wX_2 rv2 f12 rx2 dX0_town_57 (fun S13 H locs eS13 hI => ?_)
        replace h := h S13 eS13
        refine lv_aload_n hx hb dX0_town_58 rfl (lv_at hl 1 rfl) ?_
        refine gXX0_12_129 hF hK hI dX0_town_59 ?_
        refine gXX0_71_130 hF hK hI dX0_town_62 ?_
        refine nr_iconst hx hb dX0_town_65 ?_
        refine lv_dup2_11 hx hb dX0_town_66 rfl rfl ?_
        refine s_iald hx hb hK hI 0 (by decide) wX_0 (by decide) (by decide) dX0_town_67 (fun f14 => ?_)
        replace h := h f14
        refine nr_iconst hx hb dX0_town_68 ?_
        have f15 := h.1; replace h := h.2
        refine nr_iadd hx hb dX0_town_69 ?_
        refine s_iast hx hb hK hI 0 (by decide) wX_0 (by decide) (by decide) f15 dX0_town_70 (fun S16 H locs eS16 hI => ?_)
        replace h := h S16 eS16
        refine lv_iload_n hx hb dX0_town_71 rfl (lv_at hl 0 rfl) ?_
        rw [← hQ]; exact s_iret (K := K) hx hb hr hlocks hI rv2 h dX0_town_72
      · replace h := h.2 c9
        refine nr_iconst hx hb dX0_town_36 ?_
        rw [← hQ]; exact s_iret (K := K) hx hb hr hlocks hI (by decide) h dX0_town_37
set_option maxHeartbeats 4000000 in
theorem t_X_isTown (l : Launch) (D : va_G) (dA : Nat → ClassId) (ad : Nat → Nat) (S : St) (sz : Nat) (x1 : Int) (K : Int → Prop) (rx1 : InR x1) (h : w_X_isTown x1 S K) : Met l yX0_isTown (ws_ yX0_isTown cX0_isTown 2 (Option.some Jvm.ClassFile.FieldType.boolean)) (rmD 1 0 0) (va_Pc [.ref (ad 129), iV x1] (sPre D dA wX ad S sz)) (va_Qi (fun r S' => (r.toInt = 0 ∨ r.toInt = 1) ∧ (S' = S ∧ K r.toInt)) (sPost D dA wX ad (wA wX ad S sz)) (wA wX ad S sz)) 0 0 (wA wX ad S sz) := by
  refine Met.ofW (cc := cX0_isTown) (maxL := 2) (ret := (Option.some Jvm.ClassFile.FieldType.boolean)) (by decide) rfl ?_
  intro p e s m args below meth c s₁ B hml hv
  obtain ⟨rfl, hsz, hK, hC⟩ := hv
  have hx := B.exec
  have hb := B.bytes
  have hr := B.returns
  have hlocks := B.notSynchronized
  have hts := atoms_spec (ws := (ws_ yX0_isTown cX0_isTown 2 (Option.some Jvm.ClassFile.FieldType.boolean))) B.pre
  have hts : ∀ w ∈ lw_all, w.before _ s = true := fun w h => hts w (List.mem_cons_of_mem _ h)
  have hown : s.vm.findClass RX0 = some m.cls := findClass_of_methodNamed B.named
  clear B
  subst hsz
  have hI : sI D dA wX ad (wA wX ad S s.heap.size) s.heap S s.heap [] := hC.start
  clear hC
  generalize wA wX ad S s.heap.size = A at hI ⊢
  have hl := lv_entry ([.ref (ad 129), iV x1] : List Value) (n := 2) (Nat.le_of_ble_eq_true rfl)
  rw [lg_entry_eq]
  generalize (lg_sl ([.ref (ad 129), iV x1] : List Value) ++ List.replicate (2 - (lg_sl ([.ref (ad 129), iV x1] : List Value)).length) Slot.unset).toArray = ls at hl ⊢
  have hl : lv_has ls 2 [(0, .ref (ad 129)), (1, iV x1)] := hl
  have hF : CallFix p m c cX0_isTown 2 s _ lw_all RX0 := ⟨hx, hb, hml, hown, hts⟩
  have hR : (headSpec (ws_ yX0_isTown cX0_isTown 2 (Option.some Jvm.ClassFile.FieldType.boolean)) (rmD 1 0 0)).room.frames = 1 + 1 ∧ (headSpec (ws_ yX0_isTown cX0_isTown 2 (Option.some Jvm.ClassFile.FieldType.boolean)) (rmD 1 0 0)).room.locals = 64 * 1 + 64 := ⟨rfl, rfl⟩
  generalize (headSpec (ws_ yX0_isTown cX0_isTown 2 (Option.some Jvm.ClassFile.FieldType.boolean)) (rmD 1 0 0)).room = R at hR ⊢
  generalize ([.ref (ad 129), iV x1] : List Value).toArray = args at hts hF ⊢
  generalize hQ : MQ below _ _ _ _ _ _ = Q
  unfold w_X_isTown at h
  refine lv_iload_n hx hb dX0_isTown_0 rfl (lv_at hl 1 rfl) ?_
  refine nr_iconst hx hb dX0_isTown_1 ?_
  refine lv_aload_n hx hb dX0_isTown_2 rfl (lv_at hl 0 rfl) ?_
  refine gXX0_12_129 hF hK hI dX0_isTown_3 ?_
  refine gXX0_71_130 hF hK hI dX0_isTown_6 ?_
  refine nr_iconst hx hb dX0_isTown_9 ?_
  refine s_iald hx hb hK hI 0 (by decide) wX_0 (by decide) (by decide) dX0_isTown_10 (fun f1 => ?_)
  replace h := h f1
  refine nr_iconst hx hb dX0_isTown_11 ?_
  have f2 := h.1; replace h := h.2
  refine nr_isub hx hb dX0_isTown_12 ?_
  refine cXX0_74 hF hK hI hl.1 hR (by decide) (Nat.le_of_ble_eq_true rfl) ⟨Nat.zero_le _, Nat.zero_le _⟩ rx1 (by decide) f2 h dX0_isTown_13 (fun r3 H locs fr3 h hI => ?_)
  replace h := h fr3
  have gr3 : InR r3 := kdP_R (k := 2) (by decide) fr3
  rw [← hQ]; exact s_zret (K := fun r S' => S' = S ∧ K r) hx hb hr hlocks hI fr3 ⟨rfl, h⟩ dX0_isTown_16
theorem gXX0_78_130 {p : Program} {l : Launch} {e : Env} {R : Room} {s : State} {m : MethodId} {args : Array Value} {below : List Frame} {meth : Method} {c : Code} {H : Heap} {locs : List Loc} {Q : State → Prop} {cc : ByteArray} {nL pc : Nat} {ls : Array Slot} {rest : List Value} {cells slots : Nat} {D : va_G} {dA : Nat → ClassId} {ad : Nat → Nat} {A : Nat → Prop} {H0 : Heap} {S : St} (hF : CallFix p m c cc nL s args lw_all RX0) (hK : gK D dA s) (hI : sI D dA wX ad A H0 S H locs) (hdg : decode cc pc = .ok (.getfield 78, 3)) (kk : W p l e R s m args below meth c H locs cells slots Q (F0 m (pc + 3) ls (.ref (ad 3) :: rest))) : W p l e R s m args below meth c H locs cells slots Q (F0 m (pc) ls (.ref (ad 130) :: rest)) := s_getrN hF.1 hF.2.1 hF.2.2.2.2 hF.2.2.2.1 hK hI 130 (by decide) wX_130 rfl in_X1 3 (by decide) (nFl_3 hK.2) rfl 3 rfl hdg kk
set_option maxHeartbeats 4000000 in
theorem t_X_puts (l : Launch) (D : va_G) (dA : Nat → ClassId) (ad : Nat → Nat) (S : St) (sz : Nat) (x1 : Int) (x2 : Int) (x3 : Int) (K : St → Prop) (rx1 : InR x1) (rx2 : InR x2) (rx3 : InR x3) (h : w_X_puts x1 x2 x3 S K) : Met l yX0_puts (ws_ yX0_puts cX0_puts 4 (Option.none : Option Jvm.ClassFile.FieldType)) (rmD 0 0 0) (va_Pc [.ref (ad 129), iV x1, iV x2, iV x3] (sPre D dA wX ad S sz)) (va_Qv (fun S' => K S') (sPost D dA wX ad (wA wX ad S sz)) (wA wX ad S sz)) 0 0 (wA wX ad S sz) := by
  refine Met.ofW (cc := cX0_puts) (maxL := 4) (ret := (Option.none : Option Jvm.ClassFile.FieldType)) (by decide) rfl ?_
  intro p e s m args below meth c s₁ B hml hv
  obtain ⟨rfl, hsz, hK, hC⟩ := hv
  have hx := B.exec
  have hb := B.bytes
  have hr := B.returns
  have hlocks := B.notSynchronized
  have hts := atoms_spec (ws := (ws_ yX0_puts cX0_puts 4 (Option.none : Option Jvm.ClassFile.FieldType))) B.pre
  have hts : ∀ w ∈ lw_all, w.before _ s = true := fun w h => hts w (List.mem_cons_of_mem _ h)
  have hown : s.vm.findClass RX0 = some m.cls := findClass_of_methodNamed B.named
  clear B
  subst hsz
  have hI : sI D dA wX ad (wA wX ad S s.heap.size) s.heap S s.heap [] := hC.start
  clear hC
  generalize wA wX ad S s.heap.size = A at hI ⊢
  have hl := lv_entry ([.ref (ad 129), iV x1, iV x2, iV x3] : List Value) (n := 4) (Nat.le_of_ble_eq_true rfl)
  rw [lg_entry_eq]
  generalize (lg_sl ([.ref (ad 129), iV x1, iV x2, iV x3] : List Value) ++ List.replicate (4 - (lg_sl ([.ref (ad 129), iV x1, iV x2, iV x3] : List Value)).length) Slot.unset).toArray = ls at hl ⊢
  have hl : lv_has ls 4 [(0, .ref (ad 129)), (1, iV x1), (2, iV x2), (3, iV x3)] := hl
  have hF : CallFix p m c cX0_puts 4 s _ lw_all RX0 := ⟨hx, hb, hml, hown, hts⟩
  have hR : (headSpec (ws_ yX0_puts cX0_puts 4 (Option.none : Option Jvm.ClassFile.FieldType)) (rmD 0 0 0)).room.frames = 0 + 1 ∧ (headSpec (ws_ yX0_puts cX0_puts 4 (Option.none : Option Jvm.ClassFile.FieldType)) (rmD 0 0 0)).room.locals = 64 * 0 + 64 := ⟨rfl, rfl⟩
  generalize (headSpec (ws_ yX0_puts cX0_puts 4 (Option.none : Option Jvm.ClassFile.FieldType)) (rmD 0 0 0)).room = R at hR ⊢
  generalize ([.ref (ad 129), iV x1, iV x2, iV x3] : List Value).toArray = args at hts hF ⊢
  generalize hQ : MQ below _ _ _ _ _ _ = Q
  unfold w_X_puts at h
  refine lv_aload_n hx hb dX0_puts_0 rfl (lv_at hl 0 rfl) ?_
  refine gXX0_12_129 hF hK hI dX0_puts_1 ?_
  refine gXX0_78_130 hF hK hI dX0_puts_4 ?_
  refine lv_iload_n hx hb dX0_puts_7 rfl (lv_at hl 1 rfl) ?_
  refine nr_iconst hx hb dX0_puts_8 ?_
  have f1 := h.1; replace h := h.2
  refine nr_imul hx hb dX0_puts_9 ?_
  refine lv_iload_n hx hb dX0_puts_10 rfl (lv_at hl 2 rfl) ?_
  have f2 := h.1; replace h := h.2
  refine nr_iadd hx hb dX0_puts_11 ?_
  refine lv_iload_n hx hb dX0_puts_12 rfl (lv_at hl 3 rfl) ?_
  have f3 := h.1; replace h := h.2
  refine s_iast hx hb hK hI 3 (by decide) wX_3 f2 f3 rx3 dX0_puts_13 (fun S4 H locs eS4 hI => ?_)
  replace h := h S4 eS4
  rw [← hQ]; exact s_vret (K := K) hx hb hr hlocks hI  h dX0_puts_14
theorem gXX0_101_130 {p : Program} {l : Launch} {e : Env} {R : Room} {s : State} {m : MethodId} {args : Array Value} {below : List Frame} {meth : Method} {c : Code} {H : Heap} {locs : List Loc} {Q : State → Prop} {cc : ByteArray} {nL pc : Nat} {ls : Array Slot} {rest : List Value} {cells slots : Nat} {D : va_G} {dA : Nat → ClassId} {ad : Nat → Nat} {A : Nat → Prop} {H0 : Heap} {S : St} (hF : CallFix p m c cc nL s args lw_all RX0) (hK : gK D dA s) (hI : sI D dA wX ad A H0 S H locs) (hdg : decode cc pc = .ok (.getfield 101, 3)) (kk : W p l e R s m args below meth c H locs cells slots Q (F0 m (pc + 3) ls (.ref (ad 132) :: rest))) : W p l e R s m args below meth c H locs cells slots Q (F0 m (pc) ls (.ref (ad 130) :: rest)) := s_getrN hF.1 hF.2.1 hF.2.2.2.2 hF.2.2.2.1 hK hI 130 (by decide) wX_130 rfl in_X1 4 (by decide) (nFl_4 hK.2) rfl 132 rfl hdg kk
theorem cXX0_97 {p : Program} {l : Launch} {e : Env} {R : Room} {s : State} {m : MethodId} {args : Array Value} {below : List Frame} {meth : Method} {c : Code} {H : Heap} {locs : List Loc} {Q : State → Prop} {cc : ByteArray} {nL pc : Nat} {ls : Array Slot} {rest : List Value} {cells slots : Nat} {D : va_G} {dA : Nat → ClassId} {ad : Nat → Nat} {A : Nat → Prop} {H0 : Heap} {S : St} {dk : Nat} (hF : CallFix p m c cc nL s args lw_all RX0) (hK : gK D dA s) (hI : sI D dA wX ad A H0 S H locs) (hls : ls.size = nL) (hR : R.frames = dk + 1 ∧ R.locals = 64 * dk + 64) (hd : 0 + 1 ≤ dk) (hW : (rest.map fun v => v.category).sum ≤ 8) (hf : cells ≤ R.cells ∧ slots ≤ R.slots) {x1 : Int} {x2 : Int} {x3 : Int} {K : St → Prop} (r1 : InR x1) (r2 : InR x2) (r3 : InR x3) (h : w_X_puts x1 x2 x3 S K) (hdg : decode cc pc = .ok (.invokevirtual 97, 3)) (kk : ∀ (S1 : St) (H1 : Heap) (locs1 : List Loc), K S1 → sI D dA wX ad A H0 S1 H1 locs1 → W p l e R s m args below meth c H1 locs1 cells slots Q (F0 m (pc + 3) ls (rest))) : W p l e R s m args below meth c H locs cells slots Q (F0 m (pc) ls (iV x3 :: iV x2 :: iV x1 :: .ref (ad 129) :: rest)) := s_callVv (As := [iV x1, iV x2, iV x3]) (rest := rest) (K := K) hF (t_X_puts l D dA ad S H.size x1 x2 x3 K r1 r2 r3 h) (s_recv hK hI 129 (by decide) wX_129 rfl) (cwV 3 hF.2.2.2.2 (lw_V q286 q288 qs1 q106 q289) rfl rfl rfl (by decide +kernel) ⟨by have h1 := hR.1; have h2 : (rmD 0 0 0).frames = 0 + 1 := rfl; omega, by have h1 := hR.2; have h2 : (rmD 0 0 0).locals = 64 * 0 + 64 := rfl; omega⟩) hK hI rfl hls rfl hW hdg hf kk
theorem cXX0_93 {p : Program} {l : Launch} {e : Env} {R : Room} {s : State} {m : MethodId} {args : Array Value} {below : List Frame} {meth : Method} {c : Code} {H : Heap} {locs : List Loc} {Q : State → Prop} {cc : ByteArray} {nL pc : Nat} {ls : Array Slot} {rest : List Value} {cells slots : Nat} {D : va_G} {dA : Nat → ClassId} {ad : Nat → Nat} {A : Nat → Prop} {H0 : Heap} {S : St} {dk : Nat} (hF : CallFix p m c cc nL s args lw_all RX0) (hK : gK D dA s) (hI : sI D dA wX ad A H0 S H locs) (hls : ls.size = nL) (hR : R.frames = dk + 1 ∧ R.locals = 64 * dk + 64) (hd : 1 + 1 ≤ dk) (hW : (rest.map fun v => v.category).sum ≤ 8) (hf : cells ≤ R.cells ∧ slots ≤ R.slots) {x1 : Int} {K : Int → Prop} (r1 : InR x1) (h : w_X_isTown x1 S K) (hdg : decode cc pc = .ok (.invokevirtual 93, 3)) (kk : ∀ (r : Int) (H1 : Heap) (locs1 : List Loc), (r = 0 ∨ r = 1) → K r → sI D dA wX ad A H0 S H1 locs1 → W p l e R s m args below meth c H1 locs1 cells slots Q (F0 m (pc + 3) ls (iV r :: rest))) : W p l e R s m args below meth c H locs cells slots Q (F0 m (pc) ls (iV x1 :: .ref (ad 129) :: rest)) := s_callVz (As := [iV x1]) (rest := rest) (K := fun r S' => S' = S ∧ K r) hF (t_X_isTown l D dA ad S H.size x1 K r1 h) (s_recv hK hI 129 (by decide) wX_129 rfl) (cwV 1 hF.2.2.2.2 (lw_V q282 q284 qs0 q106 q285) rfl rfl rfl (by decide +kernel) ⟨by have h1 := hR.1; have h2 : (rmD 1 0 0).frames = 1 + 1 := rfl; omega, by have h1 := hR.2; have h2 : (rmD 1 0 0).locals = 64 * 1 + 64 := rfl; omega⟩) hK hI rfl hls rfl hW hdg hf (fun r S1 H1 locs1 f hk hI1 => by obtain ⟨rfl, hk⟩ := hk; exact kk r H1 locs1 f hk hI1)
set_option maxHeartbeats 4000000 in
theorem t_X_bone (l : Launch) (D : va_G) (dA : Nat → ClassId) (ad : Nat → Nat) (S : St) (sz : Nat) (x1 : Int) (x2 : Int) (x3 : Int) (K : Int → St → Prop) (rx1 : InR x1) (rx2 : InR x2) (rx3 : InR x3) (h : w_X_bone x1 x2 x3 S K) : Met l yX0_bone (ws_ yX0_bone cX0_bone 7 (Option.some Jvm.ClassFile.FieldType.int)) (rmD 2 1 5) (va_Pc [.ref (ad 129), iV x1, iV x2, iV x3] (sPre D dA wX ad S sz)) (va_Qi (fun r S' => K r.toInt S') (sPost D dA wX ad (wA wX ad S sz)) (wA wX ad S sz)) 1 5 (wA wX ad S sz) := by
  refine Met.ofW (cc := cX0_bone) (maxL := 7) (ret := (Option.some Jvm.ClassFile.FieldType.int)) (by decide) rfl ?_
  intro p e s m args below meth c s₁ B hml hv
  obtain ⟨rfl, hsz, hK, hC⟩ := hv
  have hx := B.exec
  have hb := B.bytes
  have hr := B.returns
  have hlocks := B.notSynchronized
  have hts := atoms_spec (ws := (ws_ yX0_bone cX0_bone 7 (Option.some Jvm.ClassFile.FieldType.int))) B.pre
  have hts : ∀ w ∈ lw_all, w.before _ s = true := fun w h => hts w (List.mem_cons_of_mem _ h)
  have hown : s.vm.findClass RX0 = some m.cls := findClass_of_methodNamed B.named
  clear B
  subst hsz
  have hI : sI D dA wX ad (wA wX ad S s.heap.size) s.heap S s.heap [] := hC.start
  clear hC
  generalize wA wX ad S s.heap.size = A at hI ⊢
  have hl := lv_entry ([.ref (ad 129), iV x1, iV x2, iV x3] : List Value) (n := 7) (Nat.le_of_ble_eq_true rfl)
  rw [lg_entry_eq]
  generalize (lg_sl ([.ref (ad 129), iV x1, iV x2, iV x3] : List Value) ++ List.replicate (7 - (lg_sl ([.ref (ad 129), iV x1, iV x2, iV x3] : List Value)).length) Slot.unset).toArray = ls at hl ⊢
  have hl : lv_has ls 7 [(0, .ref (ad 129)), (1, iV x1), (2, iV x2), (3, iV x3)] := hl
  have hF : CallFix p m c cX0_bone 7 s _ lw_all RX0 := ⟨hx, hb, hml, hown, hts⟩
  have hR : (headSpec (ws_ yX0_bone cX0_bone 7 (Option.some Jvm.ClassFile.FieldType.int)) (rmD 2 1 5)).room.frames = 2 + 1 ∧ (headSpec (ws_ yX0_bone cX0_bone 7 (Option.some Jvm.ClassFile.FieldType.int)) (rmD 2 1 5)).room.locals = 64 * 2 + 64 := ⟨rfl, rfl⟩
  have hcs : 1 ≤ (headSpec (ws_ yX0_bone cX0_bone 7 (Option.some Jvm.ClassFile.FieldType.int)) (rmD 2 1 5)).room.cells ∧ 5 ≤ (headSpec (ws_ yX0_bone cX0_bone 7 (Option.some Jvm.ClassFile.FieldType.int)) (rmD 2 1 5)).room.slots := ⟨Nat.le_of_ble_eq_true rfl, Nat.le_of_ble_eq_true rfl⟩
  generalize (headSpec (ws_ yX0_bone cX0_bone 7 (Option.some Jvm.ClassFile.FieldType.int)) (rmD 2 1 5)).room = R at hR hcs ⊢
  generalize ([.ref (ad 129), iV x1, iV x2, iV x3] : List Value).toArray = args at hts hF ⊢
  generalize hQ : MQ below _ _ _ _ _ _ = Q
  have J146 : ∀ (x4 : Int) (S : St) (H : Heap) (locs : List Loc) (ls : Array Slot), InR x4 → sI D dA wX ad A s.heap S H locs → lv_has ls 7 [(0, .ref (ad 129)), (4, iV x4)] → j_X_bone_146 x4 S K → W p l e R s m args below meth c H locs 1 5 Q (F0 m 146 ls []) := by
    intro x4 S H locs ls rx4 hI hl h
    unfold j_X_bone_146 at h
    refine lv_aload_n hx hb dX0_bone_146 rfl (lv_at hl 0 rfl) ?_
    refine gXX0_12_129 hF hK hI dX0_bone_147 ?_
    refine gXX0_71_130 hF hK hI dX0_bone_150 ?_
    refine nr_iconst hx hb dX0_bone_153 ?_
    refine lv_dup2_11 hx hb dX0_bone_154 rfl rfl ?_
    refine s_iald hx hb hK hI 0 (by decide) wX_0 (by decide) (by decide) dX0_bone_155 (fun f1 => ?_)
    replace h := h f1
    refine nr_iconst hx hb dX0_bone_156 ?_
    have f2 := h.1; replace h := h.2
    refine nr_iadd hx hb dX0_bone_157 ?_
    refine s_iast hx hb hK hI 0 (by decide) wX_0 (by decide) (by decide) f2 dX0_bone_158 (fun S3 H locs eS3 hI => ?_)
    replace h := h S3 eS3
    refine lv_iload hx hb dX0_bone_159 (lv_at hl 1 rfl) ?_
    rw [← hQ]; exact s_iret (K := K) hx hb hr hlocks hI rx4 h dX0_bone_161
  have L105 : ∀ (x4 : Int) (x5 : Nat), InR x4 → ∀ (n105 : Nat) (x6 : Int) (S : St) (H : Heap) (locs : List Loc) (ls : Array Slot), InR x6 → sI D dA wX ad A s.heap S H locs → lv_has ls 7 [(0, .ref (ad 129)), (4, iV x4), (5, .ref x5), (6, iV x6)] → l_X_bone_105 x4 x5 K (fun (zS : St) => j_X_bone_146 x4 zS K) n105 x6 S → W p l e R s m args below meth c H locs 1 5 Q (F0 m 105 ls []) := by
    intro x4 x5 rx4 n105
    induction n105 with
    | zero => intro x6 S H locs ls rx6 hI hl h; exact False.elim h
    | succ n105 ih105 =>
      intro x6 S H locs ls rx6 hI hl h
      unfold l_X_bone_105 at h
      refine lv_iload hx hb dX0_bone_105 (lv_at hl 3 rfl) ?_
      refine lv_aload_n hx hb dX0_bone_107 rfl (lv_at hl 0 rfl) ?_
      refine gXX0_12_129 hF hK hI dX0_bone_108 ?_
      refine gXX0_71_130 hF hK hI dX0_bone_111 ?_
      refine nr_iconst hx hb dX0_bone_114 ?_
      refine s_iald hx hb hK hI 0 (by decide) wX_0 (by decide) (by decide) dX0_bone_115 (fun f4 => ?_)
      replace h := h f4
      refine nr_icmp_ge hx hb rx6 f4 dX0_bone_116 (tgt := 146) (by decide) (fun c5 => ?_) (fun c5 => ?_)
      · replace h := h.1 c5
        exact J146 x4 S _ _ _ rx4 hI (lv_sub hl [0, 1] rfl) h
      · replace h := h.2 c5
        refine lv_aload hx hb dX0_bone_119 (lv_at hl 2 rfl) ?_
        refine nr_iconst hx hb dX0_bone_121 ?_
        refine lv_aload_n hx hb dX0_bone_122 rfl (lv_at hl 0 rfl) ?_
        refine gXX0_12_129 hF hK hI dX0_bone_123 ?_
        refine gXX0_101_130 hF hK hI dX0_bone_126 ?_
        refine lv_iload hx hb dX0_bone_129 (lv_at hl 3 rfl) ?_
        have f6 := h.1; replace h := h.2
        refine s_aald hx hb hK hI 132 (by decide) wX_132 ⟨rfl, rfl⟩ rx6 f6 dX0_bone_131 ?_
        refine lv_iload hx hb dX0_bone_132 (lv_at hl 1 rfl) ?_
        refine nr_iconst hx hb dX0_bone_134 ?_
        have f7 := h.1; replace h := h.2
        refine nr_imul hx hb dX0_bone_135 ?_
        refine nr_iconst hx hb dX0_bone_136 ?_
        obtain ⟨pn9, pf10, hp11, h⟩ := h
        have f12 := h.1; replace h := h.2
        refine s_pcpy hx hb (hl.1.trans hml.symm) hown hts q290 hK hI hp11 (15 + Int.toNat x6) (wX_rk132 f6) (wX_rw132 f6) (by decide) f7 (by decide) f12 (by have h1 := hR.1; have h2 := hR.2; omega) (Nat.le_of_ble_eq_true rfl) dX0_bone_137 (fun S8 H locs eS8 hI => ?_)
        replace h := h S8 eS8
        have f13 := h.1; replace h := h.2
        refine nr_iinc (lv' := [(6, iV (x6 + 1)), (0, .ref (ad 129)), (4, iV x4), (5, .ref x5)]) hx hb dX0_bone_140 hl (k := 3) rfl (by decide) rfl (fun ls hl => ?_)
        refine lv_goto (tgt := 105) hx hb dX0_bone_143 (by decide) ?_
        exact ih105 (x6 + 1) S8 _ _ _ f13 hI (lv_sub hl [1, 2, 3, 0] rfl) h
  have J102 : ∀ (x4 : Int) (x5 : Nat) (S : St) (H : Heap) (locs : List Loc) (ls : Array Slot), InR x4 → sI D dA wX ad A s.heap S H locs → lv_has ls 7 [(0, .ref (ad 129)), (4, iV x4), (5, .ref x5)] → j_X_bone_102 x4 x5 S K → W p l e R s m args below meth c H locs 1 5 Q (F0 m 102 ls []) := by
    intro x4 x5 S H locs ls rx4 hI hl h
    unfold j_X_bone_102 at h
    refine nr_iconst hx hb dX0_bone_102 ?_
    refine lv_istore (lv' := [(6, iV 0), (0, .ref (ad 129)), (4, iV x4), (5, .ref x5)]) hx hb dX0_bone_103 hl (by decide) rfl (fun ls hl => ?_)
    obtain ⟨n0, h⟩ := h
    exact L105 x4 x5 rx4 n0 0 S _ _ _ (by decide) hI (lv_sub hl [1, 2, 3, 0] rfl) h
  have L77 : ∀ (x4 : Int) (x5 : Nat), InR x4 → ∀ (n77 : Nat) (x6 : Int) (S : St) (H : Heap) (locs : List Loc) (ls : Array Slot), InR x6 → sI D dA wX ad A s.heap S H locs → lv_has ls 7 [(0, .ref (ad 129)), (4, iV x4), (5, .ref x5), (6, iV x6)] → l_X_bone_77 x4 x5 K (fun (zS : St) => j_X_bone_102 x4 x5 zS K) n77 x6 S → W p l e R s m args below meth c H locs 1 5 Q (F0 m 77 ls []) := by
    intro x4 x5 rx4 n77
    induction n77 with
    | zero => intro x6 S H locs ls rx6 hI hl h; exact False.elim h
    | succ n77 ih77 =>
      intro x6 S H locs ls rx6 hI hl h
      unfold l_X_bone_77 at h
      refine lv_iload hx hb dX0_bone_77 (lv_at hl 3 rfl) ?_
      refine nr_iconst hx hb dX0_bone_79 ?_
      refine nr_icmp_ge hx hb rx6 (by decide) dX0_bone_80 (tgt := 102) (by decide) (fun c14 => ?_) (fun c14 => ?_)
      · replace h := h.1 c14
        exact J102 x4 x5 S _ _ _ rx4 hI (lv_sub hl [0, 1, 2] rfl) h
      · replace h := h.2 c14
        refine lv_aload_n hx hb dX0_bone_83 rfl (lv_at hl 0 rfl) ?_
        refine lv_iload hx hb dX0_bone_84 (lv_at hl 1 rfl) ?_
        refine lv_iload hx hb dX0_bone_86 (lv_at hl 3 rfl) ?_
        refine lv_aload hx hb dX0_bone_88 (lv_at hl 2 rfl) ?_
        refine lv_iload hx hb dX0_bone_90 (lv_at hl 3 rfl) ?_
        obtain ⟨pn15, pf16, hp17, h⟩ := h
        have f18 := h.1; replace h := h.2
        refine s_pald hx hb hK hI hp17 rx6 f18 dX0_bone_92 (fun f19 => ?_)
        replace h := h f19
        refine cXX0_97 hF hK hI hl.1 hR (by decide) (Nat.le_of_ble_eq_true rfl) hcs rx4 rx6 f19 h dX0_bone_93 (fun S21 H locs h hI => ?_)
        have f22 := h.1; replace h := h.2
        refine nr_iinc (lv' := [(6, iV (x6 + 1)), (0, .ref (ad 129)), (4, iV x4), (5, .ref x5)]) hx hb dX0_bone_96 hl (k := 3) rfl (by decide) rfl (fun ls hl => ?_)
        refine lv_goto (tgt := 77) hx hb dX0_bone_99 (by decide) ?_
        exact ih77 (x6 + 1) S21 _ _ _ f22 hI (lv_sub hl [1, 2, 3, 0] rfl) h
  unfold w_X_bone at h
  refine lv_aload_n hx hb dX0_bone_0 rfl (lv_at hl 0 rfl) ?_
  refine gXX0_12_129 hF hK hI dX0_bone_1 ?_
  refine gXX0_71_130 hF hK hI dX0_bone_4 ?_
  refine nr_iconst hx hb dX0_bone_7 ?_
  refine s_iald hx hb hK hI 0 (by decide) wX_0 (by decide) (by decide) dX0_bone_8 (fun f23 => ?_)
  replace h := h f23
  refine nr_topi (fun v24 ev24 => ?_)
  have rv24 : InR v24 := by rw [ev24]; exact f23
  replace h := h v24 ev24 rv24
  refine lv_istore (lv' := [(4, iV v24), (0, .ref (ad 129)), (1, iV x1), (2, iV x2), (3, iV x3)]) hx hb dX0_bone_9 hl (by decide) rfl (fun ls hl => ?_)
  refine lv_iload_n hx hb dX0_bone_11 rfl (lv_at hl 2 rfl) ?_
  refine nr_iconst hx hb dX0_bone_12 ?_
  refine nr_bipush hx hb dX0_bone_13 (by decide) ?_
  refine cXX0_74 hF hK hI hl.1 hR (by decide) (Nat.le_of_ble_eq_true rfl) ⟨Nat.zero_le _, Nat.zero_le _⟩ rx1 (by decide) (by decide) h dX0_bone_15 (fun r25 H locs fr25 h hI => ?_)
  replace h := h fr25
  have gr25 : InR r25 := kdP_R (k := 2) (by decide) fr25
  refine nr_if_eq hx hb gr25 dX0_bone_18 (tgt := 47) (by decide) (fun c27 => ?_) (fun c27 => ?_)
  · replace h := h.1 c27
    refine nr_iconst hx hb dX0_bone_47 ?_
    refine W.widen (k := 1) (n := 5) (by decide) (by decide) ?_
    rw [← hQ]; exact s_iret (K := K) hx hb hr hlocks hI (by decide) h dX0_bone_48
  · replace h := h.2 c27
    refine lv_iload_n hx hb dX0_bone_21 rfl (lv_at hl 3 rfl) ?_
    refine nr_iconst hx hb dX0_bone_22 ?_
    refine nr_sipush hx hb dX0_bone_23 (by decide) ?_
    refine cXX0_74 hF hK hI hl.1 hR (by decide) (Nat.le_of_ble_eq_true rfl) ⟨Nat.zero_le _, Nat.zero_le _⟩ rx2 (by decide) (by decide) h dX0_bone_26 (fun r28 H locs fr28 h hI => ?_)
    replace h := h fr28
    have gr28 : InR r28 := kdP_R (k := 2) (by decide) fr28
    refine nr_if_eq hx hb gr28 dX0_bone_29 (tgt := 47) (by decide) (fun c30 => ?_) (fun c30 => ?_)
    · replace h := h.1 c30
      refine nr_iconst hx hb dX0_bone_47 ?_
      refine W.widen (k := 1) (n := 5) (by decide) (by decide) ?_
      rw [← hQ]; exact s_iret (K := K) hx hb hr hlocks hI (by decide) h dX0_bone_48
    · replace h := h.2 c30
      refine lv_aload_n hx hb dX0_bone_32 rfl (lv_at hl 1 rfl) ?_
      refine lv_iload_n hx hb dX0_bone_33 rfl (lv_at hl 4 rfl) ?_
      refine cXX0_93 hF hK hI hl.1 hR (by decide) (Nat.le_of_ble_eq_true rfl) ⟨Nat.zero_le _, Nat.zero_le _⟩ rx3 h dX0_bone_34 (fun r31 H locs fr31 h hI => ?_)
      replace h := h fr31
      have gr31 : InR r31 := kdP_R (k := 2) (by decide) fr31
      refine nr_if_eq hx hb gr31 dX0_bone_37 (tgt := 47) (by decide) (fun c33 => ?_) (fun c33 => ?_)
      · replace h := h.1 c33
        refine nr_iconst hx hb dX0_bone_47 ?_
        refine W.widen (k := 1) (n := 5) (by decide) (by decide) ?_
        rw [← hQ]; exact s_iret (K := K) hx hb hr hlocks hI (by decide) h dX0_bone_48
      · replace h := h.2 c33
        refine lv_iload hx hb dX0_bone_40 (lv_at hl 0 rfl) ?_
        refine nr_bipush hx hb dX0_bone_42 (by decide) ?_
        refine nr_icmp_ne hx hb rv24 (by decide) dX0_bone_44 (tgt := 49) (by decide) (fun c34 => ?_) (fun c34 => ?_)
        · replace h := h.1 c34
          refine nr_iconst hx hb dX0_bone_49 ?_
          refine s_newi hx hb (hts _ q185) hK hI (v := 5) (by decide) (by decide) (by have h1 := hcs.1; omega) (by have h1 := hcs.2; omega) dX0_bone_50 (fun q35 S36 H hqq35 eS36 hI => ?_)
          replace h := h q35 S36 hqq35 eS36
          refine W.widen (k := 1) (n := 5) (by decide) (by decide) ?_
          refine lv_dup hx hb dX0_bone_52 rfl ?_
          refine nr_iconst hx hb dX0_bone_53 ?_
          refine lv_iload_n hx hb dX0_bone_54 rfl (lv_at hl 2 rfl) ?_
          obtain ⟨pn37, pf38, hp39, h⟩ := h
          have f40 := h.1; replace h := h.2
          refine s_past hx hb hK hI hp39 (by decide) f40 rx1 dX0_bone_55 (fun S41 H locs eS41 hI => ?_)
          replace h := h S41 eS41
          refine lv_dup hx hb dX0_bone_56 rfl ?_
          refine nr_iconst hx hb dX0_bone_57 ?_
          refine lv_iload_n hx hb dX0_bone_58 rfl (lv_at hl 3 rfl) ?_
          obtain ⟨pn42, pf43, hp44, h⟩ := h
          have f45 := h.1; replace h := h.2
          refine s_past hx hb hK hI hp44 (by decide) f45 rx2 dX0_bone_59 (fun S46 H locs eS46 hI => ?_)
          replace h := h S46 eS46
          refine lv_dup hx hb dX0_bone_60 rfl ?_
          refine nr_iconst hx hb dX0_bone_61 ?_
          refine lv_iload_n hx hb dX0_bone_62 rfl (lv_at hl 4 rfl) ?_
          obtain ⟨pn47, pf48, hp49, h⟩ := h
          have f50 := h.1; replace h := h.2
          refine s_past hx hb hK hI hp49 (by decide) f50 rx3 dX0_bone_63 (fun S51 H locs eS51 hI => ?_)
          replace h := h S51 eS51
          refine lv_dup hx hb dX0_bone_64 rfl ?_
          refine nr_iconst hx hb dX0_bone_65 ?_
          refine lv_iload_n hx hb dX0_bone_66 rfl (lv_at hl 4 rfl) ?_
          obtain ⟨pn52, pf53, hp54, h⟩ := h
          have f55 := h.1; replace h := h.2
          refine s_past hx hb hK hI hp54 (by decide) f55 rx3 dX0_bone_67 (fun S56 H locs eS56 hI => ?_)
          replace h := h S56 eS56
          refine lv_dup hx hb dX0_bone_68 rfl ?_
          refine nr_iconst hx hb dX0_bone_69 ?_
          refine nr_iconst hx hb dX0_bone_70 ?_
          obtain ⟨pn57, pf58, hp59, h⟩ := h
          have f60 := h.1; replace h := h.2
          refine s_past hx hb hK hI hp59 (by decide) f60 (by decide) dX0_bone_71 (fun S61 H locs eS61 hI => ?_)
          replace h := h S61 eS61
          refine lv_astore (lv' := [(5, .ref q35), (4, iV v24), (0, .ref (ad 129)), (1, iV x1), (2, iV x2), (3, iV x3)]) hx hb dX0_bone_72 hl (by decide) rfl (fun ls hl => ?_)
          refine nr_iconst hx hb dX0_bone_74 ?_
          refine lv_istore (lv' := [(6, iV 0), (5, .ref q35), (4, iV v24), (0, .ref (ad 129)), (1, iV x1), (2, iV x2), (3, iV x3)]) hx hb dX0_bone_75 hl (by decide) rfl (fun ls hl => ?_)
          obtain ⟨n0, h⟩ := h
          exact L77 v24 q35 rv24 n0 0 S61 _ _ _ (by decide) hI (lv_sub hl [3, 2, 1, 0] rfl) h
        · replace h := h.2 c34
          refine nr_iconst hx hb dX0_bone_47 ?_
          refine W.widen (k := 1) (n := 5) (by decide) (by decide) ?_
          rw [← hQ]; exact s_iret (K := K) hx hb hr hlocks hI (by decide) h dX0_bone_48
set_option maxHeartbeats 4000000 in
theorem t_X_hasProof (l : Launch) (D : va_G) (dA : Nat → ClassId) (ad : Nat → Nat) (S : St) (sz : Nat) (x1 : Int) (x2 : Int) (K : Int → Prop) (rx1 : InR x1) (rx2 : InR x2) (h : w_X_hasProof x1 x2 S K) : Met l yX0_hasProof (ws_ yX0_hasProof cX0_hasProof 3 (Option.some Jvm.ClassFile.FieldType.boolean)) (rmD 0 0 0) (va_Pc [.ref (ad 129), iV x1, iV x2] (sPre D dA wX ad S sz)) (va_Qi (fun r S' => (r.toInt = 0 ∨ r.toInt = 1) ∧ (S' = S ∧ K r.toInt)) (sPost D dA wX ad (wA wX ad S sz)) (wA wX ad S sz)) 0 0 (wA wX ad S sz) := by
  refine Met.ofW (cc := cX0_hasProof) (maxL := 3) (ret := (Option.some Jvm.ClassFile.FieldType.boolean)) (by decide) rfl ?_
  intro p e s m args below meth c s₁ B hml hv
  obtain ⟨rfl, hsz, hK, hC⟩ := hv
  have hx := B.exec
  have hb := B.bytes
  have hr := B.returns
  have hlocks := B.notSynchronized
  have hts := atoms_spec (ws := (ws_ yX0_hasProof cX0_hasProof 3 (Option.some Jvm.ClassFile.FieldType.boolean))) B.pre
  have hts : ∀ w ∈ lw_all, w.before _ s = true := fun w h => hts w (List.mem_cons_of_mem _ h)
  have hown : s.vm.findClass RX0 = some m.cls := findClass_of_methodNamed B.named
  clear B
  subst hsz
  have hI : sI D dA wX ad (wA wX ad S s.heap.size) s.heap S s.heap [] := hC.start
  clear hC
  generalize wA wX ad S s.heap.size = A at hI ⊢
  have hl := lv_entry ([.ref (ad 129), iV x1, iV x2] : List Value) (n := 3) (Nat.le_of_ble_eq_true rfl)
  rw [lg_entry_eq]
  generalize (lg_sl ([.ref (ad 129), iV x1, iV x2] : List Value) ++ List.replicate (3 - (lg_sl ([.ref (ad 129), iV x1, iV x2] : List Value)).length) Slot.unset).toArray = ls at hl ⊢
  have hl : lv_has ls 3 [(0, .ref (ad 129)), (1, iV x1), (2, iV x2)] := hl
  have hF : CallFix p m c cX0_hasProof 3 s _ lw_all RX0 := ⟨hx, hb, hml, hown, hts⟩
  have hR : (headSpec (ws_ yX0_hasProof cX0_hasProof 3 (Option.some Jvm.ClassFile.FieldType.boolean)) (rmD 0 0 0)).room.frames = 0 + 1 ∧ (headSpec (ws_ yX0_hasProof cX0_hasProof 3 (Option.some Jvm.ClassFile.FieldType.boolean)) (rmD 0 0 0)).room.locals = 64 * 0 + 64 := ⟨rfl, rfl⟩
  generalize (headSpec (ws_ yX0_hasProof cX0_hasProof 3 (Option.some Jvm.ClassFile.FieldType.boolean)) (rmD 0 0 0)).room = R at hR ⊢
  generalize ([.ref (ad 129), iV x1, iV x2] : List Value).toArray = args at hts hF ⊢
  generalize hQ : MQ below _ _ _ _ _ _ = Q
  unfold w_X_hasProof at h
  refine lv_aload_n hx hb dX0_hasProof_0 rfl (lv_at hl 0 rfl) ?_
  refine gXX0_12_129 hF hK hI dX0_hasProof_1 ?_
  refine gXX0_78_130 hF hK hI dX0_hasProof_4 ?_
  refine nr_bipush hx hb dX0_hasProof_7 (by decide) ?_
  refine lv_iload_n hx hb dX0_hasProof_9 rfl (lv_at hl 1 rfl) ?_
  have f1 := h.1; replace h := h.2
  refine nr_iadd hx hb dX0_hasProof_10 ?_
  have f2 := h.1; replace h := h.2
  refine s_iald hx hb hK hI 3 (by decide) wX_3 f1 f2 dX0_hasProof_11 (fun f3 => ?_)
  replace h := h f3
  refine lv_iload_n hx hb dX0_hasProof_12 rfl (lv_at hl 2 rfl) ?_
  have f4 := h.1; replace h := h.2
  refine nr_ishr hx hb f4 f3 dX0_hasProof_13 ?_
  have f5 : InR ((aI S 3 (80 + x1)) / 2 ^ (Int.toNat x2)) := ni_shrR f3
  refine nr_iconst hx hb dX0_hasProof_14 ?_
  refine nr_mask hx hb 1 (by decide) (by decide) dX0_hasProof_15 ?_
  have f6 : InR (((aI S 3 (80 + x1)) / 2 ^ (Int.toNat x2)) % 2) := by omega
  refine nr_iconst hx hb dX0_hasProof_16 ?_
  refine nr_icmp_ne hx hb f6 (by decide) dX0_hasProof_17 (tgt := 24) (by decide) (fun c7 => ?_) (fun c7 => ?_)
  · replace h := h.1 c7
    refine nr_iconst hx hb dX0_hasProof_24 ?_
    rw [← hQ]; exact s_zret (K := fun r S' => S' = S ∧ K r) hx hb hr hlocks hI (by decide) ⟨rfl, h⟩ dX0_hasProof_25
  · replace h := h.2 c7
    refine nr_iconst hx hb dX0_hasProof_20 ?_
    refine lv_goto (tgt := 25) hx hb dX0_hasProof_21 (by decide) ?_
    rw [← hQ]; exact s_zret (K := fun r S' => S' = S ∧ K r) hx hb hr hlocks hI (by decide) ⟨rfl, h⟩ dX0_hasProof_25
set_option maxHeartbeats 4000000 in
theorem t_X_isBone (l : Launch) (D : va_G) (dA : Nat → ClassId) (ad : Nat → Nat) (S : St) (sz : Nat) (x1 : Int) (K : Int → Prop) (rx1 : InR x1) (h : w_X_isBone x1 S K) : Met l yX0_isBone (ws_ yX0_isBone cX0_isBone 2 (Option.some Jvm.ClassFile.FieldType.boolean)) (rmD 1 0 0) (va_Pc [.ref (ad 129), iV x1] (sPre D dA wX ad S sz)) (va_Qi (fun r S' => (r.toInt = 0 ∨ r.toInt = 1) ∧ (S' = S ∧ K r.toInt)) (sPost D dA wX ad (wA wX ad S sz)) (wA wX ad S sz)) 0 0 (wA wX ad S sz) := by
  refine Met.ofW (cc := cX0_isBone) (maxL := 2) (ret := (Option.some Jvm.ClassFile.FieldType.boolean)) (by decide) rfl ?_
  intro p e s m args below meth c s₁ B hml hv
  obtain ⟨rfl, hsz, hK, hC⟩ := hv
  have hx := B.exec
  have hb := B.bytes
  have hr := B.returns
  have hlocks := B.notSynchronized
  have hts := atoms_spec (ws := (ws_ yX0_isBone cX0_isBone 2 (Option.some Jvm.ClassFile.FieldType.boolean))) B.pre
  have hts : ∀ w ∈ lw_all, w.before _ s = true := fun w h => hts w (List.mem_cons_of_mem _ h)
  have hown : s.vm.findClass RX0 = some m.cls := findClass_of_methodNamed B.named
  clear B
  subst hsz
  have hI : sI D dA wX ad (wA wX ad S s.heap.size) s.heap S s.heap [] := hC.start
  clear hC
  generalize wA wX ad S s.heap.size = A at hI ⊢
  have hl := lv_entry ([.ref (ad 129), iV x1] : List Value) (n := 2) (Nat.le_of_ble_eq_true rfl)
  rw [lg_entry_eq]
  generalize (lg_sl ([.ref (ad 129), iV x1] : List Value) ++ List.replicate (2 - (lg_sl ([.ref (ad 129), iV x1] : List Value)).length) Slot.unset).toArray = ls at hl ⊢
  have hl : lv_has ls 2 [(0, .ref (ad 129)), (1, iV x1)] := hl
  have hF : CallFix p m c cX0_isBone 2 s _ lw_all RX0 := ⟨hx, hb, hml, hown, hts⟩
  have hR : (headSpec (ws_ yX0_isBone cX0_isBone 2 (Option.some Jvm.ClassFile.FieldType.boolean)) (rmD 1 0 0)).room.frames = 1 + 1 ∧ (headSpec (ws_ yX0_isBone cX0_isBone 2 (Option.some Jvm.ClassFile.FieldType.boolean)) (rmD 1 0 0)).room.locals = 64 * 1 + 64 := ⟨rfl, rfl⟩
  generalize (headSpec (ws_ yX0_isBone cX0_isBone 2 (Option.some Jvm.ClassFile.FieldType.boolean)) (rmD 1 0 0)).room = R at hR ⊢
  generalize ([.ref (ad 129), iV x1] : List Value).toArray = args at hts hF ⊢
  generalize hQ : MQ below _ _ _ _ _ _ = Q
  unfold w_X_isBone at h
  refine lv_iload_n hx hb dX0_isBone_0 rfl (lv_at hl 1 rfl) ?_
  refine nr_iconst hx hb dX0_isBone_1 ?_
  refine lv_aload_n hx hb dX0_isBone_2 rfl (lv_at hl 0 rfl) ?_
  refine gXX0_12_129 hF hK hI dX0_isBone_3 ?_
  refine gXX0_71_130 hF hK hI dX0_isBone_6 ?_
  refine nr_iconst hx hb dX0_isBone_9 ?_
  refine s_iald hx hb hK hI 0 (by decide) wX_0 (by decide) (by decide) dX0_isBone_10 (fun f1 => ?_)
  replace h := h f1
  refine nr_iconst hx hb dX0_isBone_11 ?_
  have f2 := h.1; replace h := h.2
  refine nr_isub hx hb dX0_isBone_12 ?_
  refine cXX0_74 hF hK hI hl.1 hR (by decide) (Nat.le_of_ble_eq_true rfl) ⟨Nat.zero_le _, Nat.zero_le _⟩ rx1 (by decide) f2 h dX0_isBone_13 (fun r3 H locs fr3 h hI => ?_)
  replace h := h fr3
  have gr3 : InR r3 := kdP_R (k := 2) (by decide) fr3
  rw [← hQ]; exact s_zret (K := fun r S' => S' = S ∧ K r) hx hb hr hlocks hI fr3 ⟨rfl, h⟩ dX0_isBone_16
theorem cXX0_110 {p : Program} {l : Launch} {e : Env} {R : Room} {s : State} {m : MethodId} {args : Array Value} {below : List Frame} {meth : Method} {c : Code} {H : Heap} {locs : List Loc} {Q : State → Prop} {cc : ByteArray} {nL pc : Nat} {ls : Array Slot} {rest : List Value} {cells slots : Nat} {D : va_G} {dA : Nat → ClassId} {ad : Nat → Nat} {A : Nat → Prop} {H0 : Heap} {S : St} {dk : Nat} (hF : CallFix p m c cc nL s args lw_all RX0) (hK : gK D dA s) (hI : sI D dA wX ad A H0 S H locs) (hls : ls.size = nL) (hR : R.frames = dk + 1 ∧ R.locals = 64 * dk + 64) (hd : 1 + 1 ≤ dk) (hW : (rest.map fun v => v.category).sum ≤ 8) (hf : cells ≤ R.cells ∧ slots ≤ R.slots) {x1 : Int} {K : Int → Prop} (r1 : InR x1) (h : w_X_isBone x1 S K) (hdg : decode cc pc = .ok (.invokevirtual 110, 3)) (kk : ∀ (r : Int) (H1 : Heap) (locs1 : List Loc), (r = 0 ∨ r = 1) → K r → sI D dA wX ad A H0 S H1 locs1 → W p l e R s m args below meth c H1 locs1 cells slots Q (F0 m (pc + 3) ls (iV r :: rest))) : W p l e R s m args below meth c H locs cells slots Q (F0 m (pc) ls (iV x1 :: .ref (ad 129) :: rest)) := s_callVz (As := [iV x1]) (rest := rest) (K := fun r S' => S' = S ∧ K r) hF (t_X_isBone l D dA ad S H.size x1 K r1 h) (s_recv hK hI 129 (by decide) wX_129 rfl) (cwV 1 hF.2.2.2.2 (lw_V q295 q297 qs2 q106 q298) rfl rfl rfl (by decide +kernel) ⟨by have h1 := hR.1; have h2 : (rmD 1 0 0).frames = 1 + 1 := rfl; omega, by have h1 := hR.2; have h2 : (rmD 1 0 0).locals = 64 * 1 + 64 := rfl; omega⟩) hK hI rfl hls rfl hW hdg hf (fun r S1 H1 locs1 f hk hI1 => by obtain ⟨rfl, hk⟩ := hk; exact kk r H1 locs1 f hk hI1)
theorem cXX0_113 {p : Program} {l : Launch} {e : Env} {R : Room} {s : State} {m : MethodId} {args : Array Value} {below : List Frame} {meth : Method} {c : Code} {H : Heap} {locs : List Loc} {Q : State → Prop} {cc : ByteArray} {nL pc : Nat} {ls : Array Slot} {rest : List Value} {cells slots : Nat} {D : va_G} {dA : Nat → ClassId} {ad : Nat → Nat} {A : Nat → Prop} {H0 : Heap} {S : St} {dk : Nat} (hF : CallFix p m c cc nL s args lw_all RX0) (hK : gK D dA s) (hI : sI D dA wX ad A H0 S H locs) (hls : ls.size = nL) (hR : R.frames = dk + 1 ∧ R.locals = 64 * dk + 64) (hd : 0 + 1 ≤ dk) (hW : (rest.map fun v => v.category).sum ≤ 8) (hf : cells ≤ R.cells ∧ slots ≤ R.slots) {x1 : Int} {x2 : Int} {K : Int → Prop} (r1 : InR x1) (r2 : InR x2) (h : w_X_hasProof x1 x2 S K) (hdg : decode cc pc = .ok (.invokevirtual 113, 3)) (kk : ∀ (r : Int) (H1 : Heap) (locs1 : List Loc), (r = 0 ∨ r = 1) → K r → sI D dA wX ad A H0 S H1 locs1 → W p l e R s m args below meth c H1 locs1 cells slots Q (F0 m (pc + 3) ls (iV r :: rest))) : W p l e R s m args below meth c H locs cells slots Q (F0 m (pc) ls (iV x2 :: iV x1 :: .ref (ad 129) :: rest)) := s_callVz (As := [iV x1, iV x2]) (rest := rest) (K := fun r S' => S' = S ∧ K r) hF (t_X_hasProof l D dA ad S H.size x1 x2 K r1 r2 h) (s_recv hK hI 129 (by decide) wX_129 rfl) (cwV 2 hF.2.2.2.2 (lw_V q299 q301 qs3 q106 q302) rfl rfl rfl (by decide +kernel) ⟨by have h1 := hR.1; have h2 : (rmD 0 0 0).frames = 0 + 1 := rfl; omega, by have h1 := hR.2; have h2 : (rmD 0 0 0).locals = 64 * 0 + 64 := rfl; omega⟩) hK hI rfl hls rfl hW hdg hf (fun r S1 H1 locs1 f hk hI1 => by obtain ⟨rfl, hk⟩ := hk; exact kk r H1 locs1 f hk hI1)
theorem cXX0_117 {p : Program} {l : Launch} {e : Env} {R : Room} {s : State} {m : MethodId} {args : Array Value} {below : List Frame} {meth : Method} {c : Code} {H : Heap} {locs : List Loc} {Q : State → Prop} {cc : ByteArray} {nL pc : Nat} {ls : Array Slot} {rest : List Value} {cells slots : Nat} {D : va_G} {dA : Nat → ClassId} {ad : Nat → Nat} {A : Nat → Prop} {H0 : Heap} {S : St} {dk : Nat} (hF : CallFix p m c cc nL s args lw_all RX0) (hK : gK D dA s) (hI : sI D dA wX ad A H0 S H locs) (hls : ls.size = nL) (hR : R.frames = dk + 1 ∧ R.locals = 64 * dk + 64) (hd : 2 + 1 ≤ dk) (hW : (rest.map fun v => v.category).sum ≤ 8) (hf : cells ≤ R.cells ∧ slots ≤ R.slots) {K : St → Prop} (h : w_X1_keeps S K) (hdg : decode cc pc = .ok (.invokevirtual 117, 3)) (kk : ∀ (S1 : St) (H1 : Heap) (locs1 : List Loc), K S1 → sI D dA wX ad A H0 S1 H1 locs1 → W p l e R s m args below meth c H1 locs1 cells slots Q (F0 m (pc + 3) ls (rest))) : W p l e R s m args below meth c H locs cells slots Q (F0 m (pc) ls (.ref (ad 130) :: rest)) := s_callVv (As := []) (rest := rest) (K := K) hF (t_X1_keeps l D dA ad S H.size K h) (s_recv hK hI 130 (by decide) wX_130 rfl) (cwV 0 hF.2.2.2.2 (lw_V q303 q304 q305 q107 q306) rfl rfl rfl (by decide +kernel) ⟨by have h1 := hR.1; have h2 : (rmD 2 0 0).frames = 2 + 1 := rfl; omega, by have h1 := hR.2; have h2 : (rmD 2 0 0).locals = 64 * 2 + 64 := rfl; omega⟩) hK hI rfl hls rfl hW hdg hf kk
set_option maxHeartbeats 4000000 in
theorem t_X_prove (l : Launch) (D : va_G) (dA : Nat → ClassId) (ad : Nat → Nat) (S : St) (sz : Nat) (x1 : Int) (x2 : Int) (K : Int → St → Prop) (rx1 : InR x1) (rx2 : InR x2) (h : w_X_prove x1 x2 S K) : Met l yX0_prove (ws_ yX0_prove cX0_prove 3 (Option.some Jvm.ClassFile.FieldType.boolean)) (rmD 3 0 0) (va_Pc [.ref (ad 129), iV x1, iV x2] (sPre D dA wX ad S sz)) (va_Qi (fun r S' => (r.toInt = 0 ∨ r.toInt = 1) ∧ (K r.toInt S')) (sPost D dA wX ad (wA wX ad S sz)) (wA wX ad S sz)) 0 0 (wA wX ad S sz) := by
  refine Met.ofW (cc := cX0_prove) (maxL := 3) (ret := (Option.some Jvm.ClassFile.FieldType.boolean)) (by decide) rfl ?_
  intro p e s m args below meth c s₁ B hml hv
  obtain ⟨rfl, hsz, hK, hC⟩ := hv
  have hx := B.exec
  have hb := B.bytes
  have hr := B.returns
  have hlocks := B.notSynchronized
  have hts := atoms_spec (ws := (ws_ yX0_prove cX0_prove 3 (Option.some Jvm.ClassFile.FieldType.boolean))) B.pre
  have hts : ∀ w ∈ lw_all, w.before _ s = true := fun w h => hts w (List.mem_cons_of_mem _ h)
  have hown : s.vm.findClass RX0 = some m.cls := findClass_of_methodNamed B.named
  clear B
  subst hsz
  have hI : sI D dA wX ad (wA wX ad S s.heap.size) s.heap S s.heap [] := hC.start
  clear hC
  generalize wA wX ad S s.heap.size = A at hI ⊢
  have hl := lv_entry ([.ref (ad 129), iV x1, iV x2] : List Value) (n := 3) (Nat.le_of_ble_eq_true rfl)
  rw [lg_entry_eq]
  generalize (lg_sl ([.ref (ad 129), iV x1, iV x2] : List Value) ++ List.replicate (3 - (lg_sl ([.ref (ad 129), iV x1, iV x2] : List Value)).length) Slot.unset).toArray = ls at hl ⊢
  have hl : lv_has ls 3 [(0, .ref (ad 129)), (1, iV x1), (2, iV x2)] := hl
  have hF : CallFix p m c cX0_prove 3 s _ lw_all RX0 := ⟨hx, hb, hml, hown, hts⟩
  have hR : (headSpec (ws_ yX0_prove cX0_prove 3 (Option.some Jvm.ClassFile.FieldType.boolean)) (rmD 3 0 0)).room.frames = 3 + 1 ∧ (headSpec (ws_ yX0_prove cX0_prove 3 (Option.some Jvm.ClassFile.FieldType.boolean)) (rmD 3 0 0)).room.locals = 64 * 3 + 64 := ⟨rfl, rfl⟩
  generalize (headSpec (ws_ yX0_prove cX0_prove 3 (Option.some Jvm.ClassFile.FieldType.boolean)) (rmD 3 0 0)).room = R at hR ⊢
  generalize ([.ref (ad 129), iV x1, iV x2] : List Value).toArray = args at hts hF ⊢
  generalize hQ : MQ below _ _ _ _ _ _ = Q
  unfold w_X_prove at h
  refine lv_aload_n hx hb dX0_prove_0 rfl (lv_at hl 0 rfl) ?_
  refine lv_iload_n hx hb dX0_prove_1 rfl (lv_at hl 1 rfl) ?_
  refine cXX0_93 hF hK hI hl.1 hR (by decide) (Nat.le_of_ble_eq_true rfl) ⟨Nat.zero_le _, Nat.zero_le _⟩ rx1 h dX0_prove_2 (fun r1 H locs fr1 h hI => ?_)
  replace h := h fr1
  have gr1 : InR r1 := kdP_R (k := 2) (by decide) fr1
  refine nr_if_eq hx hb gr1 dX0_prove_5 (tgt := 25) (by decide) (fun c3 => ?_) (fun c3 => ?_)
  · replace h := h.1 c3
    refine nr_iconst hx hb dX0_prove_25 ?_
    rw [← hQ]; exact s_zret (K := K) hx hb hr hlocks hI (by decide) h dX0_prove_26
  · replace h := h.2 c3
    refine lv_aload_n hx hb dX0_prove_8 rfl (lv_at hl 0 rfl) ?_
    refine lv_iload_n hx hb dX0_prove_9 rfl (lv_at hl 2 rfl) ?_
    refine cXX0_110 hF hK hI hl.1 hR (by decide) (Nat.le_of_ble_eq_true rfl) ⟨Nat.zero_le _, Nat.zero_le _⟩ rx2 h dX0_prove_10 (fun r4 H locs fr4 h hI => ?_)
    replace h := h fr4
    have gr4 : InR r4 := kdP_R (k := 2) (by decide) fr4
    refine nr_if_eq hx hb gr4 dX0_prove_13 (tgt := 25) (by decide) (fun c6 => ?_) (fun c6 => ?_)
    · replace h := h.1 c6
      refine nr_iconst hx hb dX0_prove_25 ?_
      rw [← hQ]; exact s_zret (K := K) hx hb hr hlocks hI (by decide) h dX0_prove_26
    · replace h := h.2 c6
      refine lv_aload_n hx hb dX0_prove_16 rfl (lv_at hl 0 rfl) ?_
      refine lv_iload_n hx hb dX0_prove_17 rfl (lv_at hl 1 rfl) ?_
      refine lv_iload_n hx hb dX0_prove_18 rfl (lv_at hl 2 rfl) ?_
      refine cXX0_113 hF hK hI hl.1 hR (by decide) (Nat.le_of_ble_eq_true rfl) ⟨Nat.zero_le _, Nat.zero_le _⟩ rx1 rx2 h dX0_prove_19 (fun r7 H locs fr7 h hI => ?_)
      replace h := h fr7
      have gr7 : InR r7 := kdP_R (k := 2) (by decide) fr7
      refine nr_if_eq hx hb gr7 dX0_prove_22 (tgt := 27) (by decide) (fun c9 => ?_) (fun c9 => ?_)
      · replace h := h.1 c9
        refine lv_aload_n hx hb dX0_prove_27 rfl (lv_at hl 0 rfl) ?_
        refine gXX0_12_129 hF hK hI dX0_prove_28 ?_
        refine cXX0_117 hF hK hI hl.1 hR (by decide) (Nat.le_of_ble_eq_true rfl) ⟨Nat.zero_le _, Nat.zero_le _⟩ h dX0_prove_31 (fun S11 H locs h hI => ?_)
        refine lv_aload_n hx hb dX0_prove_34 rfl (lv_at hl 0 rfl) ?_
        refine gXX0_12_129 hF hK hI dX0_prove_35 ?_
        refine gXX0_78_130 hF hK hI dX0_prove_38 ?_
        refine nr_bipush hx hb dX0_prove_41 (by decide) ?_
        refine lv_iload_n hx hb dX0_prove_43 rfl (lv_at hl 1 rfl) ?_
        have f12 := h.1; replace h := h.2
        refine nr_iadd hx hb dX0_prove_44 ?_
        refine lv_dup2_11 hx hb dX0_prove_45 rfl rfl ?_
        have f13 := h.1; replace h := h.2
        refine s_iald hx hb hK hI 3 (by decide) wX_3 f12 f13 dX0_prove_46 (fun f14 => ?_)
        replace h := h f14
        refine nr_iconst hx hb dX0_prove_47 ?_
        refine lv_iload_n hx hb dX0_prove_48 rfl (lv_at hl 2 rfl) ?_
        have f15 := h.1; replace h := h.2
        have f16 := h.1; replace h := h.2
        refine nr_ishl hx hb f15 f16 dX0_prove_49 ?_
        refine nr_ior hx hb dX0_prove_50 ?_
        have f17 := h.1; replace h := h.2
        refine s_iast hx hb hK hI 3 (by decide) wX_3 f12 f17 (iOr_R _ _) dX0_prove_51 (fun S18 H locs eS18 hI => ?_)
        replace h := h S18 eS18
        refine nr_iconst hx hb dX0_prove_52 ?_
        rw [← hQ]; exact s_zret (K := K) hx hb hr hlocks hI (by decide) h dX0_prove_53
      · replace h := h.2 c9
        refine nr_iconst hx hb dX0_prove_25 ?_
        rw [← hQ]; exact s_zret (K := K) hx hb hr hlocks hI (by decide) h dX0_prove_26
theorem gXX0_19_129 {p : Program} {l : Launch} {e : Env} {R : Room} {s : State} {m : MethodId} {args : Array Value} {below : List Frame} {meth : Method} {c : Code} {H : Heap} {locs : List Loc} {Q : State → Prop} {cc : ByteArray} {nL pc : Nat} {ls : Array Slot} {rest : List Value} {cells slots : Nat} {D : va_G} {dA : Nat → ClassId} {ad : Nat → Nat} {A : Nat → Prop} {H0 : Heap} {S : St} (hF : CallFix p m c cc nL s args lw_all RX0) (hK : gK D dA s) (hI : sI D dA wX ad A H0 S H locs) (hdg : decode cc pc = .ok (.getfield 19, 3)) (kk : W p l e R s m args below meth c H locs cells slots Q (F0 m (pc + 3) ls (.ref (ad 8) :: rest))) : W p l e R s m args below meth c H locs cells slots Q (F0 m (pc) ls (.ref (ad 129) :: rest)) := s_getr hF.1 hF.2.1 hF.2.2.2.2 hF.2.2.2.1 hK hI 129 (by decide) wX_129 rfl in_X0 2 (by decide) q206 rfl 8 rfl hdg kk
theorem gXX0_120_129 {p : Program} {l : Launch} {e : Env} {R : Room} {s : State} {m : MethodId} {args : Array Value} {below : List Frame} {meth : Method} {c : Code} {H : Heap} {locs : List Loc} {Q : State → Prop} {cc : ByteArray} {nL pc : Nat} {ls : Array Slot} {rest : List Value} {cells slots : Nat} {D : va_G} {dA : Nat → ClassId} {ad : Nat → Nat} {A : Nat → Prop} {H0 : Heap} {S : St} (hF : CallFix p m c cc nL s args lw_all RX0) (hK : gK D dA s) (hI : sI D dA wX ad A H0 S H locs) (hdg : decode cc pc = .ok (.getfield 120, 3)) (kk : InR (fI S 3) → W p l e R s m args below meth c H locs cells slots Q (F0 m (pc + 3) ls (iV (fI S 3) :: rest))) : W p l e R s m args below meth c H locs cells slots Q (F0 m (pc) ls (.ref (ad 129) :: rest)) := s_geti hF.1 hF.2.1 hF.2.2.2.2 hF.2.2.2.1 hK hI 129 (by decide) wX_129 rfl in_X0 3 (by decide) q207 rfl 0 3 rfl (by decide) hdg (kk (kdP_R (k := 0) (by decide) (hI.1.2.2.2.1.1 3)))
theorem uXX0_120_129 {p : Program} {l : Launch} {e : Env} {R : Room} {s : State} {m : MethodId} {args : Array Value} {below : List Frame} {meth : Method} {c : Code} {H : Heap} {locs : List Loc} {Q : State → Prop} {cc : ByteArray} {nL pc : Nat} {ls : Array Slot} {rest : List Value} {cells slots : Nat} {D : va_G} {dA : Nat → ClassId} {ad : Nat → Nat} {A : Nat → Prop} {H0 : Heap} {S : St} (hF : CallFix p m c cc nL s args lw_all RX0) (hK : gK D dA s) (hI : sI D dA wX ad A H0 S H locs) {v : Int} (hv : InR v) (hdg : decode cc pc = .ok (.putfield 120, 3)) (kk : ∀ (S1 : St) (H1 : Heap) (locs1 : List Loc), S1 = fset S 3 v → sI D dA wX ad A H0 S1 H1 locs1 → W p l e R s m args below meth c H1 locs1 cells slots Q (F0 m (pc + 3) ls (rest))) : W p l e R s m args below meth c H locs cells slots Q (F0 m (pc) ls (iV v :: .ref (ad 129) :: rest)) := s_put hF.1 hF.2.1 wX_U tyX0 tyX0_ok nmX0 hF.2.2.2.2 hF.2.2.2.1 hK hI 129 (by decide) wX_129 rfl in_X0 3 (by decide) q207 rfl 0 3 rfl hv rfl rfl rfl hdg (fun H1 locs1 h => kk _ H1 locs1 rfl h)
set_option maxHeartbeats 4000000 in
theorem t_X_put (l : Launch) (D : va_G) (dA : Nat → ClassId) (ad : Nat → Nat) (S : St) (sz : Nat) (x1 : Int) (K : St → Prop) (rx1 : InR x1) (h : w_X_put x1 S K) : Met l yX0_put (ws_ yX0_put cX0_put 3 (Option.none : Option Jvm.ClassFile.FieldType)) (rmD 0 0 0) (va_Pc [.ref (ad 129), iV x1] (sPre D dA wX ad S sz)) (va_Qv (fun S' => K S') (sPost D dA wX ad (wA wX ad S sz)) (wA wX ad S sz)) 0 0 (wA wX ad S sz) := by
  refine Met.ofW (cc := cX0_put) (maxL := 3) (ret := (Option.none : Option Jvm.ClassFile.FieldType)) (by decide) rfl ?_
  intro p e s m args below meth c s₁ B hml hv
  obtain ⟨rfl, hsz, hK, hC⟩ := hv
  have hx := B.exec
  have hb := B.bytes
  have hr := B.returns
  have hlocks := B.notSynchronized
  have hts := atoms_spec (ws := (ws_ yX0_put cX0_put 3 (Option.none : Option Jvm.ClassFile.FieldType))) B.pre
  have hts : ∀ w ∈ lw_all, w.before _ s = true := fun w h => hts w (List.mem_cons_of_mem _ h)
  have hown : s.vm.findClass RX0 = some m.cls := findClass_of_methodNamed B.named
  clear B
  subst hsz
  have hI : sI D dA wX ad (wA wX ad S s.heap.size) s.heap S s.heap [] := hC.start
  clear hC
  generalize wA wX ad S s.heap.size = A at hI ⊢
  have hl := lv_entry ([.ref (ad 129), iV x1] : List Value) (n := 3) (Nat.le_of_ble_eq_true rfl)
  rw [lg_entry_eq]
  generalize (lg_sl ([.ref (ad 129), iV x1] : List Value) ++ List.replicate (3 - (lg_sl ([.ref (ad 129), iV x1] : List Value)).length) Slot.unset).toArray = ls at hl ⊢
  have hl : lv_has ls 3 [(0, .ref (ad 129)), (1, iV x1)] := hl
  have hF : CallFix p m c cX0_put 3 s _ lw_all RX0 := ⟨hx, hb, hml, hown, hts⟩
  have hR : (headSpec (ws_ yX0_put cX0_put 3 (Option.none : Option Jvm.ClassFile.FieldType)) (rmD 0 0 0)).room.frames = 0 + 1 ∧ (headSpec (ws_ yX0_put cX0_put 3 (Option.none : Option Jvm.ClassFile.FieldType)) (rmD 0 0 0)).room.locals = 64 * 0 + 64 := ⟨rfl, rfl⟩
  generalize (headSpec (ws_ yX0_put cX0_put 3 (Option.none : Option Jvm.ClassFile.FieldType)) (rmD 0 0 0)).room = R at hR ⊢
  generalize ([.ref (ad 129), iV x1] : List Value).toArray = args at hts hF ⊢
  generalize hQ : MQ below _ _ _ _ _ _ = Q
  have L3 : ∀ (x1 : Int), InR x1 → ∀ (n3 : Nat) (x2 : Int) (S : St) (H : Heap) (locs : List Loc) (ls : Array Slot), InR x2 → sI D dA wX ad A s.heap S H locs → lv_has ls 3 [(0, .ref (ad 129)), (1, iV x1), (2, iV x2)] → l_X_put_3 x1 K n3 x2 S → W p l e R s m args below meth c H locs 0 0 Q (F0 m 3 ls []) := by
    intro x1 rx1 n3
    induction n3 with
    | zero => intro x2 S H locs ls rx2 hI hl h; exact False.elim h
    | succ n3 ih3 =>
      intro x2 S H locs ls rx2 hI hl h
      unfold l_X_put_3 at h
      refine lv_iload_n hx hb dX0_put_3 rfl (lv_at hl 2 rfl) ?_
      refine nr_if_lt hx hb rx2 dX0_put_4 (tgt := 36) (by decide) (fun c1 => ?_) (fun c1 => ?_)
      · replace h := h.1 c1
        rw [← hQ]; exact s_vret (K := K) hx hb hr hlocks hI  h dX0_put_36
      · replace h := h.2 c1
        refine lv_aload_n hx hb dX0_put_7 rfl (lv_at hl 0 rfl) ?_
        refine gXX0_19_129 hF hK hI dX0_put_8 ?_
        refine lv_aload_n hx hb dX0_put_11 rfl (lv_at hl 0 rfl) ?_
        refine gXX0_120_129 hF hK hI dX0_put_12 (fun f2 => ?_)
        replace h := h f2
        refine lv_iload_n hx hb dX0_put_15 rfl (lv_at hl 1 rfl) ?_
        refine lv_iload_n hx hb dX0_put_16 rfl (lv_at hl 2 rfl) ?_
        have f3 := h.1; replace h := h.2
        refine nr_ishr hx hb f3 rx1 dX0_put_17 ?_
        have f4 : InR (x1 / 2 ^ (Int.toNat x2)) := ni_shrR rx1
        refine nr_i2b hx hb dX0_put_18 ?_
        have f5 : kdP 3 (Int.bmod (x1 / 2 ^ (Int.toNat x2)) 256) := ni_bR _
        have f6 : InR (Int.bmod (x1 / 2 ^ (Int.toNat x2)) 256) := kdP_R (k := 3) (by decide) f5
        have f7 := h.1; replace h := h.2
        refine s_bast hx hb hK hI 8 (by decide) wX_8 f2 f7 f5 dX0_put_19 (fun S8 H locs eS8 hI => ?_)
        replace h := h S8 eS8
        refine lv_aload_n hx hb dX0_put_20 rfl (lv_at hl 0 rfl) ?_
        refine lv_dup hx hb dX0_put_21 rfl ?_
        refine gXX0_120_129 hF hK hI dX0_put_22 (fun f9 => ?_)
        replace h := h f9
        refine nr_iconst hx hb dX0_put_25 ?_
        have f10 := h.1; replace h := h.2
        refine nr_iadd hx hb dX0_put_26 ?_
        refine uXX0_120_129 hF hK hI f10 dX0_put_27 (fun S11 H locs eS11 hI => ?_)
        replace h := h S11 eS11
        have f12 := h.1; replace h := h.2
        refine nr_iinc (lv' := [(2, iV (x2 + (-8))), (0, .ref (ad 129)), (1, iV x1)]) hx hb dX0_put_30 hl (k := 2) rfl (by decide) rfl (fun ls hl => ?_)
        refine lv_goto (tgt := 3) hx hb dX0_put_33 (by decide) ?_
        exact ih3 (x2 + (-8)) S11 _ _ _ f12 hI (lv_sub hl [1, 2, 0] rfl) h
  unfold w_X_put at h
  refine nr_bipush hx hb dX0_put_0 (by decide) ?_
  refine lv_istore_n (lv' := [(2, iV 24), (0, .ref (ad 129)), (1, iV x1)]) hx hb dX0_put_2 rfl hl (by decide) rfl (fun ls hl => ?_)
  obtain ⟨n0, h⟩ := h
  exact L3 x1 rx1 n0 24 S _ _ _ (by decide) hI (lv_sub hl [1, 2, 0] rfl) h
theorem cXX0_123 {p : Program} {l : Launch} {e : Env} {R : Room} {s : State} {m : MethodId} {args : Array Value} {below : List Frame} {meth : Method} {c : Code} {H : Heap} {locs : List Loc} {Q : State → Prop} {cc : ByteArray} {nL pc : Nat} {ls : Array Slot} {rest : List Value} {cells slots : Nat} {D : va_G} {dA : Nat → ClassId} {ad : Nat → Nat} {A : Nat → Prop} {H0 : Heap} {S : St} {dk : Nat} (hF : CallFix p m c cc nL s args lw_all RX0) (hK : gK D dA s) (hI : sI D dA wX ad A H0 S H locs) (hls : ls.size = nL) (hR : R.frames = dk + 1 ∧ R.locals = 64 * dk + 64) (hd : 0 + 1 ≤ dk) (hW : (rest.map fun v => v.category).sum ≤ 8) (hf : cells ≤ R.cells ∧ slots ≤ R.slots) {x1 : Int} {K : St → Prop} (r1 : InR x1) (h : w_X_put x1 S K) (hdg : decode cc pc = .ok (.invokevirtual 123, 3)) (kk : ∀ (S1 : St) (H1 : Heap) (locs1 : List Loc), K S1 → sI D dA wX ad A H0 S1 H1 locs1 → W p l e R s m args below meth c H1 locs1 cells slots Q (F0 m (pc + 3) ls (rest))) : W p l e R s m args below meth c H locs cells slots Q (F0 m (pc) ls (iV x1 :: .ref (ad 129) :: rest)) := s_callVv (As := [iV x1]) (rest := rest) (K := K) hF (t_X_put l D dA ad S H.size x1 K r1 h) (s_recv hK hI 129 (by decide) wX_129 rfl) (cwV 1 hF.2.2.2.2 (lw_V q311 q313 qs4 q106 q314) rfl rfl rfl (by decide +kernel) ⟨by have h1 := hR.1; have h2 : (rmD 0 0 0).frames = 0 + 1 := rfl; omega, by have h1 := hR.2; have h2 : (rmD 0 0 0).locals = 64 * 0 + 64 := rfl; omega⟩) hK hI rfl hls rfl hW hdg hf kk
set_option maxHeartbeats 4000000 in
theorem t_X_feed (l : Launch) (D : va_G) (dA : Nat → ClassId) (ad : Nat → Nat) (S : St) (sz : Nat) (x1 : Int) (x2 : Int) (x3 : Int) (x4 : Int) (x5 : Int) (K : Int → St → Prop) (rx1 : InR x1) (rx2 : InR x2) (rx3 : InR x3) (rx4 : InR x4) (rx5 : InR x5) (h : w_X_feed x1 x2 x3 x4 x5 S K) : Met l yX0_feed (ws_ yX0_feed cX0_feed 6 (Option.some Jvm.ClassFile.FieldType.int)) (rmD 1 0 0) (va_Pc [.ref (ad 129), iV x1, iV x2, iV x3, iV x4, iV x5] (sPre D dA wX ad S sz)) (va_Qi (fun r S' => K r.toInt S') (sPost D dA wX ad (wA wX ad S sz)) (wA wX ad S sz)) 0 0 (wA wX ad S sz) := by
  refine Met.ofW (cc := cX0_feed) (maxL := 6) (ret := (Option.some Jvm.ClassFile.FieldType.int)) (by decide) rfl ?_
  intro p e s m args below meth c s₁ B hml hv
  obtain ⟨rfl, hsz, hK, hC⟩ := hv
  have hx := B.exec
  have hb := B.bytes
  have hr := B.returns
  have hlocks := B.notSynchronized
  have hts := atoms_spec (ws := (ws_ yX0_feed cX0_feed 6 (Option.some Jvm.ClassFile.FieldType.int))) B.pre
  have hts : ∀ w ∈ lw_all, w.before _ s = true := fun w h => hts w (List.mem_cons_of_mem _ h)
  have hown : s.vm.findClass RX0 = some m.cls := findClass_of_methodNamed B.named
  clear B
  subst hsz
  have hI : sI D dA wX ad (wA wX ad S s.heap.size) s.heap S s.heap [] := hC.start
  clear hC
  generalize wA wX ad S s.heap.size = A at hI ⊢
  have hl := lv_entry ([.ref (ad 129), iV x1, iV x2, iV x3, iV x4, iV x5] : List Value) (n := 6) (Nat.le_of_ble_eq_true rfl)
  rw [lg_entry_eq]
  generalize (lg_sl ([.ref (ad 129), iV x1, iV x2, iV x3, iV x4, iV x5] : List Value) ++ List.replicate (6 - (lg_sl ([.ref (ad 129), iV x1, iV x2, iV x3, iV x4, iV x5] : List Value)).length) Slot.unset).toArray = ls at hl ⊢
  have hl : lv_has ls 6 [(0, .ref (ad 129)), (1, iV x1), (2, iV x2), (3, iV x3), (4, iV x4), (5, iV x5)] := hl
  have hF : CallFix p m c cX0_feed 6 s _ lw_all RX0 := ⟨hx, hb, hml, hown, hts⟩
  have hR : (headSpec (ws_ yX0_feed cX0_feed 6 (Option.some Jvm.ClassFile.FieldType.int)) (rmD 1 0 0)).room.frames = 1 + 1 ∧ (headSpec (ws_ yX0_feed cX0_feed 6 (Option.some Jvm.ClassFile.FieldType.int)) (rmD 1 0 0)).room.locals = 64 * 1 + 64 := ⟨rfl, rfl⟩
  generalize (headSpec (ws_ yX0_feed cX0_feed 6 (Option.some Jvm.ClassFile.FieldType.int)) (rmD 1 0 0)).room = R at hR ⊢
  generalize ([.ref (ad 129), iV x1, iV x2, iV x3, iV x4, iV x5] : List Value).toArray = args at hts hF ⊢
  generalize hQ : MQ below _ _ _ _ _ _ = Q
  unfold w_X_feed at h
  refine lv_aload_n hx hb dX0_feed_0 rfl (lv_at hl 0 rfl) ?_
  refine gXX0_120_129 hF hK hI dX0_feed_1 (fun f1 => ?_)
  replace h := h f1
  refine nr_bipush hx hb dX0_feed_4 (by decide) ?_
  have f2 := h.1; replace h := h.2
  refine nr_iadd hx hb dX0_feed_6 ?_
  refine nr_sipush hx hb dX0_feed_7 (by decide) ?_
  refine nr_icmp_le hx hb f2 (by decide) dX0_feed_10 (tgt := 15) (by decide) (fun c3 => ?_) (fun c3 => ?_)
  · replace h := h.1 c3
    refine lv_aload_n hx hb dX0_feed_15 rfl (lv_at hl 0 rfl) ?_
    refine lv_iload_n hx hb dX0_feed_16 rfl (lv_at hl 1 rfl) ?_
    refine cXX0_123 hF hK hI hl.1 hR (by decide) (Nat.le_of_ble_eq_true rfl) ⟨Nat.zero_le _, Nat.zero_le _⟩ rx1 h dX0_feed_17 (fun S5 H locs h hI => ?_)
    refine lv_aload_n hx hb dX0_feed_20 rfl (lv_at hl 0 rfl) ?_
    refine lv_iload_n hx hb dX0_feed_21 rfl (lv_at hl 2 rfl) ?_
    refine cXX0_123 hF hK hI hl.1 hR (by decide) (Nat.le_of_ble_eq_true rfl) ⟨Nat.zero_le _, Nat.zero_le _⟩ rx2 h dX0_feed_22 (fun S7 H locs h hI => ?_)
    refine lv_aload_n hx hb dX0_feed_25 rfl (lv_at hl 0 rfl) ?_
    refine lv_iload_n hx hb dX0_feed_26 rfl (lv_at hl 3 rfl) ?_
    refine cXX0_123 hF hK hI hl.1 hR (by decide) (Nat.le_of_ble_eq_true rfl) ⟨Nat.zero_le _, Nat.zero_le _⟩ rx3 h dX0_feed_27 (fun S9 H locs h hI => ?_)
    refine lv_aload_n hx hb dX0_feed_30 rfl (lv_at hl 0 rfl) ?_
    refine lv_iload hx hb dX0_feed_31 (lv_at hl 4 rfl) ?_
    refine cXX0_123 hF hK hI hl.1 hR (by decide) (Nat.le_of_ble_eq_true rfl) ⟨Nat.zero_le _, Nat.zero_le _⟩ rx4 h dX0_feed_33 (fun S11 H locs h hI => ?_)
    refine lv_aload_n hx hb dX0_feed_36 rfl (lv_at hl 0 rfl) ?_
    refine lv_iload hx hb dX0_feed_37 (lv_at hl 5 rfl) ?_
    refine cXX0_123 hF hK hI hl.1 hR (by decide) (Nat.le_of_ble_eq_true rfl) ⟨Nat.zero_le _, Nat.zero_le _⟩ rx5 h dX0_feed_39 (fun S13 H locs h hI => ?_)
    refine lv_aload_n hx hb dX0_feed_42 rfl (lv_at hl 0 rfl) ?_
    refine gXX0_120_129 hF hK hI dX0_feed_43 (fun f14 => ?_)
    replace h := h f14
    rw [← hQ]; exact s_iret (K := K) hx hb hr hlocks hI f14 h dX0_feed_46
  · replace h := h.2 c3
    refine nr_iconst hx hb dX0_feed_13 ?_
    rw [← hQ]; exact s_iret (K := K) hx hb hr hlocks hI (by decide) h dX0_feed_14
set_option maxHeartbeats 4000000 in
theorem t_X_end (l : Launch) (D : va_G) (dA : Nat → ClassId) (ad : Nat → Nat) (S : St) (sz : Nat) (x1 : Int) (K : Int → St → Prop) (rx1 : InR x1) (h : w_X_end x1 S K) : Met l yX0_end (ws_ yX0_end cX0_end 2 (Option.some Jvm.ClassFile.FieldType.int)) (rmD 1 0 0) (va_Pc [.ref (ad 129), iV x1] (sPre D dA wX ad S sz)) (va_Qi (fun r S' => K r.toInt S') (sPost D dA wX ad (wA wX ad S sz)) (wA wX ad S sz)) 0 0 (wA wX ad S sz) := by
  refine Met.ofW (cc := cX0_end) (maxL := 2) (ret := (Option.some Jvm.ClassFile.FieldType.int)) (by decide) rfl ?_
  intro p e s m args below meth c s₁ B hml hv
  obtain ⟨rfl, hsz, hK, hC⟩ := hv
  have hx := B.exec
  have hb := B.bytes
  have hr := B.returns
  have hlocks := B.notSynchronized
  have hts := atoms_spec (ws := (ws_ yX0_end cX0_end 2 (Option.some Jvm.ClassFile.FieldType.int))) B.pre
  have hts : ∀ w ∈ lw_all, w.before _ s = true := fun w h => hts w (List.mem_cons_of_mem _ h)
  have hown : s.vm.findClass RX0 = some m.cls := findClass_of_methodNamed B.named
  clear B
  subst hsz
  have hI : sI D dA wX ad (wA wX ad S s.heap.size) s.heap S s.heap [] := hC.start
  clear hC
  generalize wA wX ad S s.heap.size = A at hI ⊢
  have hl := lv_entry ([.ref (ad 129), iV x1] : List Value) (n := 2) (Nat.le_of_ble_eq_true rfl)
  rw [lg_entry_eq]
  generalize (lg_sl ([.ref (ad 129), iV x1] : List Value) ++ List.replicate (2 - (lg_sl ([.ref (ad 129), iV x1] : List Value)).length) Slot.unset).toArray = ls at hl ⊢
  have hl : lv_has ls 2 [(0, .ref (ad 129)), (1, iV x1)] := hl
  have hF : CallFix p m c cX0_end 2 s _ lw_all RX0 := ⟨hx, hb, hml, hown, hts⟩
  have hR : (headSpec (ws_ yX0_end cX0_end 2 (Option.some Jvm.ClassFile.FieldType.int)) (rmD 1 0 0)).room.frames = 1 + 1 ∧ (headSpec (ws_ yX0_end cX0_end 2 (Option.some Jvm.ClassFile.FieldType.int)) (rmD 1 0 0)).room.locals = 64 * 1 + 64 := ⟨rfl, rfl⟩
  generalize (headSpec (ws_ yX0_end cX0_end 2 (Option.some Jvm.ClassFile.FieldType.int)) (rmD 1 0 0)).room = R at hR ⊢
  generalize ([.ref (ad 129), iV x1] : List Value).toArray = args at hts hF ⊢
  generalize hQ : MQ below _ _ _ _ _ _ = Q
  unfold w_X_end at h
  refine lv_iload_n hx hb dX0_end_0 rfl (lv_at hl 1 rfl) ?_
  refine nr_iconst hx hb dX0_end_1 ?_
  refine lv_aload_n hx hb dX0_end_2 rfl (lv_at hl 0 rfl) ?_
  refine gXX0_120_129 hF hK hI dX0_end_3 (fun f1 => ?_)
  replace h := h f1
  refine cXX0_74 hF hK hI hl.1 hR (by decide) (Nat.le_of_ble_eq_true rfl) ⟨Nat.zero_le _, Nat.zero_le _⟩ rx1 (by decide) f1 h dX0_end_6 (fun r2 H locs fr2 h hI => ?_)
  replace h := h fr2
  have gr2 : InR r2 := kdP_R (k := 2) (by decide) fr2
  refine nr_if_ne hx hb gr2 dX0_end_9 (tgt := 14) (by decide) (fun c4 => ?_) (fun c4 => ?_)
  · replace h := h.1 c4
    refine lv_aload_n hx hb dX0_end_14 rfl (lv_at hl 0 rfl) ?_
    refine lv_iload_n hx hb dX0_end_15 rfl (lv_at hl 1 rfl) ?_
    refine uXX0_120_129 hF hK hI rx1 dX0_end_16 (fun S5 H locs eS5 hI => ?_)
    replace h := h S5 eS5
    refine lv_iload_n hx hb dX0_end_19 rfl (lv_at hl 1 rfl) ?_
    rw [← hQ]; exact s_iret (K := K) hx hb hr hlocks hI rx1 h dX0_end_20
  · replace h := h.2 c4
    refine nr_iconst hx hb dX0_end_12 ?_
    rw [← hQ]; exact s_iret (K := K) hx hb hr hlocks hI (by decide) h dX0_end_13
theorem gXX0_27_129 {p : Program} {l : Launch} {e : Env} {R : Room} {s : State} {m : MethodId} {args : Array Value} {below : List Frame} {meth : Method} {c : Code} {H : Heap} {locs : List Loc} {Q : State → Prop} {cc : ByteArray} {nL pc : Nat} {ls : Array Slot} {rest : List Value} {cells slots : Nat} {D : va_G} {dA : Nat → ClassId} {ad : Nat → Nat} {A : Nat → Prop} {H0 : Heap} {S : St} (hF : CallFix p m c cc nL s args lw_all RX0) (hK : gK D dA s) (hI : sI D dA wX ad A H0 S H locs) (hdg : decode cc pc = .ok (.getfield 27, 3)) (kk : InR (fI S 5) → W p l e R s m args below meth c H locs cells slots Q (F0 m (pc + 3) ls (iV (fI S 5) :: rest))) : W p l e R s m args below meth c H locs cells slots Q (F0 m (pc) ls (.ref (ad 129) :: rest)) := s_geti hF.1 hF.2.1 hF.2.2.2.2 hF.2.2.2.1 hK hI 129 (by decide) wX_129 rfl in_X0 5 (by decide) q209 rfl 0 5 rfl (by decide) hdg (kk (kdP_R (k := 0) (by decide) (hI.1.2.2.2.1.1 5)))
theorem gXX0_23_129 {p : Program} {l : Launch} {e : Env} {R : Room} {s : State} {m : MethodId} {args : Array Value} {below : List Frame} {meth : Method} {c : Code} {H : Heap} {locs : List Loc} {Q : State → Prop} {cc : ByteArray} {nL pc : Nat} {ls : Array Slot} {rest : List Value} {cells slots : Nat} {D : va_G} {dA : Nat → ClassId} {ad : Nat → Nat} {A : Nat → Prop} {H0 : Heap} {S : St} (hF : CallFix p m c cc nL s args lw_all RX0) (hK : gK D dA s) (hI : sI D dA wX ad A H0 S H locs) (hdg : decode cc pc = .ok (.getfield 23, 3)) (kk : InR (fI S 4) → W p l e R s m args below meth c H locs cells slots Q (F0 m (pc + 3) ls (iV (fI S 4) :: rest))) : W p l e R s m args below meth c H locs cells slots Q (F0 m (pc) ls (.ref (ad 129) :: rest)) := s_geti hF.1 hF.2.1 hF.2.2.2.2 hF.2.2.2.1 hK hI 129 (by decide) wX_129 rfl in_X0 4 (by decide) q208 rfl 0 4 rfl (by decide) hdg (kk (kdP_R (k := 0) (by decide) (hI.1.2.2.2.1.1 4)))
set_option maxHeartbeats 4000000 in
theorem t_X_fault (l : Launch) (D : va_G) (dA : Nat → ClassId) (ad : Nat → Nat) (S : St) (sz : Nat) (x1 : Int) (K : Int → Prop) (rx1 : InR x1) (h : w_X_fault x1 S K) : Met l yX0_fault (ws_ yX0_fault cX0_fault 2 (Option.some Jvm.ClassFile.FieldType.int)) (rmD 0 0 0) (va_Pc [.ref (ad 129), iV x1] (sPre D dA wX ad S sz)) (va_Qi (fun r S' => S' = S ∧ K r.toInt) (sPost D dA wX ad (wA wX ad S sz)) (wA wX ad S sz)) 0 0 (wA wX ad S sz) := by
  refine Met.ofW (cc := cX0_fault) (maxL := 2) (ret := (Option.some Jvm.ClassFile.FieldType.int)) (by decide) rfl ?_
  intro p e s m args below meth c s₁ B hml hv
  obtain ⟨rfl, hsz, hK, hC⟩ := hv
  have hx := B.exec
  have hb := B.bytes
  have hr := B.returns
  have hlocks := B.notSynchronized
  have hts := atoms_spec (ws := (ws_ yX0_fault cX0_fault 2 (Option.some Jvm.ClassFile.FieldType.int))) B.pre
  have hts : ∀ w ∈ lw_all, w.before _ s = true := fun w h => hts w (List.mem_cons_of_mem _ h)
  have hown : s.vm.findClass RX0 = some m.cls := findClass_of_methodNamed B.named
  clear B
  subst hsz
  have hI : sI D dA wX ad (wA wX ad S s.heap.size) s.heap S s.heap [] := hC.start
  clear hC
  generalize wA wX ad S s.heap.size = A at hI ⊢
  have hl := lv_entry ([.ref (ad 129), iV x1] : List Value) (n := 2) (Nat.le_of_ble_eq_true rfl)
  rw [lg_entry_eq]
  generalize (lg_sl ([.ref (ad 129), iV x1] : List Value) ++ List.replicate (2 - (lg_sl ([.ref (ad 129), iV x1] : List Value)).length) Slot.unset).toArray = ls at hl ⊢
  have hl : lv_has ls 2 [(0, .ref (ad 129)), (1, iV x1)] := hl
  have hF : CallFix p m c cX0_fault 2 s _ lw_all RX0 := ⟨hx, hb, hml, hown, hts⟩
  have hR : (headSpec (ws_ yX0_fault cX0_fault 2 (Option.some Jvm.ClassFile.FieldType.int)) (rmD 0 0 0)).room.frames = 0 + 1 ∧ (headSpec (ws_ yX0_fault cX0_fault 2 (Option.some Jvm.ClassFile.FieldType.int)) (rmD 0 0 0)).room.locals = 64 * 0 + 64 := ⟨rfl, rfl⟩
  generalize (headSpec (ws_ yX0_fault cX0_fault 2 (Option.some Jvm.ClassFile.FieldType.int)) (rmD 0 0 0)).room = R at hR ⊢
  generalize ([.ref (ad 129), iV x1] : List Value).toArray = args at hts hF ⊢
  generalize hQ : MQ below _ _ _ _ _ _ = Q
  unfold w_X_fault at h
  refine lv_iload_n hx hb dX0_fault_0 rfl (lv_at hl 1 rfl) ?_
  refine nr_if_ne hx hb rx1 dX0_fault_1 (tgt := 11) (by decide) (fun c1 => ?_) (fun c1 => ?_)
  · replace h := h.1 c1
    refine lv_iload_n hx hb dX0_fault_11 rfl (lv_at hl 1 rfl) ?_
    refine nr_iconst hx hb dX0_fault_12 ?_
    refine nr_icmp_ne hx hb rx1 (by decide) dX0_fault_13 (tgt := 23) (by decide) (fun c2 => ?_) (fun c2 => ?_)
    · replace h := h.1 c2
      refine nr_iconst hx hb dX0_fault_23 ?_
      rw [← hQ]; exact s_iret (K := fun r S' => S' = S ∧ K r) hx hb hr hlocks hI (by decide) ⟨rfl, h⟩ dX0_fault_24
    · replace h := h.2 c2
      refine lv_aload_n hx hb dX0_fault_16 rfl (lv_at hl 0 rfl) ?_
      refine gXX0_27_129 hF hK hI dX0_fault_17 (fun f3 => ?_)
      replace h := h f3
      refine lv_goto (tgt := 24) hx hb dX0_fault_20 (by decide) ?_
      rw [← hQ]; exact s_iret (K := fun r S' => S' = S ∧ K r) hx hb hr hlocks hI f3 ⟨rfl, h⟩ dX0_fault_24
  · replace h := h.2 c1
    refine lv_aload_n hx hb dX0_fault_4 rfl (lv_at hl 0 rfl) ?_
    refine gXX0_23_129 hF hK hI dX0_fault_5 (fun f4 => ?_)
    replace h := h f4
    refine lv_goto (tgt := 24) hx hb dX0_fault_8 (by decide) ?_
    rw [← hQ]; exact s_iret (K := fun r S' => S' = S ∧ K r) hx hb hr hlocks hI f4 ⟨rfl, h⟩ dX0_fault_24
set_option maxHeartbeats 4000000 in
theorem t_X_isText (l : Launch) (D : va_G) (dA : Nat → ClassId) (ad : Nat → Nat) (S : St) (sz : Nat) (x1 : Int) (K : Int → Prop) (rx1 : InR x1) (h : w_X_isText x1 S K) : Met l yX0_isText (ws_ yX0_isText cX0_isText 2 (Option.some Jvm.ClassFile.FieldType.boolean)) (rmD 1 0 0) (va_Pc [.ref (ad 129), iV x1] (sPre D dA wX ad S sz)) (va_Qi (fun r S' => (r.toInt = 0 ∨ r.toInt = 1) ∧ (S' = S ∧ K r.toInt)) (sPost D dA wX ad (wA wX ad S sz)) (wA wX ad S sz)) 0 0 (wA wX ad S sz) := by
  refine Met.ofW (cc := cX0_isText) (maxL := 2) (ret := (Option.some Jvm.ClassFile.FieldType.boolean)) (by decide) rfl ?_
  intro p e s m args below meth c s₁ B hml hv
  obtain ⟨rfl, hsz, hK, hC⟩ := hv
  have hx := B.exec
  have hb := B.bytes
  have hr := B.returns
  have hlocks := B.notSynchronized
  have hts := atoms_spec (ws := (ws_ yX0_isText cX0_isText 2 (Option.some Jvm.ClassFile.FieldType.boolean))) B.pre
  have hts : ∀ w ∈ lw_all, w.before _ s = true := fun w h => hts w (List.mem_cons_of_mem _ h)
  have hown : s.vm.findClass RX0 = some m.cls := findClass_of_methodNamed B.named
  clear B
  subst hsz
  have hI : sI D dA wX ad (wA wX ad S s.heap.size) s.heap S s.heap [] := hC.start
  clear hC
  generalize wA wX ad S s.heap.size = A at hI ⊢
  have hl := lv_entry ([.ref (ad 129), iV x1] : List Value) (n := 2) (Nat.le_of_ble_eq_true rfl)
  rw [lg_entry_eq]
  generalize (lg_sl ([.ref (ad 129), iV x1] : List Value) ++ List.replicate (2 - (lg_sl ([.ref (ad 129), iV x1] : List Value)).length) Slot.unset).toArray = ls at hl ⊢
  have hl : lv_has ls 2 [(0, .ref (ad 129)), (1, iV x1)] := hl
  have hF : CallFix p m c cX0_isText 2 s _ lw_all RX0 := ⟨hx, hb, hml, hown, hts⟩
  have hR : (headSpec (ws_ yX0_isText cX0_isText 2 (Option.some Jvm.ClassFile.FieldType.boolean)) (rmD 1 0 0)).room.frames = 1 + 1 ∧ (headSpec (ws_ yX0_isText cX0_isText 2 (Option.some Jvm.ClassFile.FieldType.boolean)) (rmD 1 0 0)).room.locals = 64 * 1 + 64 := ⟨rfl, rfl⟩
  generalize (headSpec (ws_ yX0_isText cX0_isText 2 (Option.some Jvm.ClassFile.FieldType.boolean)) (rmD 1 0 0)).room = R at hR ⊢
  generalize ([.ref (ad 129), iV x1] : List Value).toArray = args at hts hF ⊢
  generalize hQ : MQ below _ _ _ _ _ _ = Q
  unfold w_X_isText at h
  refine lv_iload_n hx hb dX0_isText_0 rfl (lv_at hl 1 rfl) ?_
  refine nr_iconst hx hb dX0_isText_1 ?_
  refine lv_aload_n hx hb dX0_isText_2 rfl (lv_at hl 0 rfl) ?_
  refine gXX0_12_129 hF hK hI dX0_isText_3 ?_
  refine gXX0_71_130 hF hK hI dX0_isText_6 ?_
  refine nr_iconst hx hb dX0_isText_9 ?_
  refine s_iald hx hb hK hI 0 (by decide) wX_0 (by decide) (by decide) dX0_isText_10 (fun f1 => ?_)
  replace h := h f1
  refine nr_iconst hx hb dX0_isText_11 ?_
  have f2 := h.1; replace h := h.2
  refine nr_isub hx hb dX0_isText_12 ?_
  refine cXX0_74 hF hK hI hl.1 hR (by decide) (Nat.le_of_ble_eq_true rfl) ⟨Nat.zero_le _, Nat.zero_le _⟩ rx1 (by decide) f2 h dX0_isText_13 (fun r3 H locs fr3 h hI => ?_)
  replace h := h fr3
  have gr3 : InR r3 := kdP_R (k := 2) (by decide) fr3
  rw [← hQ]; exact s_zret (K := fun r S' => S' = S ∧ K r) hx hb hr hlocks hI fr3 ⟨rfl, h⟩ dX0_isText_16
theorem cXX0_146 {p : Program} {l : Launch} {e : Env} {R : Room} {s : State} {m : MethodId} {args : Array Value} {below : List Frame} {meth : Method} {c : Code} {H : Heap} {locs : List Loc} {Q : State → Prop} {cc : ByteArray} {nL pc : Nat} {ls : Array Slot} {rest : List Value} {cells slots : Nat} {D : va_G} {dA : Nat → ClassId} {ad : Nat → Nat} {A : Nat → Prop} {H0 : Heap} {S : St} {dk : Nat} (hF : CallFix p m c cc nL s args lw_all RX0) (hK : gK D dA s) (hI : sI D dA wX ad A H0 S H locs) (hls : ls.size = nL) (hR : R.frames = dk + 1 ∧ R.locals = 64 * dk + 64) (hd : 1 + 1 ≤ dk) (hW : (rest.map fun v => v.category).sum ≤ 8) (hf : cells ≤ R.cells ∧ slots ≤ R.slots) {x1 : Int} {K : Int → Prop} (r1 : InR x1) (h : w_X_isText x1 S K) (hdg : decode cc pc = .ok (.invokevirtual 146, 3)) (kk : ∀ (r : Int) (H1 : Heap) (locs1 : List Loc), (r = 0 ∨ r = 1) → K r → sI D dA wX ad A H0 S H1 locs1 → W p l e R s m args below meth c H1 locs1 cells slots Q (F0 m (pc + 3) ls (iV r :: rest))) : W p l e R s m args below meth c H locs cells slots Q (F0 m (pc) ls (iV x1 :: .ref (ad 129) :: rest)) := s_callVz (As := [iV x1]) (rest := rest) (K := fun r S' => S' = S ∧ K r) hF (t_X_isText l D dA ad S H.size x1 K r1 h) (s_recv hK hI 129 (by decide) wX_129 rfl) (cwV 1 hF.2.2.2.2 (lw_V q833 q835 qs24 q106 q836) rfl rfl rfl (by decide +kernel) ⟨by have h1 := hR.1; have h2 : (rmD 1 0 0).frames = 1 + 1 := rfl; omega, by have h1 := hR.2; have h2 : (rmD 1 0 0).locals = 64 * 1 + 64 := rfl; omega⟩) hK hI rfl hls rfl hW hdg hf (fun r S1 H1 locs1 f hk hI1 => by obtain ⟨rfl, hk⟩ := hk; exact kk r H1 locs1 f hk hI1)
set_option maxHeartbeats 4000000 in
theorem t_X_by (l : Launch) (D : va_G) (dA : Nat → ClassId) (ad : Nat → Nat) (S : St) (sz : Nat) (x1 : Int) (K : Int → St → Prop) (rx1 : InR x1) (h : w_X_by x1 S K) : Met l yX0_by (ws_ yX0_by cX0_by 2 (Option.some Jvm.ClassFile.FieldType.boolean)) (rmD 2 0 0) (va_Pc [.ref (ad 129), iV x1] (sPre D dA wX ad S sz)) (va_Qi (fun r S' => (r.toInt = 0 ∨ r.toInt = 1) ∧ (K r.toInt S')) (sPost D dA wX ad (wA wX ad S sz)) (wA wX ad S sz)) 0 0 (wA wX ad S sz) := by
  refine Met.ofW (cc := cX0_by) (maxL := 2) (ret := (Option.some Jvm.ClassFile.FieldType.boolean)) (by decide) rfl ?_
  intro p e s m args below meth c s₁ B hml hv
  obtain ⟨rfl, hsz, hK, hC⟩ := hv
  have hx := B.exec
  have hb := B.bytes
  have hr := B.returns
  have hlocks := B.notSynchronized
  have hts := atoms_spec (ws := (ws_ yX0_by cX0_by 2 (Option.some Jvm.ClassFile.FieldType.boolean))) B.pre
  have hts : ∀ w ∈ lw_all, w.before _ s = true := fun w h => hts w (List.mem_cons_of_mem _ h)
  have hown : s.vm.findClass RX0 = some m.cls := findClass_of_methodNamed B.named
  clear B
  subst hsz
  have hI : sI D dA wX ad (wA wX ad S s.heap.size) s.heap S s.heap [] := hC.start
  clear hC
  generalize wA wX ad S s.heap.size = A at hI ⊢
  have hl := lv_entry ([.ref (ad 129), iV x1] : List Value) (n := 2) (Nat.le_of_ble_eq_true rfl)
  rw [lg_entry_eq]
  generalize (lg_sl ([.ref (ad 129), iV x1] : List Value) ++ List.replicate (2 - (lg_sl ([.ref (ad 129), iV x1] : List Value)).length) Slot.unset).toArray = ls at hl ⊢
  have hl : lv_has ls 2 [(0, .ref (ad 129)), (1, iV x1)] := hl
  have hF : CallFix p m c cX0_by 2 s _ lw_all RX0 := ⟨hx, hb, hml, hown, hts⟩
  have hR : (headSpec (ws_ yX0_by cX0_by 2 (Option.some Jvm.ClassFile.FieldType.boolean)) (rmD 2 0 0)).room.frames = 2 + 1 ∧ (headSpec (ws_ yX0_by cX0_by 2 (Option.some Jvm.ClassFile.FieldType.boolean)) (rmD 2 0 0)).room.locals = 64 * 2 + 64 := ⟨rfl, rfl⟩
  generalize (headSpec (ws_ yX0_by cX0_by 2 (Option.some Jvm.ClassFile.FieldType.boolean)) (rmD 2 0 0)).room = R at hR ⊢
  generalize ([.ref (ad 129), iV x1] : List Value).toArray = args at hts hF ⊢
  generalize hQ : MQ below _ _ _ _ _ _ = Q
  unfold w_X_by at h
  refine lv_iload_n hx hb dX0_by_0 rfl (lv_at hl 1 rfl) ?_
  refine nr_iconst hx hb dX0_by_1 ?_
  refine nr_icmp_eq hx hb rx1 (by decide) dX0_by_2 (tgt := 15) (by decide) (fun c1 => ?_) (fun c1 => ?_)
  · replace h := h.1 c1
    refine lv_aload_n hx hb dX0_by_15 rfl (lv_at hl 0 rfl) ?_
    refine gXX0_12_129 hF hK hI dX0_by_16 ?_
    refine gXX0_71_130 hF hK hI dX0_by_19 ?_
    refine nr_iconst hx hb dX0_by_22 ?_
    refine lv_iload_n hx hb dX0_by_23 rfl (lv_at hl 1 rfl) ?_
    refine s_iast hx hb hK hI 0 (by decide) wX_0 (by decide) (by decide) rx1 dX0_by_24 (fun S2 H locs eS2 hI => ?_)
    replace h := h S2 eS2
    refine nr_iconst hx hb dX0_by_25 ?_
    rw [← hQ]; exact s_zret (K := K) hx hb hr hlocks hI (by decide) h dX0_by_26
  · replace h := h.2 c1
    refine lv_aload_n hx hb dX0_by_5 rfl (lv_at hl 0 rfl) ?_
    refine lv_iload_n hx hb dX0_by_6 rfl (lv_at hl 1 rfl) ?_
    refine cXX0_146 hF hK hI hl.1 hR (by decide) (Nat.le_of_ble_eq_true rfl) ⟨Nat.zero_le _, Nat.zero_le _⟩ rx1 h dX0_by_7 (fun r3 H locs fr3 h hI => ?_)
    replace h := h fr3
    have gr3 : InR r3 := kdP_R (k := 2) (by decide) fr3
    refine nr_if_ne hx hb gr3 dX0_by_10 (tgt := 15) (by decide) (fun c5 => ?_) (fun c5 => ?_)
    · replace h := h.1 c5
      refine lv_aload_n hx hb dX0_by_15 rfl (lv_at hl 0 rfl) ?_
      refine gXX0_12_129 hF hK hI dX0_by_16 ?_
      refine gXX0_71_130 hF hK hI dX0_by_19 ?_
      refine nr_iconst hx hb dX0_by_22 ?_
      refine lv_iload_n hx hb dX0_by_23 rfl (lv_at hl 1 rfl) ?_
      refine s_iast hx hb hK hI 0 (by decide) wX_0 (by decide) (by decide) rx1 dX0_by_24 (fun S6 H locs eS6 hI => ?_)
      replace h := h S6 eS6
      refine nr_iconst hx hb dX0_by_25 ?_
      rw [← hQ]; exact s_zret (K := K) hx hb hr hlocks hI (by decide) h dX0_by_26
    · replace h := h.2 c5
      refine nr_iconst hx hb dX0_by_13 ?_
      rw [← hQ]; exact s_zret (K := K) hx hb hr hlocks hI (by decide) h dX0_by_14
set_option maxHeartbeats 4000000 in
theorem t_X_bone_2 (l : Launch) (D : va_G) (dA : Nat → ClassId) (ad : Nat → Nat) (S : St) (sz : Nat) (x1 : Int) (x2 : Int) (K : Int → Prop) (rx1 : InR x1) (rx2 : InR x2) (h : w_X_bone_2 x1 x2 S K) : Met l yX0_bone_2 (ws_ yX0_bone_2 cX0_bone_2 3 (Option.some Jvm.ClassFile.FieldType.int)) (rmD 0 0 0) (va_Pc [.ref (ad 129), iV x1, iV x2] (sPre D dA wX ad S sz)) (va_Qi (fun r S' => S' = S ∧ K r.toInt) (sPost D dA wX ad (wA wX ad S sz)) (wA wX ad S sz)) 0 0 (wA wX ad S sz) := by
  refine Met.ofW (cc := cX0_bone_2) (maxL := 3) (ret := (Option.some Jvm.ClassFile.FieldType.int)) (by decide) rfl ?_
  intro p e s m args below meth c s₁ B hml hv
  obtain ⟨rfl, hsz, hK, hC⟩ := hv
  have hx := B.exec
  have hb := B.bytes
  have hr := B.returns
  have hlocks := B.notSynchronized
  have hts := atoms_spec (ws := (ws_ yX0_bone_2 cX0_bone_2 3 (Option.some Jvm.ClassFile.FieldType.int))) B.pre
  have hts : ∀ w ∈ lw_all, w.before _ s = true := fun w h => hts w (List.mem_cons_of_mem _ h)
  have hown : s.vm.findClass RX0 = some m.cls := findClass_of_methodNamed B.named
  clear B
  subst hsz
  have hI : sI D dA wX ad (wA wX ad S s.heap.size) s.heap S s.heap [] := hC.start
  clear hC
  generalize wA wX ad S s.heap.size = A at hI ⊢
  have hl := lv_entry ([.ref (ad 129), iV x1, iV x2] : List Value) (n := 3) (Nat.le_of_ble_eq_true rfl)
  rw [lg_entry_eq]
  generalize (lg_sl ([.ref (ad 129), iV x1, iV x2] : List Value) ++ List.replicate (3 - (lg_sl ([.ref (ad 129), iV x1, iV x2] : List Value)).length) Slot.unset).toArray = ls at hl ⊢
  have hl : lv_has ls 3 [(0, .ref (ad 129)), (1, iV x1), (2, iV x2)] := hl
  have hF : CallFix p m c cX0_bone_2 3 s _ lw_all RX0 := ⟨hx, hb, hml, hown, hts⟩
  have hR : (headSpec (ws_ yX0_bone_2 cX0_bone_2 3 (Option.some Jvm.ClassFile.FieldType.int)) (rmD 0 0 0)).room.frames = 0 + 1 ∧ (headSpec (ws_ yX0_bone_2 cX0_bone_2 3 (Option.some Jvm.ClassFile.FieldType.int)) (rmD 0 0 0)).room.locals = 64 * 0 + 64 := ⟨rfl, rfl⟩
  generalize (headSpec (ws_ yX0_bone_2 cX0_bone_2 3 (Option.some Jvm.ClassFile.FieldType.int)) (rmD 0 0 0)).room = R at hR ⊢
  generalize ([.ref (ad 129), iV x1, iV x2] : List Value).toArray = args at hts hF ⊢
  generalize hQ : MQ below _ _ _ _ _ _ = Q
  unfold w_X_bone_2 at h
  refine lv_aload_n hx hb dX0_bone_2_0 rfl (lv_at hl 0 rfl) ?_
  refine gXX0_12_129 hF hK hI dX0_bone_2_1 ?_
  refine gXX0_78_130 hF hK hI dX0_bone_2_4 ?_
  refine lv_iload_n hx hb dX0_bone_2_7 rfl (lv_at hl 1 rfl) ?_
  refine nr_iconst hx hb dX0_bone_2_8 ?_
  have f1 := h.1; replace h := h.2
  refine nr_imul hx hb dX0_bone_2_9 ?_
  refine lv_iload_n hx hb dX0_bone_2_10 rfl (lv_at hl 2 rfl) ?_
  have f2 := h.1; replace h := h.2
  refine nr_iadd hx hb dX0_bone_2_11 ?_
  have f3 := h.1; replace h := h.2
  refine s_iald hx hb hK hI 3 (by decide) wX_3 f2 f3 dX0_bone_2_12 (fun f4 => ?_)
  replace h := h f4
  rw [← hQ]; exact s_iret (K := fun r S' => S' = S ∧ K r) hx hb hr hlocks hI f4 ⟨rfl, h⟩ dX0_bone_2_13
set_option maxHeartbeats 4000000 in
theorem t_X_year (l : Launch) (D : va_G) (dA : Nat → ClassId) (ad : Nat → Nat) (S : St) (sz : Nat) (K : Int → Prop) (h : w_X_year S K) : Met l yX0_year (ws_ yX0_year cX0_year 1 (Option.some Jvm.ClassFile.FieldType.int)) (rmD 0 0 0) (va_Pc [.ref (ad 129)] (sPre D dA wX ad S sz)) (va_Qi (fun r S' => S' = S ∧ K r.toInt) (sPost D dA wX ad (wA wX ad S sz)) (wA wX ad S sz)) 0 0 (wA wX ad S sz) := by
  refine Met.ofW (cc := cX0_year) (maxL := 1) (ret := (Option.some Jvm.ClassFile.FieldType.int)) (by decide) rfl ?_
  intro p e s m args below meth c s₁ B hml hv
  obtain ⟨rfl, hsz, hK, hC⟩ := hv
  have hx := B.exec
  have hb := B.bytes
  have hr := B.returns
  have hlocks := B.notSynchronized
  have hts := atoms_spec (ws := (ws_ yX0_year cX0_year 1 (Option.some Jvm.ClassFile.FieldType.int))) B.pre
  have hts : ∀ w ∈ lw_all, w.before _ s = true := fun w h => hts w (List.mem_cons_of_mem _ h)
  have hown : s.vm.findClass RX0 = some m.cls := findClass_of_methodNamed B.named
  clear B
  subst hsz
  have hI : sI D dA wX ad (wA wX ad S s.heap.size) s.heap S s.heap [] := hC.start
  clear hC
  generalize wA wX ad S s.heap.size = A at hI ⊢
  have hl := lv_entry ([.ref (ad 129)] : List Value) (n := 1) (Nat.le_of_ble_eq_true rfl)
  rw [lg_entry_eq]
  generalize (lg_sl ([.ref (ad 129)] : List Value) ++ List.replicate (1 - (lg_sl ([.ref (ad 129)] : List Value)).length) Slot.unset).toArray = ls at hl ⊢
  have hl : lv_has ls 1 [(0, .ref (ad 129))] := hl
  have hF : CallFix p m c cX0_year 1 s _ lw_all RX0 := ⟨hx, hb, hml, hown, hts⟩
  have hR : (headSpec (ws_ yX0_year cX0_year 1 (Option.some Jvm.ClassFile.FieldType.int)) (rmD 0 0 0)).room.frames = 0 + 1 ∧ (headSpec (ws_ yX0_year cX0_year 1 (Option.some Jvm.ClassFile.FieldType.int)) (rmD 0 0 0)).room.locals = 64 * 0 + 64 := ⟨rfl, rfl⟩
  generalize (headSpec (ws_ yX0_year cX0_year 1 (Option.some Jvm.ClassFile.FieldType.int)) (rmD 0 0 0)).room = R at hR ⊢
  generalize ([.ref (ad 129)] : List Value).toArray = args at hts hF ⊢
  generalize hQ : MQ below _ _ _ _ _ _ = Q
  unfold w_X_year at h
  refine lv_aload_n hx hb dX0_year_0 rfl (lv_at hl 0 rfl) ?_
  refine gXX0_12_129 hF hK hI dX0_year_1 ?_
  refine gXX0_78_130 hF hK hI dX0_year_4 ?_
  refine nr_bipush hx hb dX0_year_7 (by decide) ?_
  refine s_iald hx hb hK hI 3 (by decide) wX_3 (by decide) (by decide) dX0_year_9 (fun f1 => ?_)
  replace h := h f1
  rw [← hQ]; exact s_iret (K := fun r S' => S' = S ∧ K r) hx hb hr hlocks hI f1 ⟨rfl, h⟩ dX0_year_10
theorem cXX0_156 {p : Program} {l : Launch} {e : Env} {R : Room} {s : State} {m : MethodId} {args : Array Value} {below : List Frame} {meth : Method} {c : Code} {H : Heap} {locs : List Loc} {Q : State → Prop} {cc : ByteArray} {nL pc : Nat} {ls : Array Slot} {rest : List Value} {cells slots : Nat} {D : va_G} {dA : Nat → ClassId} {ad : Nat → Nat} {A : Nat → Prop} {H0 : Heap} {S : St} {dk : Nat} (hF : CallFix p m c cc nL s args lw_all RX0) (hK : gK D dA s) (hI : sI D dA wX ad A H0 S H locs) (hls : ls.size = nL) (hR : R.frames = dk + 1 ∧ R.locals = 64 * dk + 64) (hd : 0 + 1 ≤ dk) (hW : (rest.map fun v => v.category).sum ≤ 8) (hf : cells ≤ R.cells ∧ slots ≤ R.slots) {K : Int → Prop} (h : w_X_year S K) (hdg : decode cc pc = .ok (.invokevirtual 156, 3)) (kk : ∀ (r : Int) (H1 : Heap) (locs1 : List Loc), InR r → K r → sI D dA wX ad A H0 S H1 locs1 → W p l e R s m args below meth c H1 locs1 cells slots Q (F0 m (pc + 3) ls (iV r :: rest))) : W p l e R s m args below meth c H locs cells slots Q (F0 m (pc) ls (.ref (ad 129) :: rest)) := s_callVi (As := []) (rest := rest) (K := fun r S' => S' = S ∧ K r) hF (t_X_year l D dA ad S H.size K h) (s_recv hK hI 129 (by decide) wX_129 rfl) (cwV 0 hF.2.2.2.2 (lw_V q849 q851 qs27 q106 q852) rfl rfl rfl (by decide +kernel) ⟨by have h1 := hR.1; have h2 : (rmD 0 0 0).frames = 0 + 1 := rfl; omega, by have h1 := hR.2; have h2 : (rmD 0 0 0).locals = 64 * 0 + 64 := rfl; omega⟩) hK hI rfl hls rfl hW hdg hf (fun r S1 H1 locs1 f hk hI1 => by obtain ⟨rfl, hk⟩ := hk; exact kk r H1 locs1 f hk hI1)
theorem cXX0_149 {p : Program} {l : Launch} {e : Env} {R : Room} {s : State} {m : MethodId} {args : Array Value} {below : List Frame} {meth : Method} {c : Code} {H : Heap} {locs : List Loc} {Q : State → Prop} {cc : ByteArray} {nL pc : Nat} {ls : Array Slot} {rest : List Value} {cells slots : Nat} {D : va_G} {dA : Nat → ClassId} {ad : Nat → Nat} {A : Nat → Prop} {H0 : Heap} {S : St} {dk : Nat} (hF : CallFix p m c cc nL s args lw_all RX0) (hK : gK D dA s) (hI : sI D dA wX ad A H0 S H locs) (hls : ls.size = nL) (hR : R.frames = dk + 1 ∧ R.locals = 64 * dk + 64) (hd : 0 + 1 ≤ dk) (hW : (rest.map fun v => v.category).sum ≤ 8) (hf : cells ≤ R.cells ∧ slots ≤ R.slots) {x1 : Int} {x2 : Int} {K : Int → Prop} (r1 : InR x1) (r2 : InR x2) (h : w_X_bone_2 x1 x2 S K) (hdg : decode cc pc = .ok (.invokevirtual 149, 3)) (kk : ∀ (r : Int) (H1 : Heap) (locs1 : List Loc), InR r → K r → sI D dA wX ad A H0 S H1 locs1 → W p l e R s m args below meth c H1 locs1 cells slots Q (F0 m (pc + 3) ls (iV r :: rest))) : W p l e R s m args below meth c H locs cells slots Q (F0 m (pc) ls (iV x2 :: iV x1 :: .ref (ad 129) :: rest)) := s_callVi (As := [iV x1, iV x2]) (rest := rest) (K := fun r S' => S' = S ∧ K r) hF (t_X_bone_2 l D dA ad S H.size x1 x2 K r1 r2 h) (s_recv hK hI 129 (by decide) wX_129 rfl) (cwV 2 hF.2.2.2.2 (lw_V q853 q855 qs28 q106 q856) rfl rfl rfl (by decide +kernel) ⟨by have h1 := hR.1; have h2 : (rmD 0 0 0).frames = 0 + 1 := rfl; omega, by have h1 := hR.2; have h2 : (rmD 0 0 0).locals = 64 * 0 + 64 := rfl; omega⟩) hK hI rfl hls rfl hW hdg hf (fun r S1 H1 locs1 f hk hI1 => by obtain ⟨rfl, hk⟩ := hk; exact kk r H1 locs1 f hk hI1)
set_option maxHeartbeats 4000000 in
theorem t_X_canLend (l : Launch) (D : va_G) (dA : Nat → ClassId) (ad : Nat → Nat) (S : St) (sz : Nat) (x1 : Int) (x2 : Int) (x3 : Int) (K : Int → Prop) (rx1 : InR x1) (rx2 : InR x2) (rx3 : InR x3) (h : w_X_canLend x1 x2 x3 S K) : Met l yX0_canLend (ws_ yX0_canLend cX0_canLend 4 (Option.some Jvm.ClassFile.FieldType.boolean)) (rmD 2 0 0) (va_Pc [.ref (ad 129), iV x1, iV x2, iV x3] (sPre D dA wX ad S sz)) (va_Qi (fun r S' => (r.toInt = 0 ∨ r.toInt = 1) ∧ (S' = S ∧ K r.toInt)) (sPost D dA wX ad (wA wX ad S sz)) (wA wX ad S sz)) 0 0 (wA wX ad S sz) := by
  refine Met.ofW (cc := cX0_canLend) (maxL := 4) (ret := (Option.some Jvm.ClassFile.FieldType.boolean)) (by decide) rfl ?_
  intro p e s m args below meth c s₁ B hml hv
  obtain ⟨rfl, hsz, hK, hC⟩ := hv
  have hx := B.exec
  have hb := B.bytes
  have hr := B.returns
  have hlocks := B.notSynchronized
  have hts := atoms_spec (ws := (ws_ yX0_canLend cX0_canLend 4 (Option.some Jvm.ClassFile.FieldType.boolean))) B.pre
  have hts : ∀ w ∈ lw_all, w.before _ s = true := fun w h => hts w (List.mem_cons_of_mem _ h)
  have hown : s.vm.findClass RX0 = some m.cls := findClass_of_methodNamed B.named
  clear B
  subst hsz
  have hI : sI D dA wX ad (wA wX ad S s.heap.size) s.heap S s.heap [] := hC.start
  clear hC
  generalize wA wX ad S s.heap.size = A at hI ⊢
  have hl := lv_entry ([.ref (ad 129), iV x1, iV x2, iV x3] : List Value) (n := 4) (Nat.le_of_ble_eq_true rfl)
  rw [lg_entry_eq]
  generalize (lg_sl ([.ref (ad 129), iV x1, iV x2, iV x3] : List Value) ++ List.replicate (4 - (lg_sl ([.ref (ad 129), iV x1, iV x2, iV x3] : List Value)).length) Slot.unset).toArray = ls at hl ⊢
  have hl : lv_has ls 4 [(0, .ref (ad 129)), (1, iV x1), (2, iV x2), (3, iV x3)] := hl
  have hF : CallFix p m c cX0_canLend 4 s _ lw_all RX0 := ⟨hx, hb, hml, hown, hts⟩
  have hR : (headSpec (ws_ yX0_canLend cX0_canLend 4 (Option.some Jvm.ClassFile.FieldType.boolean)) (rmD 2 0 0)).room.frames = 2 + 1 ∧ (headSpec (ws_ yX0_canLend cX0_canLend 4 (Option.some Jvm.ClassFile.FieldType.boolean)) (rmD 2 0 0)).room.locals = 64 * 2 + 64 := ⟨rfl, rfl⟩
  generalize (headSpec (ws_ yX0_canLend cX0_canLend 4 (Option.some Jvm.ClassFile.FieldType.boolean)) (rmD 2 0 0)).room = R at hR ⊢
  generalize ([.ref (ad 129), iV x1, iV x2, iV x3] : List Value).toArray = args at hts hF ⊢
  generalize hQ : MQ below _ _ _ _ _ _ = Q
  unfold w_X_canLend at h
  refine lv_aload_n hx hb dX0_canLend_0 rfl (lv_at hl 0 rfl) ?_
  refine lv_iload_n hx hb dX0_canLend_1 rfl (lv_at hl 1 rfl) ?_
  refine cXX0_110 hF hK hI hl.1 hR (by decide) (Nat.le_of_ble_eq_true rfl) ⟨Nat.zero_le _, Nat.zero_le _⟩ rx1 h dX0_canLend_2 (fun r1 H locs fr1 h hI => ?_)
  replace h := h fr1
  have gr1 : InR r1 := kdP_R (k := 2) (by decide) fr1
  refine nr_if_eq hx hb gr1 dX0_canLend_5 (tgt := 77) (by decide) (fun c3 => ?_) (fun c3 => ?_)
  · replace h := h.1 c3
    refine nr_iconst hx hb dX0_canLend_77 ?_
    rw [← hQ]; exact s_zret (K := fun r S' => S' = S ∧ K r) hx hb hr hlocks hI (by decide) ⟨rfl, h⟩ dX0_canLend_78
  · replace h := h.2 c3
    refine lv_aload_n hx hb dX0_canLend_8 rfl (lv_at hl 0 rfl) ?_
    refine lv_iload_n hx hb dX0_canLend_9 rfl (lv_at hl 2 rfl) ?_
    refine cXX0_93 hF hK hI hl.1 hR (by decide) (Nat.le_of_ble_eq_true rfl) ⟨Nat.zero_le _, Nat.zero_le _⟩ rx2 h dX0_canLend_10 (fun r4 H locs fr4 h hI => ?_)
    replace h := h fr4
    have gr4 : InR r4 := kdP_R (k := 2) (by decide) fr4
    refine nr_if_eq hx hb gr4 dX0_canLend_13 (tgt := 77) (by decide) (fun c6 => ?_) (fun c6 => ?_)
    · replace h := h.1 c6
      refine nr_iconst hx hb dX0_canLend_77 ?_
      rw [← hQ]; exact s_zret (K := fun r S' => S' = S ∧ K r) hx hb hr hlocks hI (by decide) ⟨rfl, h⟩ dX0_canLend_78
    · replace h := h.2 c6
      refine lv_iload_n hx hb dX0_canLend_16 rfl (lv_at hl 3 rfl) ?_
      refine nr_iconst hx hb dX0_canLend_17 ?_
      refine nr_bipush hx hb dX0_canLend_18 (by decide) ?_
      refine cXX0_74 hF hK hI hl.1 hR (by decide) (Nat.le_of_ble_eq_true rfl) ⟨Nat.zero_le _, Nat.zero_le _⟩ rx3 (by decide) (by decide) h dX0_canLend_20 (fun r7 H locs fr7 h hI => ?_)
      replace h := h fr7
      have gr7 : InR r7 := kdP_R (k := 2) (by decide) fr7
      refine nr_if_eq hx hb gr7 dX0_canLend_23 (tgt := 77) (by decide) (fun c9 => ?_) (fun c9 => ?_)
      · replace h := h.1 c9
        refine nr_iconst hx hb dX0_canLend_77 ?_
        rw [← hQ]; exact s_zret (K := fun r S' => S' = S ∧ K r) hx hb hr hlocks hI (by decide) ⟨rfl, h⟩ dX0_canLend_78
      · replace h := h.2 c9
        refine lv_aload_n hx hb dX0_canLend_26 rfl (lv_at hl 0 rfl) ?_
        refine cXX0_156 hF hK hI hl.1 hR (by decide) (Nat.le_of_ble_eq_true rfl) ⟨Nat.zero_le _, Nat.zero_le _⟩ h dX0_canLend_27 (fun r10 H locs fr10 h hI => ?_)
        replace h := h fr10
        refine lv_iload_n hx hb dX0_canLend_30 rfl (lv_at hl 3 rfl) ?_
        have f12 := h.1; replace h := h.2
        refine nr_iadd hx hb dX0_canLend_31 ?_
        refine nr_sipush hx hb dX0_canLend_32 (by decide) ?_
        refine nr_icmp_gt hx hb f12 (by decide) dX0_canLend_35 (tgt := 77) (by decide) (fun c13 => ?_) (fun c13 => ?_)
        · replace h := h.1 c13
          refine nr_iconst hx hb dX0_canLend_77 ?_
          rw [← hQ]; exact s_zret (K := fun r S' => S' = S ∧ K r) hx hb hr hlocks hI (by decide) ⟨rfl, h⟩ dX0_canLend_78
        · replace h := h.2 c13
          refine lv_aload_n hx hb dX0_canLend_38 rfl (lv_at hl 0 rfl) ?_
          refine lv_iload_n hx hb dX0_canLend_39 rfl (lv_at hl 1 rfl) ?_
          refine nr_iconst hx hb dX0_canLend_40 ?_
          refine cXX0_149 hF hK hI hl.1 hR (by decide) (Nat.le_of_ble_eq_true rfl) ⟨Nat.zero_le _, Nat.zero_le _⟩ rx1 (by decide) h dX0_canLend_41 (fun r14 H locs fr14 h hI => ?_)
          replace h := h fr14
          refine lv_aload_n hx hb dX0_canLend_44 rfl (lv_at hl 0 rfl) ?_
          refine lv_iload_n hx hb dX0_canLend_45 rfl (lv_at hl 1 rfl) ?_
          refine nr_iconst hx hb dX0_canLend_46 ?_
          refine cXX0_149 hF hK hI hl.1 hR (by decide) (Nat.le_of_ble_eq_true rfl) ⟨Nat.zero_le _, Nat.zero_le _⟩ rx1 (by decide) h dX0_canLend_47 (fun r16 H locs fr16 h hI => ?_)
          replace h := h fr16
          refine nr_icmp_ne hx hb fr14 fr16 dX0_canLend_50 (tgt := 77) (by decide) (fun c18 => ?_) (fun c18 => ?_)
          · replace h := h.1 c18
            refine nr_iconst hx hb dX0_canLend_77 ?_
            rw [← hQ]; exact s_zret (K := fun r S' => S' = S ∧ K r) hx hb hr hlocks hI (by decide) ⟨rfl, h⟩ dX0_canLend_78
          · replace h := h.2 c18
            refine lv_aload_n hx hb dX0_canLend_53 rfl (lv_at hl 0 rfl) ?_
            refine lv_iload_n hx hb dX0_canLend_54 rfl (lv_at hl 1 rfl) ?_
            refine nr_iconst hx hb dX0_canLend_55 ?_
            refine cXX0_149 hF hK hI hl.1 hR (by decide) (Nat.le_of_ble_eq_true rfl) ⟨Nat.zero_le _, Nat.zero_le _⟩ rx1 (by decide) h dX0_canLend_56 (fun r19 H locs fr19 h hI => ?_)
            replace h := h fr19
            refine nr_iconst hx hb dX0_canLend_59 ?_
            refine nr_icmp_ne hx hb fr19 (by decide) dX0_canLend_60 (tgt := 77) (by decide) (fun c21 => ?_) (fun c21 => ?_)
            · replace h := h.1 c21
              refine nr_iconst hx hb dX0_canLend_77 ?_
              rw [← hQ]; exact s_zret (K := fun r S' => S' = S ∧ K r) hx hb hr hlocks hI (by decide) ⟨rfl, h⟩ dX0_canLend_78
            · replace h := h.2 c21
              refine lv_aload_n hx hb dX0_canLend_63 rfl (lv_at hl 0 rfl) ?_
              refine lv_iload_n hx hb dX0_canLend_64 rfl (lv_at hl 1 rfl) ?_
              refine nr_iconst hx hb dX0_canLend_65 ?_
              refine cXX0_149 hF hK hI hl.1 hR (by decide) (Nat.le_of_ble_eq_true rfl) ⟨Nat.zero_le _, Nat.zero_le _⟩ rx1 (by decide) h dX0_canLend_66 (fun r22 H locs fr22 h hI => ?_)
              replace h := h fr22
              refine lv_iload_n hx hb dX0_canLend_69 rfl (lv_at hl 2 rfl) ?_
              refine nr_icmp_eq hx hb fr22 rx2 dX0_canLend_70 (tgt := 77) (by decide) (fun c24 => ?_) (fun c24 => ?_)
              · replace h := h.1 c24
                refine nr_iconst hx hb dX0_canLend_77 ?_
                rw [← hQ]; exact s_zret (K := fun r S' => S' = S ∧ K r) hx hb hr hlocks hI (by decide) ⟨rfl, h⟩ dX0_canLend_78
              · replace h := h.2 c24
                refine nr_iconst hx hb dX0_canLend_73 ?_
                refine lv_goto (tgt := 78) hx hb dX0_canLend_74 (by decide) ?_
                rw [← hQ]; exact s_zret (K := fun r S' => S' = S ∧ K r) hx hb hr hlocks hI (by decide) ⟨rfl, h⟩ dX0_canLend_78
theorem cXX0_160 {p : Program} {l : Launch} {e : Env} {R : Room} {s : State} {m : MethodId} {args : Array Value} {below : List Frame} {meth : Method} {c : Code} {H : Heap} {locs : List Loc} {Q : State → Prop} {cc : ByteArray} {nL pc : Nat} {ls : Array Slot} {rest : List Value} {cells slots : Nat} {D : va_G} {dA : Nat → ClassId} {ad : Nat → Nat} {A : Nat → Prop} {H0 : Heap} {S : St} {dk : Nat} (hF : CallFix p m c cc nL s args lw_all RX0) (hK : gK D dA s) (hI : sI D dA wX ad A H0 S H locs) (hls : ls.size = nL) (hR : R.frames = dk + 1 ∧ R.locals = 64 * dk + 64) (hd : 2 + 1 ≤ dk) (hW : (rest.map fun v => v.category).sum ≤ 8) (hf : cells ≤ R.cells ∧ slots ≤ R.slots) {x1 : Int} {x2 : Int} {x3 : Int} {K : Int → Prop} (r1 : InR x1) (r2 : InR x2) (r3 : InR x3) (h : w_X_canLend x1 x2 x3 S K) (hdg : decode cc pc = .ok (.invokevirtual 160, 3)) (kk : ∀ (r : Int) (H1 : Heap) (locs1 : List Loc), (r = 0 ∨ r = 1) → K r → sI D dA wX ad A H0 S H1 locs1 → W p l e R s m args below meth c H1 locs1 cells slots Q (F0 m (pc + 3) ls (iV r :: rest))) : W p l e R s m args below meth c H locs cells slots Q (F0 m (pc) ls (iV x3 :: iV x2 :: iV x1 :: .ref (ad 129) :: rest)) := s_callVz (As := [iV x1, iV x2, iV x3]) (rest := rest) (K := fun r S' => S' = S ∧ K r) hF (t_X_canLend l D dA ad S H.size x1 x2 x3 K r1 r2 r3 h) (s_recv hK hI 129 (by decide) wX_129 rfl) (cwV 3 hF.2.2.2.2 (lw_V q845 q847 qs26 q106 q848) rfl rfl rfl (by decide +kernel) ⟨by have h1 := hR.1; have h2 : (rmD 2 0 0).frames = 2 + 1 := rfl; omega, by have h1 := hR.2; have h2 : (rmD 2 0 0).locals = 64 * 2 + 64 := rfl; omega⟩) hK hI rfl hls rfl hW hdg hf (fun r S1 H1 locs1 f hk hI1 => by obtain ⟨rfl, hk⟩ := hk; exact kk r H1 locs1 f hk hI1)
set_option maxHeartbeats 4000000 in
theorem t_X_lends (l : Launch) (D : va_G) (dA : Nat → ClassId) (ad : Nat → Nat) (S : St) (sz : Nat) (x1 : Int) (x2 : Int) (x3 : Int) (K : Int → St → Prop) (rx1 : InR x1) (rx2 : InR x2) (rx3 : InR x3) (h : w_X_lends x1 x2 x3 S K) : Met l yX0_lends (ws_ yX0_lends cX0_lends 4 (Option.some Jvm.ClassFile.FieldType.boolean)) (rmD 3 0 0) (va_Pc [.ref (ad 129), iV x1, iV x2, iV x3] (sPre D dA wX ad S sz)) (va_Qi (fun r S' => (r.toInt = 0 ∨ r.toInt = 1) ∧ (K r.toInt S')) (sPost D dA wX ad (wA wX ad S sz)) (wA wX ad S sz)) 0 0 (wA wX ad S sz) := by
  refine Met.ofW (cc := cX0_lends) (maxL := 4) (ret := (Option.some Jvm.ClassFile.FieldType.boolean)) (by decide) rfl ?_
  intro p e s m args below meth c s₁ B hml hv
  obtain ⟨rfl, hsz, hK, hC⟩ := hv
  have hx := B.exec
  have hb := B.bytes
  have hr := B.returns
  have hlocks := B.notSynchronized
  have hts := atoms_spec (ws := (ws_ yX0_lends cX0_lends 4 (Option.some Jvm.ClassFile.FieldType.boolean))) B.pre
  have hts : ∀ w ∈ lw_all, w.before _ s = true := fun w h => hts w (List.mem_cons_of_mem _ h)
  have hown : s.vm.findClass RX0 = some m.cls := findClass_of_methodNamed B.named
  clear B
  subst hsz
  have hI : sI D dA wX ad (wA wX ad S s.heap.size) s.heap S s.heap [] := hC.start
  clear hC
  generalize wA wX ad S s.heap.size = A at hI ⊢
  have hl := lv_entry ([.ref (ad 129), iV x1, iV x2, iV x3] : List Value) (n := 4) (Nat.le_of_ble_eq_true rfl)
  rw [lg_entry_eq]
  generalize (lg_sl ([.ref (ad 129), iV x1, iV x2, iV x3] : List Value) ++ List.replicate (4 - (lg_sl ([.ref (ad 129), iV x1, iV x2, iV x3] : List Value)).length) Slot.unset).toArray = ls at hl ⊢
  have hl : lv_has ls 4 [(0, .ref (ad 129)), (1, iV x1), (2, iV x2), (3, iV x3)] := hl
  have hF : CallFix p m c cX0_lends 4 s _ lw_all RX0 := ⟨hx, hb, hml, hown, hts⟩
  have hR : (headSpec (ws_ yX0_lends cX0_lends 4 (Option.some Jvm.ClassFile.FieldType.boolean)) (rmD 3 0 0)).room.frames = 3 + 1 ∧ (headSpec (ws_ yX0_lends cX0_lends 4 (Option.some Jvm.ClassFile.FieldType.boolean)) (rmD 3 0 0)).room.locals = 64 * 3 + 64 := ⟨rfl, rfl⟩
  generalize (headSpec (ws_ yX0_lends cX0_lends 4 (Option.some Jvm.ClassFile.FieldType.boolean)) (rmD 3 0 0)).room = R at hR ⊢
  generalize ([.ref (ad 129), iV x1, iV x2, iV x3] : List Value).toArray = args at hts hF ⊢
  generalize hQ : MQ below _ _ _ _ _ _ = Q
  unfold w_X_lends at h
  refine lv_aload_n hx hb dX0_lends_0 rfl (lv_at hl 0 rfl) ?_
  refine lv_iload_n hx hb dX0_lends_1 rfl (lv_at hl 1 rfl) ?_
  refine lv_iload_n hx hb dX0_lends_2 rfl (lv_at hl 2 rfl) ?_
  refine lv_iload_n hx hb dX0_lends_3 rfl (lv_at hl 3 rfl) ?_
  refine cXX0_160 hF hK hI hl.1 hR (by decide) (Nat.le_of_ble_eq_true rfl) ⟨Nat.zero_le _, Nat.zero_le _⟩ rx1 rx2 rx3 h dX0_lends_4 (fun r1 H locs fr1 h hI => ?_)
  replace h := h fr1
  have gr1 : InR r1 := kdP_R (k := 2) (by decide) fr1
  refine nr_if_ne hx hb gr1 dX0_lends_7 (tgt := 12) (by decide) (fun c3 => ?_) (fun c3 => ?_)
  · replace h := h.1 c3
    refine lv_aload_n hx hb dX0_lends_12 rfl (lv_at hl 0 rfl) ?_
    refine gXX0_12_129 hF hK hI dX0_lends_13 ?_
    refine cXX0_117 hF hK hI hl.1 hR (by decide) (Nat.le_of_ble_eq_true rfl) ⟨Nat.zero_le _, Nat.zero_le _⟩ h dX0_lends_16 (fun S5 H locs h hI => ?_)
    refine lv_aload_n hx hb dX0_lends_19 rfl (lv_at hl 0 rfl) ?_
    refine lv_iload_n hx hb dX0_lends_20 rfl (lv_at hl 1 rfl) ?_
    refine nr_iconst hx hb dX0_lends_21 ?_
    refine lv_iload_n hx hb dX0_lends_22 rfl (lv_at hl 2 rfl) ?_
    refine cXX0_97 hF hK hI hl.1 hR (by decide) (Nat.le_of_ble_eq_true rfl) ⟨Nat.zero_le _, Nat.zero_le _⟩ rx1 (by decide) rx2 h dX0_lends_23 (fun S7 H locs h hI => ?_)
    refine lv_aload_n hx hb dX0_lends_26 rfl (lv_at hl 0 rfl) ?_
    refine lv_iload_n hx hb dX0_lends_27 rfl (lv_at hl 1 rfl) ?_
    refine nr_iconst hx hb dX0_lends_28 ?_
    refine lv_aload_n hx hb dX0_lends_29 rfl (lv_at hl 0 rfl) ?_
    refine cXX0_156 hF hK hI hl.1 hR (by decide) (Nat.le_of_ble_eq_true rfl) ⟨Nat.zero_le _, Nat.zero_le _⟩ h dX0_lends_30 (fun r8 H locs fr8 h hI => ?_)
    replace h := h fr8
    refine lv_iload_n hx hb dX0_lends_33 rfl (lv_at hl 3 rfl) ?_
    have f10 := h.1; replace h := h.2
    refine nr_iadd hx hb dX0_lends_34 ?_
    refine cXX0_97 hF hK hI hl.1 hR (by decide) (Nat.le_of_ble_eq_true rfl) ⟨Nat.zero_le _, Nat.zero_le _⟩ rx1 (by decide) f10 h dX0_lends_35 (fun S12 H locs h hI => ?_)
    refine nr_iconst hx hb dX0_lends_38 ?_
    rw [← hQ]; exact s_zret (K := K) hx hb hr hlocks hI (by decide) h dX0_lends_39
  · replace h := h.2 c3
    refine nr_iconst hx hb dX0_lends_10 ?_
    rw [← hQ]; exact s_zret (K := K) hx hb hr hlocks hI (by decide) h dX0_lends_11
theorem cXX0_163 {p : Program} {l : Launch} {e : Env} {R : Room} {s : State} {m : MethodId} {args : Array Value} {below : List Frame} {meth : Method} {c : Code} {H : Heap} {locs : List Loc} {Q : State → Prop} {cc : ByteArray} {nL pc : Nat} {ls : Array Slot} {rest : List Value} {cells slots : Nat} {D : va_G} {dA : Nat → ClassId} {ad : Nat → Nat} {A : Nat → Prop} {H0 : Heap} {S : St} {dk : Nat} (hF : CallFix p m c cc nL s args lw_all RX0) (hK : gK D dA s) (hI : sI D dA wX ad A H0 S H locs) (hls : ls.size = nL) (hR : R.frames = dk + 1 ∧ R.locals = 64 * dk + 64) (hd : 3 + 1 ≤ dk) (hW : (rest.map fun v => v.category).sum ≤ 8) (hf : cells ≤ R.cells ∧ slots ≤ R.slots) {x1 : Int} {x2 : Int} {x3 : Int} {K : Int → St → Prop} (r1 : InR x1) (r2 : InR x2) (r3 : InR x3) (h : w_X_lends x1 x2 x3 S K) (hdg : decode cc pc = .ok (.invokevirtual 163, 3)) (kk : ∀ (r : Int) (S1 : St) (H1 : Heap) (locs1 : List Loc), (r = 0 ∨ r = 1) → K r S1 → sI D dA wX ad A H0 S1 H1 locs1 → W p l e R s m args below meth c H1 locs1 cells slots Q (F0 m (pc + 3) ls (iV r :: rest))) : W p l e R s m args below meth c H locs cells slots Q (F0 m (pc) ls (iV x3 :: iV x2 :: iV x1 :: .ref (ad 129) :: rest)) := s_callVz (As := [iV x1, iV x2, iV x3]) (rest := rest) (K := K) hF (t_X_lends l D dA ad S H.size x1 x2 x3 K r1 r2 r3 h) (s_recv hK hI 129 (by decide) wX_129 rfl) (cwV 3 hF.2.2.2.2 (lw_V q841 q843 qs25 q106 q844) rfl rfl rfl (by decide +kernel) ⟨by have h1 := hR.1; have h2 : (rmD 3 0 0).frames = 3 + 1 := rfl; omega, by have h1 := hR.2; have h2 : (rmD 3 0 0).locals = 64 * 3 + 64 := rfl; omega⟩) hK hI rfl hls rfl hW hdg hf kk
set_option maxHeartbeats 4000000 in
theorem t_X_lend (l : Launch) (D : va_G) (dA : Nat → ClassId) (ad : Nat → Nat) (S : St) (sz : Nat) (x1 : Int) (x2 : Int) (x3 : Int) (K : Int → St → Prop) (rx1 : InR x1) (rx2 : InR x2) (rx3 : InR x3) (h : w_X_lend x1 x2 x3 S K) : Met l yX0_lend (ws_ yX0_lend cX0_lend 4 (Option.some Jvm.ClassFile.FieldType.int)) (rmD 4 0 0) (va_Pc [.ref (ad 129), iV x1, iV x2, iV x3] (sPre D dA wX ad S sz)) (va_Qi (fun r S' => K r.toInt S') (sPost D dA wX ad (wA wX ad S sz)) (wA wX ad S sz)) 0 0 (wA wX ad S sz) := by
  refine Met.ofW (cc := cX0_lend) (maxL := 4) (ret := (Option.some Jvm.ClassFile.FieldType.int)) (by decide) rfl ?_
  intro p e s m args below meth c s₁ B hml hv
  obtain ⟨rfl, hsz, hK, hC⟩ := hv
  have hx := B.exec
  have hb := B.bytes
  have hr := B.returns
  have hlocks := B.notSynchronized
  have hts := atoms_spec (ws := (ws_ yX0_lend cX0_lend 4 (Option.some Jvm.ClassFile.FieldType.int))) B.pre
  have hts : ∀ w ∈ lw_all, w.before _ s = true := fun w h => hts w (List.mem_cons_of_mem _ h)
  have hown : s.vm.findClass RX0 = some m.cls := findClass_of_methodNamed B.named
  clear B
  subst hsz
  have hI : sI D dA wX ad (wA wX ad S s.heap.size) s.heap S s.heap [] := hC.start
  clear hC
  generalize wA wX ad S s.heap.size = A at hI ⊢
  have hl := lv_entry ([.ref (ad 129), iV x1, iV x2, iV x3] : List Value) (n := 4) (Nat.le_of_ble_eq_true rfl)
  rw [lg_entry_eq]
  generalize (lg_sl ([.ref (ad 129), iV x1, iV x2, iV x3] : List Value) ++ List.replicate (4 - (lg_sl ([.ref (ad 129), iV x1, iV x2, iV x3] : List Value)).length) Slot.unset).toArray = ls at hl ⊢
  have hl : lv_has ls 4 [(0, .ref (ad 129)), (1, iV x1), (2, iV x2), (3, iV x3)] := hl
  have hF : CallFix p m c cX0_lend 4 s _ lw_all RX0 := ⟨hx, hb, hml, hown, hts⟩
  have hR : (headSpec (ws_ yX0_lend cX0_lend 4 (Option.some Jvm.ClassFile.FieldType.int)) (rmD 4 0 0)).room.frames = 4 + 1 ∧ (headSpec (ws_ yX0_lend cX0_lend 4 (Option.some Jvm.ClassFile.FieldType.int)) (rmD 4 0 0)).room.locals = 64 * 4 + 64 := ⟨rfl, rfl⟩
  generalize (headSpec (ws_ yX0_lend cX0_lend 4 (Option.some Jvm.ClassFile.FieldType.int)) (rmD 4 0 0)).room = R at hR ⊢
  generalize ([.ref (ad 129), iV x1, iV x2, iV x3] : List Value).toArray = args at hts hF ⊢
  generalize hQ : MQ below _ _ _ _ _ _ = Q
  unfold w_X_lend at h
  refine lv_aload_n hx hb dX0_lend_0 rfl (lv_at hl 0 rfl) ?_
  refine lv_iload_n hx hb dX0_lend_1 rfl (lv_at hl 1 rfl) ?_
  refine lv_iload_n hx hb dX0_lend_2 rfl (lv_at hl 2 rfl) ?_
  refine lv_iload_n hx hb dX0_lend_3 rfl (lv_at hl 3 rfl) ?_
  refine cXX0_163 hF hK hI hl.1 hR (by decide) (Nat.le_of_ble_eq_true rfl) ⟨Nat.zero_le _, Nat.zero_le _⟩ rx1 rx2 rx3 h dX0_lend_4 (fun r1 S2 H locs fr1 h hI => ?_)
  replace h := h fr1
  have gr1 : InR r1 := kdP_R (k := 2) (by decide) fr1
  refine nr_if_eq hx hb gr1 dX0_lend_7 (tgt := 19) (by decide) (fun c3 => ?_) (fun c3 => ?_)
  · replace h := h.1 c3
    refine nr_iconst hx hb dX0_lend_19 ?_
    rw [← hQ]; exact s_iret (K := K) hx hb hr hlocks hI (by decide) h dX0_lend_20
  · replace h := h.2 c3
    refine lv_aload_n hx hb dX0_lend_10 rfl (lv_at hl 0 rfl) ?_
    refine lv_iload_n hx hb dX0_lend_11 rfl (lv_at hl 1 rfl) ?_
    refine nr_iconst hx hb dX0_lend_12 ?_
    refine cXX0_149 hF hK hI hl.1 hR (by decide) (Nat.le_of_ble_eq_true rfl) ⟨Nat.zero_le _, Nat.zero_le _⟩ rx1 (by decide) h dX0_lend_13 (fun r4 H locs fr4 h hI => ?_)
    replace h := h fr4
    refine lv_goto (tgt := 20) hx hb dX0_lend_16 (by decide) ?_
    rw [← hQ]; exact s_iret (K := K) hx hb hr hlocks hI fr4 h dX0_lend_20
set_option maxHeartbeats 4000000 in
theorem t_X_swap (l : Launch) (D : va_G) (dA : Nat → ClassId) (ad : Nat → Nat) (S : St) (sz : Nat) (x1 : Int) (x2 : Int) (K : Int → St → Prop) (rx1 : InR x1) (rx2 : InR x2) (h : w_X_swap x1 x2 S K) : Met l yX0_swap (ws_ yX0_swap cX0_swap 4 (Option.some Jvm.ClassFile.FieldType.boolean)) (rmD 3 0 0) (va_Pc [.ref (ad 129), iV x1, iV x2] (sPre D dA wX ad S sz)) (va_Qi (fun r S' => (r.toInt = 0 ∨ r.toInt = 1) ∧ (K r.toInt S')) (sPost D dA wX ad (wA wX ad S sz)) (wA wX ad S sz)) 0 0 (wA wX ad S sz) := by
  refine Met.ofW (cc := cX0_swap) (maxL := 4) (ret := (Option.some Jvm.ClassFile.FieldType.boolean)) (by decide) rfl ?_
  intro p e s m args below meth c s₁ B hml hv
  obtain ⟨rfl, hsz, hK, hC⟩ := hv
  have hx := B.exec
  have hb := B.bytes
  have hr := B.returns
  have hlocks := B.notSynchronized
  have hts := atoms_spec (ws := (ws_ yX0_swap cX0_swap 4 (Option.some Jvm.ClassFile.FieldType.boolean))) B.pre
  have hts : ∀ w ∈ lw_all, w.before _ s = true := fun w h => hts w (List.mem_cons_of_mem _ h)
  have hown : s.vm.findClass RX0 = some m.cls := findClass_of_methodNamed B.named
  clear B
  subst hsz
  have hI : sI D dA wX ad (wA wX ad S s.heap.size) s.heap S s.heap [] := hC.start
  clear hC
  generalize wA wX ad S s.heap.size = A at hI ⊢
  have hl := lv_entry ([.ref (ad 129), iV x1, iV x2] : List Value) (n := 4) (Nat.le_of_ble_eq_true rfl)
  rw [lg_entry_eq]
  generalize (lg_sl ([.ref (ad 129), iV x1, iV x2] : List Value) ++ List.replicate (4 - (lg_sl ([.ref (ad 129), iV x1, iV x2] : List Value)).length) Slot.unset).toArray = ls at hl ⊢
  have hl : lv_has ls 4 [(0, .ref (ad 129)), (1, iV x1), (2, iV x2)] := hl
  have hF : CallFix p m c cX0_swap 4 s _ lw_all RX0 := ⟨hx, hb, hml, hown, hts⟩
  have hR : (headSpec (ws_ yX0_swap cX0_swap 4 (Option.some Jvm.ClassFile.FieldType.boolean)) (rmD 3 0 0)).room.frames = 3 + 1 ∧ (headSpec (ws_ yX0_swap cX0_swap 4 (Option.some Jvm.ClassFile.FieldType.boolean)) (rmD 3 0 0)).room.locals = 64 * 3 + 64 := ⟨rfl, rfl⟩
  generalize (headSpec (ws_ yX0_swap cX0_swap 4 (Option.some Jvm.ClassFile.FieldType.boolean)) (rmD 3 0 0)).room = R at hR ⊢
  generalize ([.ref (ad 129), iV x1, iV x2] : List Value).toArray = args at hts hF ⊢
  generalize hQ : MQ below _ _ _ _ _ _ = Q
  unfold w_X_swap at h
  refine lv_aload_n hx hb dX0_swap_0 rfl (lv_at hl 0 rfl) ?_
  refine lv_iload_n hx hb dX0_swap_1 rfl (lv_at hl 1 rfl) ?_
  refine cXX0_110 hF hK hI hl.1 hR (by decide) (Nat.le_of_ble_eq_true rfl) ⟨Nat.zero_le _, Nat.zero_le _⟩ rx1 h dX0_swap_2 (fun r1 H locs fr1 h hI => ?_)
  replace h := h fr1
  have gr1 : InR r1 := kdP_R (k := 2) (by decide) fr1
  refine nr_if_eq hx hb gr1 dX0_swap_5 (tgt := 31) (by decide) (fun c3 => ?_) (fun c3 => ?_)
  · replace h := h.1 c3
    refine nr_iconst hx hb dX0_swap_31 ?_
    rw [← hQ]; exact s_zret (K := K) hx hb hr hlocks hI (by decide) h dX0_swap_32
  · replace h := h.2 c3
    refine lv_aload_n hx hb dX0_swap_8 rfl (lv_at hl 0 rfl) ?_
    refine lv_iload_n hx hb dX0_swap_9 rfl (lv_at hl 2 rfl) ?_
    refine cXX0_110 hF hK hI hl.1 hR (by decide) (Nat.le_of_ble_eq_true rfl) ⟨Nat.zero_le _, Nat.zero_le _⟩ rx2 h dX0_swap_10 (fun r4 H locs fr4 h hI => ?_)
    replace h := h fr4
    have gr4 : InR r4 := kdP_R (k := 2) (by decide) fr4
    refine nr_if_eq hx hb gr4 dX0_swap_13 (tgt := 31) (by decide) (fun c6 => ?_) (fun c6 => ?_)
    · replace h := h.1 c6
      refine nr_iconst hx hb dX0_swap_31 ?_
      rw [← hQ]; exact s_zret (K := K) hx hb hr hlocks hI (by decide) h dX0_swap_32
    · replace h := h.2 c6
      refine lv_aload_n hx hb dX0_swap_16 rfl (lv_at hl 0 rfl) ?_
      refine lv_iload_n hx hb dX0_swap_17 rfl (lv_at hl 1 rfl) ?_
      refine nr_iconst hx hb dX0_swap_18 ?_
      refine cXX0_149 hF hK hI hl.1 hR (by decide) (Nat.le_of_ble_eq_true rfl) ⟨Nat.zero_le _, Nat.zero_le _⟩ rx1 (by decide) h dX0_swap_19 (fun r7 H locs fr7 h hI => ?_)
      replace h := h fr7
      refine lv_aload_n hx hb dX0_swap_22 rfl (lv_at hl 0 rfl) ?_
      refine lv_iload_n hx hb dX0_swap_23 rfl (lv_at hl 2 rfl) ?_
      refine nr_iconst hx hb dX0_swap_24 ?_
      refine cXX0_149 hF hK hI hl.1 hR (by decide) (Nat.le_of_ble_eq_true rfl) ⟨Nat.zero_le _, Nat.zero_le _⟩ rx2 (by decide) h dX0_swap_25 (fun r9 H locs fr9 h hI => ?_)
      replace h := h fr9
      refine nr_icmp_ne hx hb fr7 fr9 dX0_swap_28 (tgt := 33) (by decide) (fun c11 => ?_) (fun c11 => ?_)
      · replace h := h.1 c11
        refine lv_aload_n hx hb dX0_swap_33 rfl (lv_at hl 0 rfl) ?_
        refine gXX0_12_129 hF hK hI dX0_swap_34 ?_
        refine cXX0_117 hF hK hI hl.1 hR (by decide) (Nat.le_of_ble_eq_true rfl) ⟨Nat.zero_le _, Nat.zero_le _⟩ h dX0_swap_37 (fun S13 H locs h hI => ?_)
        refine lv_aload_n hx hb dX0_swap_40 rfl (lv_at hl 0 rfl) ?_
        refine lv_iload_n hx hb dX0_swap_41 rfl (lv_at hl 1 rfl) ?_
        refine nr_iconst hx hb dX0_swap_42 ?_
        refine cXX0_149 hF hK hI hl.1 hR (by decide) (Nat.le_of_ble_eq_true rfl) ⟨Nat.zero_le _, Nat.zero_le _⟩ rx1 (by decide) h dX0_swap_43 (fun r14 H locs fr14 h hI => ?_)
        replace h := h fr14
        refine lv_istore_n (lv' := [(3, iV r14), (0, .ref (ad 129)), (1, iV x1), (2, iV x2)]) hx hb dX0_swap_46 rfl hl (by decide) rfl (fun ls hl => ?_)
        refine lv_aload_n hx hb dX0_swap_47 rfl (lv_at hl 1 rfl) ?_
        refine lv_iload_n hx hb dX0_swap_48 rfl (lv_at hl 2 rfl) ?_
        refine nr_iconst hx hb dX0_swap_49 ?_
        refine lv_aload_n hx hb dX0_swap_50 rfl (lv_at hl 1 rfl) ?_
        refine lv_iload_n hx hb dX0_swap_51 rfl (lv_at hl 3 rfl) ?_
        refine nr_iconst hx hb dX0_swap_52 ?_
        refine cXX0_149 hF hK hI hl.1 hR (by decide) (Nat.le_of_ble_eq_true rfl) ⟨Nat.zero_le _, Nat.zero_le _⟩ rx2 (by decide) h dX0_swap_53 (fun r16 H locs fr16 h hI => ?_)
        replace h := h fr16
        refine cXX0_97 hF hK hI hl.1 hR (by decide) (Nat.le_of_ble_eq_true rfl) ⟨Nat.zero_le _, Nat.zero_le _⟩ rx1 (by decide) fr16 h dX0_swap_56 (fun S19 H locs h hI => ?_)
        refine lv_aload_n hx hb dX0_swap_59 rfl (lv_at hl 1 rfl) ?_
        refine lv_iload_n hx hb dX0_swap_60 rfl (lv_at hl 3 rfl) ?_
        refine nr_iconst hx hb dX0_swap_61 ?_
        refine lv_iload_n hx hb dX0_swap_62 rfl (lv_at hl 0 rfl) ?_
        refine cXX0_97 hF hK hI hl.1 hR (by decide) (Nat.le_of_ble_eq_true rfl) ⟨Nat.zero_le _, Nat.zero_le _⟩ rx2 (by decide) fr14 h dX0_swap_63 (fun S21 H locs h hI => ?_)
        refine nr_iconst hx hb dX0_swap_66 ?_
        rw [← hQ]; exact s_zret (K := K) hx hb hr hlocks hI (by decide) h dX0_swap_67
      · replace h := h.2 c11
        refine nr_iconst hx hb dX0_swap_31 ?_
        rw [← hQ]; exact s_zret (K := K) hx hb hr hlocks hI (by decide) h dX0_swap_32
set_option maxHeartbeats 4000000 in
theorem t_X_steal (l : Launch) (D : va_G) (dA : Nat → ClassId) (ad : Nat → Nat) (S : St) (sz : Nat) (x1 : Int) (x2 : Int) (K : Int → St → Prop) (rx1 : InR x1) (rx2 : InR x2) (h : w_X_steal x1 x2 S K) : Met l yX0_steal (ws_ yX0_steal cX0_steal 3 (Option.some Jvm.ClassFile.FieldType.boolean)) (rmD 3 0 0) (va_Pc [.ref (ad 129), iV x1, iV x2] (sPre D dA wX ad S sz)) (va_Qi (fun r S' => (r.toInt = 0 ∨ r.toInt = 1) ∧ (K r.toInt S')) (sPost D dA wX ad (wA wX ad S sz)) (wA wX ad S sz)) 0 0 (wA wX ad S sz) := by
  refine Met.ofW (cc := cX0_steal) (maxL := 3) (ret := (Option.some Jvm.ClassFile.FieldType.boolean)) (by decide) rfl ?_
  intro p e s m args below meth c s₁ B hml hv
  obtain ⟨rfl, hsz, hK, hC⟩ := hv
  have hx := B.exec
  have hb := B.bytes
  have hr := B.returns
  have hlocks := B.notSynchronized
  have hts := atoms_spec (ws := (ws_ yX0_steal cX0_steal 3 (Option.some Jvm.ClassFile.FieldType.boolean))) B.pre
  have hts : ∀ w ∈ lw_all, w.before _ s = true := fun w h => hts w (List.mem_cons_of_mem _ h)
  have hown : s.vm.findClass RX0 = some m.cls := findClass_of_methodNamed B.named
  clear B
  subst hsz
  have hI : sI D dA wX ad (wA wX ad S s.heap.size) s.heap S s.heap [] := hC.start
  clear hC
  generalize wA wX ad S s.heap.size = A at hI ⊢
  have hl := lv_entry ([.ref (ad 129), iV x1, iV x2] : List Value) (n := 3) (Nat.le_of_ble_eq_true rfl)
  rw [lg_entry_eq]
  generalize (lg_sl ([.ref (ad 129), iV x1, iV x2] : List Value) ++ List.replicate (3 - (lg_sl ([.ref (ad 129), iV x1, iV x2] : List Value)).length) Slot.unset).toArray = ls at hl ⊢
  have hl : lv_has ls 3 [(0, .ref (ad 129)), (1, iV x1), (2, iV x2)] := hl
  have hF : CallFix p m c cX0_steal 3 s _ lw_all RX0 := ⟨hx, hb, hml, hown, hts⟩
  have hR : (headSpec (ws_ yX0_steal cX0_steal 3 (Option.some Jvm.ClassFile.FieldType.boolean)) (rmD 3 0 0)).room.frames = 3 + 1 ∧ (headSpec (ws_ yX0_steal cX0_steal 3 (Option.some Jvm.ClassFile.FieldType.boolean)) (rmD 3 0 0)).room.locals = 64 * 3 + 64 := ⟨rfl, rfl⟩
  generalize (headSpec (ws_ yX0_steal cX0_steal 3 (Option.some Jvm.ClassFile.FieldType.boolean)) (rmD 3 0 0)).room = R at hR ⊢
  generalize ([.ref (ad 129), iV x1, iV x2] : List Value).toArray = args at hts hF ⊢
  generalize hQ : MQ below _ _ _ _ _ _ = Q
  unfold w_X_steal at h
  refine lv_aload_n hx hb dX0_steal_0 rfl (lv_at hl 0 rfl) ?_
  refine lv_iload_n hx hb dX0_steal_1 rfl (lv_at hl 1 rfl) ?_
  refine cXX0_110 hF hK hI hl.1 hR (by decide) (Nat.le_of_ble_eq_true rfl) ⟨Nat.zero_le _, Nat.zero_le _⟩ rx1 h dX0_steal_2 (fun r1 H locs fr1 h hI => ?_)
  replace h := h fr1
  have gr1 : InR r1 := kdP_R (k := 2) (by decide) fr1
  refine nr_if_eq hx hb gr1 dX0_steal_5 (tgt := 26) (by decide) (fun c3 => ?_) (fun c3 => ?_)
  · replace h := h.1 c3
    refine nr_iconst hx hb dX0_steal_26 ?_
    rw [← hQ]; exact s_zret (K := K) hx hb hr hlocks hI (by decide) h dX0_steal_27
  · replace h := h.2 c3
    refine lv_aload_n hx hb dX0_steal_8 rfl (lv_at hl 0 rfl) ?_
    refine lv_iload_n hx hb dX0_steal_9 rfl (lv_at hl 2 rfl) ?_
    refine cXX0_93 hF hK hI hl.1 hR (by decide) (Nat.le_of_ble_eq_true rfl) ⟨Nat.zero_le _, Nat.zero_le _⟩ rx2 h dX0_steal_10 (fun r4 H locs fr4 h hI => ?_)
    replace h := h fr4
    have gr4 : InR r4 := kdP_R (k := 2) (by decide) fr4
    refine nr_if_eq hx hb gr4 dX0_steal_13 (tgt := 26) (by decide) (fun c6 => ?_) (fun c6 => ?_)
    · replace h := h.1 c6
      refine nr_iconst hx hb dX0_steal_26 ?_
      rw [← hQ]; exact s_zret (K := K) hx hb hr hlocks hI (by decide) h dX0_steal_27
    · replace h := h.2 c6
      refine lv_aload_n hx hb dX0_steal_16 rfl (lv_at hl 0 rfl) ?_
      refine lv_iload_n hx hb dX0_steal_17 rfl (lv_at hl 1 rfl) ?_
      refine nr_iconst hx hb dX0_steal_18 ?_
      refine cXX0_149 hF hK hI hl.1 hR (by decide) (Nat.le_of_ble_eq_true rfl) ⟨Nat.zero_le _, Nat.zero_le _⟩ rx1 (by decide) h dX0_steal_19 (fun r7 H locs fr7 h hI => ?_)
      replace h := h fr7
      refine lv_iload_n hx hb dX0_steal_22 rfl (lv_at hl 2 rfl) ?_
      refine nr_icmp_ne hx hb fr7 rx2 dX0_steal_23 (tgt := 28) (by decide) (fun c9 => ?_) (fun c9 => ?_)
      · replace h := h.1 c9
        refine lv_aload_n hx hb dX0_steal_28 rfl (lv_at hl 0 rfl) ?_
        refine gXX0_12_129 hF hK hI dX0_steal_29 ?_
        refine cXX0_117 hF hK hI hl.1 hR (by decide) (Nat.le_of_ble_eq_true rfl) ⟨Nat.zero_le _, Nat.zero_le _⟩ h dX0_steal_32 (fun S11 H locs h hI => ?_)
        refine lv_aload_n hx hb dX0_steal_35 rfl (lv_at hl 0 rfl) ?_
        refine lv_iload_n hx hb dX0_steal_36 rfl (lv_at hl 1 rfl) ?_
        refine nr_iconst hx hb dX0_steal_37 ?_
        refine lv_iload_n hx hb dX0_steal_38 rfl (lv_at hl 2 rfl) ?_
        refine cXX0_97 hF hK hI hl.1 hR (by decide) (Nat.le_of_ble_eq_true rfl) ⟨Nat.zero_le _, Nat.zero_le _⟩ rx1 (by decide) rx2 h dX0_steal_39 (fun S13 H locs h hI => ?_)
        refine lv_aload_n hx hb dX0_steal_42 rfl (lv_at hl 0 rfl) ?_
        refine lv_iload_n hx hb dX0_steal_43 rfl (lv_at hl 1 rfl) ?_
        refine nr_iconst hx hb dX0_steal_44 ?_
        refine lv_iload_n hx hb dX0_steal_45 rfl (lv_at hl 2 rfl) ?_
        refine cXX0_97 hF hK hI hl.1 hR (by decide) (Nat.le_of_ble_eq_true rfl) ⟨Nat.zero_le _, Nat.zero_le _⟩ rx1 (by decide) rx2 h dX0_steal_46 (fun S15 H locs h hI => ?_)
        refine lv_aload_n hx hb dX0_steal_49 rfl (lv_at hl 0 rfl) ?_
        refine lv_iload_n hx hb dX0_steal_50 rfl (lv_at hl 1 rfl) ?_
        refine nr_iconst hx hb dX0_steal_51 ?_
        refine nr_iconst hx hb dX0_steal_52 ?_
        refine cXX0_97 hF hK hI hl.1 hR (by decide) (Nat.le_of_ble_eq_true rfl) ⟨Nat.zero_le _, Nat.zero_le _⟩ rx1 (by decide) (by decide) h dX0_steal_53 (fun S17 H locs h hI => ?_)
        refine nr_iconst hx hb dX0_steal_56 ?_
        rw [← hQ]; exact s_zret (K := K) hx hb hr hlocks hI (by decide) h dX0_steal_57
      · replace h := h.2 c9
        refine nr_iconst hx hb dX0_steal_26 ?_
        rw [← hQ]; exact s_zret (K := K) hx hb hr hlocks hI (by decide) h dX0_steal_27
theorem cXX0_166 {p : Program} {l : Launch} {e : Env} {R : Room} {s : State} {m : MethodId} {args : Array Value} {below : List Frame} {meth : Method} {c : Code} {H : Heap} {locs : List Loc} {Q : State → Prop} {cc : ByteArray} {nL pc : Nat} {ls : Array Slot} {rest : List Value} {cells slots : Nat} {D : va_G} {dA : Nat → ClassId} {ad : Nat → Nat} {A : Nat → Prop} {H0 : Heap} {S : St} {dk : Nat} (hF : CallFix p m c cc nL s args lw_all RX0) (hK : gK D dA s) (hI : sI D dA wX ad A H0 S H locs) (hls : ls.size = nL) (hR : R.frames = dk + 1 ∧ R.locals = 64 * dk + 64) (hd : 0 + 1 ≤ dk) (hW : (rest.map fun v => v.category).sum ≤ 8) (hf : cells ≤ R.cells ∧ slots ≤ R.slots) {x0 : Int} {K : Int → Prop} (r0 : InR x0) (h : w_J12_bitCount x0 K) (hdg : decode cc pc = .ok (.invokestatic 166, 3)) (kk : ∀ (r : Int) (H1 : Heap) (locs1 : List Loc), InR r → K r → sI D dA wX ad A H0 S H1 locs1 → W p l e R s m args below meth c H1 locs1 cells slots Q (F0 m (pc + 3) ls (iV r :: rest))) : W p l e R s m args below meth c H locs cells slots Q (F0 m (pc) ls (iV x0 :: rest)) := s_callPi (As := [iV x0]) (rest := rest) hF (t_J12_bitCount l x0 K r0 h) (va_cwS 1 hF.2.2.2.2 (lw_S q869 q870 q129 q871) rfl rfl rfl (by decide +kernel) ⟨by have h1 := hR.1; have h2 : (rmD 0 0 0).frames = 0 + 1 := rfl; omega, by have h1 := hR.2; have h2 : (rmD 0 0 0).locals = 64 * 0 + 64 := rfl; omega⟩) hI rfl hls rfl hW hdg hf kk
set_option maxHeartbeats 4000000 in
theorem t_X_burn (l : Launch) (D : va_G) (dA : Nat → ClassId) (ad : Nat → Nat) (S : St) (sz : Nat) (x1 : Int) (K : Int → St → Prop) (rx1 : InR x1) (h : w_X_burn x1 S K) : Met l yX0_burn (ws_ yX0_burn cX0_burn 3 (Option.some Jvm.ClassFile.FieldType.int)) (rmD 3 0 0) (va_Pc [.ref (ad 129), iV x1] (sPre D dA wX ad S sz)) (va_Qi (fun r S' => K r.toInt S') (sPost D dA wX ad (wA wX ad S sz)) (wA wX ad S sz)) 0 0 (wA wX ad S sz) := by
  refine Met.ofW (cc := cX0_burn) (maxL := 3) (ret := (Option.some Jvm.ClassFile.FieldType.int)) (by decide) rfl ?_
  intro p e s m args below meth c s₁ B hml hv
  obtain ⟨rfl, hsz, hK, hC⟩ := hv
  have hx := B.exec
  have hb := B.bytes
  have hr := B.returns
  have hlocks := B.notSynchronized
  have hts := atoms_spec (ws := (ws_ yX0_burn cX0_burn 3 (Option.some Jvm.ClassFile.FieldType.int))) B.pre
  have hts : ∀ w ∈ lw_all, w.before _ s = true := fun w h => hts w (List.mem_cons_of_mem _ h)
  have hown : s.vm.findClass RX0 = some m.cls := findClass_of_methodNamed B.named
  clear B
  subst hsz
  have hI : sI D dA wX ad (wA wX ad S s.heap.size) s.heap S s.heap [] := hC.start
  clear hC
  generalize wA wX ad S s.heap.size = A at hI ⊢
  have hl := lv_entry ([.ref (ad 129), iV x1] : List Value) (n := 3) (Nat.le_of_ble_eq_true rfl)
  rw [lg_entry_eq]
  generalize (lg_sl ([.ref (ad 129), iV x1] : List Value) ++ List.replicate (3 - (lg_sl ([.ref (ad 129), iV x1] : List Value)).length) Slot.unset).toArray = ls at hl ⊢
  have hl : lv_has ls 3 [(0, .ref (ad 129)), (1, iV x1)] := hl
  have hF : CallFix p m c cX0_burn 3 s _ lw_all RX0 := ⟨hx, hb, hml, hown, hts⟩
  have hR : (headSpec (ws_ yX0_burn cX0_burn 3 (Option.some Jvm.ClassFile.FieldType.int)) (rmD 3 0 0)).room.frames = 3 + 1 ∧ (headSpec (ws_ yX0_burn cX0_burn 3 (Option.some Jvm.ClassFile.FieldType.int)) (rmD 3 0 0)).room.locals = 64 * 3 + 64 := ⟨rfl, rfl⟩
  generalize (headSpec (ws_ yX0_burn cX0_burn 3 (Option.some Jvm.ClassFile.FieldType.int)) (rmD 3 0 0)).room = R at hR ⊢
  generalize ([.ref (ad 129), iV x1] : List Value).toArray = args at hts hF ⊢
  generalize hQ : MQ below _ _ _ _ _ _ = Q
  unfold w_X_burn at h
  refine lv_aload_n hx hb dX0_burn_0 rfl (lv_at hl 0 rfl) ?_
  refine lv_iload_n hx hb dX0_burn_1 rfl (lv_at hl 1 rfl) ?_
  refine cXX0_93 hF hK hI hl.1 hR (by decide) (Nat.le_of_ble_eq_true rfl) ⟨Nat.zero_le _, Nat.zero_le _⟩ rx1 h dX0_burn_2 (fun r1 H locs fr1 h hI => ?_)
  replace h := h fr1
  have gr1 : InR r1 := kdP_R (k := 2) (by decide) fr1
  refine nr_if_ne hx hb gr1 dX0_burn_5 (tgt := 10) (by decide) (fun c3 => ?_) (fun c3 => ?_)
  · replace h := h.1 c3
    refine lv_aload_n hx hb dX0_burn_10 rfl (lv_at hl 0 rfl) ?_
    refine gXX0_12_129 hF hK hI dX0_burn_11 ?_
    refine cXX0_117 hF hK hI hl.1 hR (by decide) (Nat.le_of_ble_eq_true rfl) ⟨Nat.zero_le _, Nat.zero_le _⟩ h dX0_burn_14 (fun S5 H locs h hI => ?_)
    refine lv_aload_n hx hb dX0_burn_17 rfl (lv_at hl 0 rfl) ?_
    refine gXX0_12_129 hF hK hI dX0_burn_18 ?_
    refine gXX0_78_130 hF hK hI dX0_burn_21 ?_
    refine nr_bipush hx hb dX0_burn_24 (by decide) ?_
    refine lv_iload_n hx hb dX0_burn_26 rfl (lv_at hl 1 rfl) ?_
    have f6 := h.1; replace h := h.2
    refine nr_iadd hx hb dX0_burn_27 ?_
    have f7 := h.1; replace h := h.2
    refine s_iald hx hb hK hI 3 (by decide) wX_3 f6 f7 dX0_burn_28 (fun f8 => ?_)
    replace h := h f8
    refine cXX0_166 hF hK hI hl.1 hR (by decide) (Nat.le_of_ble_eq_true rfl) ⟨Nat.zero_le _, Nat.zero_le _⟩ f8 h dX0_burn_29 (fun r9 H locs fr9 h hI => ?_)
    replace h := h fr9
    refine lv_istore_n (lv' := [(2, iV r9), (0, .ref (ad 129)), (1, iV x1)]) hx hb dX0_burn_32 rfl hl (by decide) rfl (fun ls hl => ?_)
    refine lv_aload_n hx hb dX0_burn_33 rfl (lv_at hl 1 rfl) ?_
    refine gXX0_12_129 hF hK hI dX0_burn_34 ?_
    refine gXX0_78_130 hF hK hI dX0_burn_37 ?_
    refine nr_bipush hx hb dX0_burn_40 (by decide) ?_
    refine lv_iload_n hx hb dX0_burn_42 rfl (lv_at hl 2 rfl) ?_
    refine nr_iadd hx hb dX0_burn_43 ?_
    refine nr_iconst hx hb dX0_burn_44 ?_
    have f11 := h.1; replace h := h.2
    refine s_iast hx hb hK hI 3 (by decide) wX_3 f6 f11 (show InR (0) by decide) dX0_burn_45 (fun S12 H locs eS12 hI => ?_)
    replace h := h S12 eS12
    refine lv_iload_n hx hb dX0_burn_46 rfl (lv_at hl 0 rfl) ?_
    rw [← hQ]; exact s_iret (K := K) hx hb hr hlocks hI fr9 h dX0_burn_47
  · replace h := h.2 c3
    refine nr_iconst hx hb dX0_burn_8 ?_
    rw [← hQ]; exact s_iret (K := K) hx hb hr hlocks hI (by decide) h dX0_burn_9
set_option maxHeartbeats 4000000 in
theorem t_X_proofsOf (l : Launch) (D : va_G) (dA : Nat → ClassId) (ad : Nat → Nat) (S : St) (sz : Nat) (x1 : Int) (K : Int → Prop) (rx1 : InR x1) (h : w_X_proofsOf x1 S K) : Met l yX0_proofsOf (ws_ yX0_proofsOf cX0_proofsOf 4 (Option.some Jvm.ClassFile.FieldType.int)) (rmD 1 0 0) (va_Pc [.ref (ad 129), iV x1] (sPre D dA wX ad S sz)) (va_Qi (fun r S' => S' = S ∧ K r.toInt) (sPost D dA wX ad (wA wX ad S sz)) (wA wX ad S sz)) 0 0 (wA wX ad S sz) := by
  refine Met.ofW (cc := cX0_proofsOf) (maxL := 4) (ret := (Option.some Jvm.ClassFile.FieldType.int)) (by decide) rfl ?_
  intro p e s m args below meth c s₁ B hml hv
  obtain ⟨rfl, hsz, hK, hC⟩ := hv
  have hx := B.exec
  have hb := B.bytes
  have hr := B.returns
  have hlocks := B.notSynchronized
  have hts := atoms_spec (ws := (ws_ yX0_proofsOf cX0_proofsOf 4 (Option.some Jvm.ClassFile.FieldType.int))) B.pre
  have hts : ∀ w ∈ lw_all, w.before _ s = true := fun w h => hts w (List.mem_cons_of_mem _ h)
  have hown : s.vm.findClass RX0 = some m.cls := findClass_of_methodNamed B.named
  clear B
  subst hsz
  have hI : sI D dA wX ad (wA wX ad S s.heap.size) s.heap S s.heap [] := hC.start
  clear hC
  generalize wA wX ad S s.heap.size = A at hI ⊢
  have hl := lv_entry ([.ref (ad 129), iV x1] : List Value) (n := 4) (Nat.le_of_ble_eq_true rfl)
  rw [lg_entry_eq]
  generalize (lg_sl ([.ref (ad 129), iV x1] : List Value) ++ List.replicate (4 - (lg_sl ([.ref (ad 129), iV x1] : List Value)).length) Slot.unset).toArray = ls at hl ⊢
  have hl : lv_has ls 4 [(0, .ref (ad 129)), (1, iV x1)] := hl
  have hF : CallFix p m c cX0_proofsOf 4 s _ lw_all RX0 := ⟨hx, hb, hml, hown, hts⟩
  have hR : (headSpec (ws_ yX0_proofsOf cX0_proofsOf 4 (Option.some Jvm.ClassFile.FieldType.int)) (rmD 1 0 0)).room.frames = 1 + 1 ∧ (headSpec (ws_ yX0_proofsOf cX0_proofsOf 4 (Option.some Jvm.ClassFile.FieldType.int)) (rmD 1 0 0)).room.locals = 64 * 1 + 64 := ⟨rfl, rfl⟩
  generalize (headSpec (ws_ yX0_proofsOf cX0_proofsOf 4 (Option.some Jvm.ClassFile.FieldType.int)) (rmD 1 0 0)).room = R at hR ⊢
  generalize ([.ref (ad 129), iV x1] : List Value).toArray = args at hts hF ⊢
  generalize hQ : MQ below _ _ _ _ _ _ = Q
  have L4 : ∀ (x1 : Int), InR x1 → ∀ (n4 : Nat) (x2 : Int) (x3 : Int) (H : Heap) (locs : List Loc) (ls : Array Slot), InR x2 → InR x3 → sI D dA wX ad A s.heap S H locs → lv_has ls 4 [(0, .ref (ad 129)), (1, iV x1), (2, iV x2), (3, iV x3)] → l_X_proofsOf_4 x1 S K n4 x2 x3 → W p l e R s m args below meth c H locs 0 0 Q (F0 m 4 ls []) := by
    intro x1 rx1 n4
    induction n4 with
    | zero => intro x2 x3 H locs ls rx2 rx3 hI hl h; exact False.elim h
    | succ n4 ih4 =>
      intro x2 x3 H locs ls rx2 rx3 hI hl h
      have J32 : ∀ (x3 : Int) (y0 : Int) (y1 : Int) (H : Heap) (locs : List Loc) (ls : Array Slot), InR x3 → InR y0 → InR y1 → sI D dA wX ad A s.heap S H locs → lv_has ls 4 [(0, .ref (ad 129)), (1, iV x1), (3, iV x3)] → j_X_proofsOf_32 x1 x3 y0 y1 S K (l_X_proofsOf_4 x1 S K n4) → W p l e R s m args below meth c H locs 0 0 Q (F0 m 32 ls [iV y1, iV y0]) := by
        intro x3 y0 y1 H locs ls rx3 ry0 ry1 hI hl h
        unfold j_X_proofsOf_32 at h
        have f1 := h.1; replace h := h.2
        refine nr_iadd hx hb dX0_proofsOf_32 ?_
        refine nr_topi (fun v2 ev2 => ?_)
        have rv2 : InR v2 := by rw [ev2]; exact f1
        replace h := h v2 ev2 rv2
        refine lv_istore_n (lv' := [(2, iV v2), (0, .ref (ad 129)), (1, iV x1), (3, iV x3)]) hx hb dX0_proofsOf_33 rfl hl (by decide) rfl (fun ls hl => ?_)
        have f3 := h.1; replace h := h.2
        refine nr_iinc (lv' := [(3, iV (x3 + 1)), (2, iV v2), (0, .ref (ad 129)), (1, iV x1)]) hx hb dX0_proofsOf_34 hl (k := 3) rfl (by decide) rfl (fun ls hl => ?_)
        refine lv_goto (tgt := 4) hx hb dX0_proofsOf_37 (by decide) ?_
        exact ih4 v2 (x3 + 1) _ _ _ rv2 f3 hI (lv_sub hl [2, 3, 1, 0] rfl) h
      unfold l_X_proofsOf_4 at h
      refine lv_iload_n hx hb dX0_proofsOf_4 rfl (lv_at hl 3 rfl) ?_
      refine lv_aload_n hx hb dX0_proofsOf_5 rfl (lv_at hl 0 rfl) ?_
      refine gXX0_12_129 hF hK hI dX0_proofsOf_6 ?_
      refine gXX0_71_130 hF hK hI dX0_proofsOf_9 ?_
      refine nr_iconst hx hb dX0_proofsOf_12 ?_
      refine s_iald hx hb hK hI 0 (by decide) wX_0 (by decide) (by decide) dX0_proofsOf_13 (fun f4 => ?_)
      replace h := h f4
      refine nr_icmp_ge hx hb rx3 f4 dX0_proofsOf_14 (tgt := 40) (by decide) (fun c5 => ?_) (fun c5 => ?_)
      · replace h := h.1 c5
        refine lv_iload_n hx hb dX0_proofsOf_40 rfl (lv_at hl 2 rfl) ?_
        rw [← hQ]; exact s_iret (K := fun r S' => S' = S ∧ K r) hx hb hr hlocks hI rx2 ⟨rfl, h⟩ dX0_proofsOf_41
      · replace h := h.2 c5
        refine lv_iload_n hx hb dX0_proofsOf_17 rfl (lv_at hl 2 rfl) ?_
        refine lv_aload_n hx hb dX0_proofsOf_18 rfl (lv_at hl 0 rfl) ?_
        refine lv_iload_n hx hb dX0_proofsOf_19 rfl (lv_at hl 3 rfl) ?_
        refine lv_iload_n hx hb dX0_proofsOf_20 rfl (lv_at hl 1 rfl) ?_
        refine cXX0_113 hF hK hI hl.1 hR (by decide) (Nat.le_of_ble_eq_true rfl) ⟨Nat.zero_le _, Nat.zero_le _⟩ rx3 rx1 h dX0_proofsOf_21 (fun r6 H locs fr6 h hI => ?_)
        replace h := h fr6
        have gr6 : InR r6 := kdP_R (k := 2) (by decide) fr6
        refine nr_if_eq hx hb gr6 dX0_proofsOf_24 (tgt := 31) (by decide) (fun c8 => ?_) (fun c8 => ?_)
        · replace h := h.1 c8
          refine nr_iconst hx hb dX0_proofsOf_31 ?_
          exact J32 x3 x2 0 _ _ _ rx3 rx2 (by decide) hI (lv_sub hl [0, 1, 3] rfl) h
        · replace h := h.2 c8
          refine nr_iconst hx hb dX0_proofsOf_27 ?_
          refine lv_goto (tgt := 32) hx hb dX0_proofsOf_28 (by decide) ?_
          exact J32 x3 x2 1 _ _ _ rx3 rx2 (by decide) hI (lv_sub hl [0, 1, 3] rfl) h
  unfold w_X_proofsOf at h
  refine nr_iconst hx hb dX0_proofsOf_0 ?_
  refine lv_istore_n (lv' := [(2, iV 0), (0, .ref (ad 129)), (1, iV x1)]) hx hb dX0_proofsOf_1 rfl hl (by decide) rfl (fun ls hl => ?_)
  refine nr_iconst hx hb dX0_proofsOf_2 ?_
  refine lv_istore_n (lv' := [(3, iV 0), (2, iV 0), (0, .ref (ad 129)), (1, iV x1)]) hx hb dX0_proofsOf_3 rfl hl (by decide) rfl (fun ls hl => ?_)
  obtain ⟨n0, h⟩ := h
  exact L4 x1 rx1 n0 0 0 _ _ _ (by decide) (by decide) hI (lv_sub hl [2, 3, 1, 0] rfl) h
