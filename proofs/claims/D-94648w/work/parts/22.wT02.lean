set_option maxRecDepth 100000
theorem cXX0_286 {p : Program} {l : Launch} {e : Env} {R : Room} {s : State} {m : MethodId} {args : Array Value} {below : List Frame} {meth : Method} {c : Code} {H : Heap} {locs : List Loc} {Q : State → Prop} {cc : ByteArray} {nL pc : Nat} {ls : Array Slot} {rest : List Value} {cells slots : Nat} {D : va_G} {dA : Nat → ClassId} {ad : Nat → Nat} {A : Nat → Prop} {H0 : Heap} {S : St} {dk : Nat} (hF : CallFix p m c cc nL s args lw_all RX0) (hK : gK D dA s) (hI : sI D dA wX ad A H0 S H locs) (hls : ls.size = nL) (hR : R.frames = dk + 1 ∧ R.locals = 64 * dk + 64) (hd : 117 + 1 ≤ dk) (hW : (rest.map fun v => v.category).sum ≤ 8) (hf : cells ≤ R.cells ∧ slots ≤ R.slots) {x1 : Int} {K : Int → St → Prop} (r1 : InR x1) (h : w_X_laysSaints x1 S K) (hdg : decode cc pc = .ok (.invokevirtual 286, 3)) (kk : ∀ (r : Int) (S1 : St) (H1 : Heap) (locs1 : List Loc), (r = 0 ∨ r = 1) → K r S1 → sI D dA wX ad A H0 S1 H1 locs1 → W p l e R s m args below meth c H1 locs1 cells slots Q (F0 m (pc + 3) ls (iV r :: rest))) : W p l e R s m args below meth c H locs cells slots Q (F0 m (pc) ls (iV x1 :: .ref (ad 129) :: rest)) := s_callVz (As := [iV x1]) (rest := rest) (K := K) hF (t_X_laysSaints l D dA ad S H.size x1 K r1 h) (s_recv hK hI 129 (by decide) wX_129 rfl) (cwV 1 hF.2.2.2.2 (lw_V q1028 q1030 qs35 q106 q1031) rfl rfl rfl (by decide +kernel) ⟨by have h1 := hR.1; have h2 : (rmD 117 0 0).frames = 117 + 1 := rfl; omega, by have h1 := hR.2; have h2 : (rmD 117 0 0).locals = 64 * 117 + 64 := rfl; omega⟩) hK hI rfl hls rfl hW hdg hf kk
set_option maxHeartbeats 4000000 in
theorem t_X_saints (l : Launch) (D : va_G) (dA : Nat → ClassId) (ad : Nat → Nat) (S : St) (sz : Nat) (x1 : Int) (x2 : Int) (K : Int → St → Prop) (rx1 : InR x1) (rx2 : InR x2) (h : w_X_saints x1 x2 S K) : Met l yX0_saints (ws_ yX0_saints cX0_saints 4 (Option.some Jvm.ClassFile.FieldType.int)) (rmD 118 0 0) (va_Pc [.ref (ad 129), iV x1, iV x2] (sPre D dA wX ad S sz)) (va_Qi (fun r S' => K r.toInt S') (sPost D dA wX ad (wA wX ad S sz)) (wA wX ad S sz)) 0 0 (wA wX ad S sz) := by
  refine Met.ofW (cc := cX0_saints) (maxL := 4) (ret := (Option.some Jvm.ClassFile.FieldType.int)) (by decide) rfl ?_
  intro p e s m args below meth c s₁ B hml hv
  obtain ⟨rfl, hsz, hK, hC⟩ := hv
  have hx := B.exec
  have hb := B.bytes
  have hr := B.returns
  have hlocks := B.notSynchronized
  have hts := atoms_spec (ws := (ws_ yX0_saints cX0_saints 4 (Option.some Jvm.ClassFile.FieldType.int))) B.pre
  have hts : ∀ w ∈ lw_all, w.before _ s = true := fun w h => hts w (List.mem_cons_of_mem _ h)
  have hown : s.vm.findClass RX0 = some m.cls := findClass_of_methodNamed B.named
  clear B
  subst hsz
  have hI : sI D dA wX ad (wA wX ad S s.heap.size) s.heap S s.heap [] := hC.start
  clear hC
  generalize wA wX ad S s.heap.size = A at hI ⊢
  have hl := lv_entry ([.ref (ad 129), iV x1, iV x2] : List Value) (n := 4) (Nat.le_of_ble_eq_true rfl)
  rw [lg_entry_eq]
  generalize (lg_sl ([.ref (ad 129), iV x1, iV x2] : List Value) ++ List.replicate (4 - (lg_sl ([.ref (ad 129), iV x1, iV x2] : List Value)).length) Slot.unset).toArray = ls at hl ⊢
  have hl : lv_has ls 4 [(0, .ref (ad 129)), (1, iV x1), (2, iV x2)] := hl
  have hF : CallFix p m c cX0_saints 4 s _ lw_all RX0 := ⟨hx, hb, hml, hown, hts⟩
  have hR : (headSpec (ws_ yX0_saints cX0_saints 4 (Option.some Jvm.ClassFile.FieldType.int)) (rmD 118 0 0)).room.frames = 118 + 1 ∧ (headSpec (ws_ yX0_saints cX0_saints 4 (Option.some Jvm.ClassFile.FieldType.int)) (rmD 118 0 0)).room.locals = 64 * 118 + 64 := ⟨rfl, rfl⟩
  generalize (headSpec (ws_ yX0_saints cX0_saints 4 (Option.some Jvm.ClassFile.FieldType.int)) (rmD 118 0 0)).room = R at hR ⊢
  generalize ([.ref (ad 129), iV x1, iV x2] : List Value).toArray = args at hts hF ⊢
  generalize hQ : MQ below _ _ _ _ _ _ = Q
  have L57 : ∀ (x2 : Int) (S : St), InR x2 → ∀ (n57 : Nat) (x3 : Int) (H : Heap) (locs : List Loc) (ls : Array Slot), InR x3 → sI D dA wX ad A s.heap S H locs → lv_has ls 4 [(0, .ref (ad 129)), (2, iV x2), (3, iV x3)] → l_X_saints_57 x2 S K n57 x3 → W p l e R s m args below meth c H locs 0 0 Q (F0 m 57 ls []) := by
    intro x2 S rx2 n57
    induction n57 with
    | zero => intro x3 H locs ls rx3 hI hl h; exact False.elim h
    | succ n57 ih57 =>
      intro x3 H locs ls rx3 hI hl h
      unfold l_X_saints_57 at h
      refine lv_iload_n hx hb dX0_saints_57 rfl (lv_at hl 2 rfl) ?_
      refine lv_aload_n hx hb dX0_saints_58 rfl (lv_at hl 0 rfl) ?_
      refine gXX0_265_129 hF hK hI dX0_saints_59 (fun f1 => ?_)
      replace h := h f1
      refine nr_icmp_ge hx hb rx3 f1 dX0_saints_62 (tgt := 88) (by decide) (fun c2 => ?_) (fun c2 => ?_)
      · replace h := h.1 c2
        refine nr_iconst hx hb dX0_saints_88 ?_
        rw [← hQ]; exact s_iret (K := K) hx hb hr hlocks hI (by decide) h dX0_saints_89
      · replace h := h.2 c2
        refine lv_aload_n hx hb dX0_saints_65 rfl (lv_at hl 0 rfl) ?_
        refine gXX0_34_129 hF hK hI dX0_saints_66 ?_
        refine lv_iload_n hx hb dX0_saints_69 rfl (lv_at hl 2 rfl) ?_
        have f3 := h.1; replace h := h.2
        refine s_iald hx hb hK hI 10 (by decide) wX_10 rx3 f3 dX0_saints_70 (fun f4 => ?_)
        replace h := h f4
        refine lv_iload_n hx hb dX0_saints_71 rfl (lv_at hl 1 rfl) ?_
        refine nr_icmp_ne hx hb f4 rx2 dX0_saints_72 (tgt := 82) (by decide) (fun c5 => ?_) (fun c5 => ?_)
        · replace h := h.1 c5
          have f6 := h.1; replace h := h.2
          refine nr_iinc (lv' := [(3, iV (x3 + 1)), (0, .ref (ad 129)), (2, iV x2)]) hx hb dX0_saints_82 hl (k := 2) rfl (by decide) rfl (fun ls hl => ?_)
          refine lv_goto (tgt := 57) hx hb dX0_saints_85 (by decide) ?_
          exact ih57 (x3 + 1) _ _ _ f6 hI (lv_sub hl [1, 2, 0] rfl) h
        · replace h := h.2 c5
          refine lv_aload_n hx hb dX0_saints_75 rfl (lv_at hl 0 rfl) ?_
          refine gXX0_37_129 hF hK hI dX0_saints_76 ?_
          refine lv_iload_n hx hb dX0_saints_79 rfl (lv_at hl 2 rfl) ?_
          have f7 := h.1; replace h := h.2
          refine s_iald hx hb hK hI 11 (by decide) wX_11 rx3 f7 dX0_saints_80 (fun f8 => ?_)
          replace h := h f8
          rw [← hQ]; exact s_iret (K := K) hx hb hr hlocks hI f8 h dX0_saints_81
  have J34 : ∀ (x1 : Int) (x2 : Int) (S : St) (H : Heap) (locs : List Loc) (ls : Array Slot), InR x1 → InR x2 → sI D dA wX ad A s.heap S H locs → lv_has ls 4 [(0, .ref (ad 129)), (1, iV x1), (2, iV x2)] → j_X_saints_34 x1 x2 S K → W p l e R s m args below meth c H locs 0 0 Q (F0 m 34 ls []) := by
    intro x1 x2 S H locs ls rx1 rx2 hI hl h
    unfold j_X_saints_34 at h
    refine lv_aload_n hx hb dX0_saints_34 rfl (lv_at hl 0 rfl) ?_
    refine lv_iload_n hx hb dX0_saints_35 rfl (lv_at hl 1 rfl) ?_
    refine cXX0_286 hF hK hI hl.1 hR (by decide) (Nat.le_of_ble_eq_true rfl) ⟨Nat.zero_le _, Nat.zero_le _⟩ rx1 h dX0_saints_36 (fun r9 S10 H locs fr9 h hI => ?_)
    replace h := h fr9
    have gr9 : InR r9 := kdP_R (k := 2) (by decide) fr9
    refine nr_if_ne hx hb gr9 dX0_saints_39 (tgt := 45) (by decide) (fun c11 => ?_) (fun c11 => ?_)
    · replace h := h.1 c11
      refine lv_iload_n hx hb dX0_saints_45 rfl (lv_at hl 2 rfl) ?_
      refine nr_iconst hx hb dX0_saints_46 ?_
      refine nr_icmp_ne hx hb rx2 (by decide) dX0_saints_47 (tgt := 55) (by decide) (fun c12 => ?_) (fun c12 => ?_)
      · replace h := h.1 c12
        refine nr_iconst hx hb dX0_saints_55 ?_
        refine lv_istore_n (lv' := [(3, iV 0), (0, .ref (ad 129)), (1, iV x1), (2, iV x2)]) hx hb dX0_saints_56 rfl hl (by decide) rfl (fun ls hl => ?_)
        obtain ⟨n0, h⟩ := h
        exact L57 x2 S10 rx2 n0 0 _ _ _ (by decide) hI (lv_sub hl [1, 3, 0] rfl) h
      · replace h := h.2 c12
        refine lv_aload_n hx hb dX0_saints_50 rfl (lv_at hl 0 rfl) ?_
        refine gXX0_268_129 hF hK hI dX0_saints_51 (fun f13 => ?_)
        replace h := h f13
        rw [← hQ]; exact s_iret (K := K) hx hb hr hlocks hI f13 h dX0_saints_54
    · replace h := h.2 c11
      refine nr_bipush hx hb dX0_saints_42 (by decide) ?_
      rw [← hQ]; exact s_iret (K := K) hx hb hr hlocks hI (by decide) h dX0_saints_44
  unfold w_X_saints at h
  refine lv_iload_n hx hb dX0_saints_0 rfl (lv_at hl 1 rfl) ?_
  refine nr_iconst hx hb dX0_saints_1 ?_
  refine nr_iconst hx hb dX0_saints_2 ?_
  refine lv_aload_n hx hb dX0_saints_3 rfl (lv_at hl 0 rfl) ?_
  refine gXX0_12_129 hF hK hI dX0_saints_4 ?_
  refine gXX0_71_130 hF hK hI dX0_saints_7 ?_
  refine nr_iconst hx hb dX0_saints_10 ?_
  refine s_iald hx hb hK hI 0 (by decide) wX_0 (by decide) (by decide) dX0_saints_11 (fun f14 => ?_)
  replace h := h f14
  have f15 := h.1; replace h := h.2
  have f16 := h.1; replace h := h.2
  refine nr_ishl hx hb f15 f16 dX0_saints_12 ?_
  refine nr_iconst hx hb dX0_saints_13 ?_
  have f17 := h.1; replace h := h.2
  refine nr_isub hx hb dX0_saints_14 ?_
  refine cXX0_74 hF hK hI hl.1 hR (by decide) (Nat.le_of_ble_eq_true rfl) ⟨Nat.zero_le _, Nat.zero_le _⟩ rx1 (by decide) f17 h dX0_saints_15 (fun r18 H locs fr18 h hI => ?_)
  replace h := h fr18
  have gr18 : InR r18 := kdP_R (k := 2) (by decide) fr18
  refine nr_if_eq hx hb gr18 dX0_saints_18 (tgt := 42) (by decide) (fun c20 => ?_) (fun c20 => ?_)
  · replace h := h.1 c20
    refine nr_bipush hx hb dX0_saints_42 (by decide) ?_
    rw [← hQ]; exact s_iret (K := K) hx hb hr hlocks hI (by decide) h dX0_saints_44
  · replace h := h.2 c20
    refine lv_iload_n hx hb dX0_saints_21 rfl (lv_at hl 2 rfl) ?_
    refine nr_iconst hx hb dX0_saints_22 ?_
    refine nr_icmp_eq hx hb rx2 (by decide) dX0_saints_23 (tgt := 34) (by decide) (fun c21 => ?_) (fun c21 => ?_)
    · replace h := h.1 c21
      exact J34 x1 x2 S _ _ _ rx1 rx2 hI (lv_sub hl [0, 1, 2] rfl) h
    · replace h := h.2 c21
      refine lv_aload_n hx hb dX0_saints_26 rfl (lv_at hl 0 rfl) ?_
      refine lv_iload_n hx hb dX0_saints_27 rfl (lv_at hl 2 rfl) ?_
      refine cXX0_110 hF hK hI hl.1 hR (by decide) (Nat.le_of_ble_eq_true rfl) ⟨Nat.zero_le _, Nat.zero_le _⟩ rx2 h dX0_saints_28 (fun r22 H locs fr22 h hI => ?_)
      replace h := h fr22
      have gr22 : InR r22 := kdP_R (k := 2) (by decide) fr22
      refine nr_if_eq hx hb gr22 dX0_saints_31 (tgt := 42) (by decide) (fun c24 => ?_) (fun c24 => ?_)
      · replace h := h.1 c24
        refine nr_bipush hx hb dX0_saints_42 (by decide) ?_
        rw [← hQ]; exact s_iret (K := K) hx hb hr hlocks hI (by decide) h dX0_saints_44
      · replace h := h.2 c24
        exact J34 x1 x2 S _ _ _ rx1 rx2 hI (lv_sub hl [0, 1, 2] rfl) h
set_option maxHeartbeats 4000000 in
theorem t_X_hasHoly (l : Launch) (D : va_G) (dA : Nat → ClassId) (ad : Nat → Nat) (S : St) (sz : Nat) (x1 : Int) (K : Int → St → Prop) (rx1 : InR x1) (h : w_X_hasHoly x1 S K) : Met l yX0_hasHoly (ws_ yX0_hasHoly cX0_hasHoly 3 (Option.some Jvm.ClassFile.FieldType.boolean)) (rmD 117 0 0) (va_Pc [.ref (ad 129), iV x1] (sPre D dA wX ad S sz)) (va_Qi (fun r S' => (r.toInt = 0 ∨ r.toInt = 1) ∧ (K r.toInt S')) (sPost D dA wX ad (wA wX ad S sz)) (wA wX ad S sz)) 0 0 (wA wX ad S sz) := by
  refine Met.ofW (cc := cX0_hasHoly) (maxL := 3) (ret := (Option.some Jvm.ClassFile.FieldType.boolean)) (by decide) rfl ?_
  intro p e s m args below meth c s₁ B hml hv
  obtain ⟨rfl, hsz, hK, hC⟩ := hv
  have hx := B.exec
  have hb := B.bytes
  have hr := B.returns
  have hlocks := B.notSynchronized
  have hts := atoms_spec (ws := (ws_ yX0_hasHoly cX0_hasHoly 3 (Option.some Jvm.ClassFile.FieldType.boolean))) B.pre
  have hts : ∀ w ∈ lw_all, w.before _ s = true := fun w h => hts w (List.mem_cons_of_mem _ h)
  have hown : s.vm.findClass RX0 = some m.cls := findClass_of_methodNamed B.named
  clear B
  subst hsz
  have hI : sI D dA wX ad (wA wX ad S s.heap.size) s.heap S s.heap [] := hC.start
  clear hC
  generalize wA wX ad S s.heap.size = A at hI ⊢
  have hl := lv_entry ([.ref (ad 129), iV x1] : List Value) (n := 3) (Nat.le_of_ble_eq_true rfl)
  rw [lg_entry_eq]
  generalize (lg_sl ([.ref (ad 129), iV x1] : List Value) ++ List.replicate (3 - (lg_sl ([.ref (ad 129), iV x1] : List Value)).length) Slot.unset).toArray = ls at hl ⊢
  have hl : lv_has ls 3 [(0, .ref (ad 129)), (1, iV x1)] := hl
  have hF : CallFix p m c cX0_hasHoly 3 s _ lw_all RX0 := ⟨hx, hb, hml, hown, hts⟩
  have hR : (headSpec (ws_ yX0_hasHoly cX0_hasHoly 3 (Option.some Jvm.ClassFile.FieldType.boolean)) (rmD 117 0 0)).room.frames = 117 + 1 ∧ (headSpec (ws_ yX0_hasHoly cX0_hasHoly 3 (Option.some Jvm.ClassFile.FieldType.boolean)) (rmD 117 0 0)).room.locals = 64 * 117 + 64 := ⟨rfl, rfl⟩
  generalize (headSpec (ws_ yX0_hasHoly cX0_hasHoly 3 (Option.some Jvm.ClassFile.FieldType.boolean)) (rmD 117 0 0)).room = R at hR ⊢
  generalize ([.ref (ad 129), iV x1] : List Value).toArray = args at hts hF ⊢
  generalize hQ : MQ below _ _ _ _ _ _ = Q
  have L2 : ∀ (x1 : Int), InR x1 → ∀ (n2 : Nat) (x2 : Int) (S : St) (H : Heap) (locs : List Loc) (ls : Array Slot), InR x2 → sI D dA wX ad A s.heap S H locs → lv_has ls 3 [(0, .ref (ad 129)), (1, iV x1), (2, iV x2)] → l_X_hasHoly_2 x1 K n2 x2 S → W p l e R s m args below meth c H locs 0 0 Q (F0 m 2 ls []) := by
    intro x1 rx1 n2
    induction n2 with
    | zero => intro x2 S H locs ls rx2 hI hl h; exact False.elim h
    | succ n2 ih2 =>
      intro x2 S H locs ls rx2 hI hl h
      have J35 : ∀ (x2 : Int) (S : St) (H : Heap) (locs : List Loc) (ls : Array Slot), InR x2 → sI D dA wX ad A s.heap S H locs → lv_has ls 3 [(0, .ref (ad 129)), (1, iV x1), (2, iV x2)] → j_X_hasHoly_35 x1 x2 S K (l_X_hasHoly_2 x1 K n2) → W p l e R s m args below meth c H locs 0 0 Q (F0 m 35 ls []) := by
        intro x2 S H locs ls rx2 hI hl h
        unfold j_X_hasHoly_35 at h
        have f1 := h.1; replace h := h.2
        refine nr_iinc (lv' := [(2, iV (x2 + 1)), (0, .ref (ad 129)), (1, iV x1)]) hx hb dX0_hasHoly_35 hl (k := 2) rfl (by decide) rfl (fun ls hl => ?_)
        refine lv_goto (tgt := 2) hx hb dX0_hasHoly_38 (by decide) ?_
        exact ih2 (x2 + 1) S _ _ _ f1 hI (lv_sub hl [1, 2, 0] rfl) h
      unfold l_X_hasHoly_2 at h
      refine lv_iload_n hx hb dX0_hasHoly_2 rfl (lv_at hl 2 rfl) ?_
      refine lv_aload_n hx hb dX0_hasHoly_3 rfl (lv_at hl 0 rfl) ?_
      refine gXX0_12_129 hF hK hI dX0_hasHoly_4 ?_
      refine gXX0_71_130 hF hK hI dX0_hasHoly_7 ?_
      refine nr_iconst hx hb dX0_hasHoly_10 ?_
      refine s_iald hx hb hK hI 0 (by decide) wX_0 (by decide) (by decide) dX0_hasHoly_11 (fun f2 => ?_)
      replace h := h f2
      refine nr_icmp_ge hx hb rx2 f2 dX0_hasHoly_12 (tgt := 41) (by decide) (fun c3 => ?_) (fun c3 => ?_)
      · replace h := h.1 c3
        refine nr_iconst hx hb dX0_hasHoly_41 ?_
        rw [← hQ]; exact s_zret (K := K) hx hb hr hlocks hI (by decide) h dX0_hasHoly_42
      · replace h := h.2 c3
        refine lv_aload_n hx hb dX0_hasHoly_15 rfl (lv_at hl 0 rfl) ?_
        refine lv_iload_n hx hb dX0_hasHoly_16 rfl (lv_at hl 2 rfl) ?_
        refine nr_iconst hx hb dX0_hasHoly_17 ?_
        refine cXX0_149 hF hK hI hl.1 hR (by decide) (Nat.le_of_ble_eq_true rfl) ⟨Nat.zero_le _, Nat.zero_le _⟩ rx2 (by decide) h dX0_hasHoly_18 (fun r4 H locs fr4 h hI => ?_)
        replace h := h fr4
        refine lv_iload_n hx hb dX0_hasHoly_21 rfl (lv_at hl 1 rfl) ?_
        refine nr_icmp_ne hx hb fr4 rx1 dX0_hasHoly_22 (tgt := 35) (by decide) (fun c6 => ?_) (fun c6 => ?_)
        · replace h := h.1 c6
          exact J35 x2 S _ _ _ rx2 hI (lv_sub hl [0, 1, 2] rfl) h
        · replace h := h.2 c6
          refine lv_aload_n hx hb dX0_hasHoly_25 rfl (lv_at hl 0 rfl) ?_
          refine lv_iload_n hx hb dX0_hasHoly_26 rfl (lv_at hl 2 rfl) ?_
          refine cXX0_256 hF hK hI hl.1 hR (by decide) (Nat.le_of_ble_eq_true rfl) ⟨Nat.zero_le _, Nat.zero_le _⟩ rx2 h dX0_hasHoly_27 (fun r7 S8 H locs fr7 h hI => ?_)
          replace h := h fr7
          have gr7 : InR r7 := kdP_R (k := 2) (by decide) fr7
          refine nr_if_eq hx hb gr7 dX0_hasHoly_30 (tgt := 35) (by decide) (fun c9 => ?_) (fun c9 => ?_)
          · replace h := h.1 c9
            exact J35 x2 S8 _ _ _ rx2 hI (lv_sub hl [0, 1, 2] rfl) h
          · replace h := h.2 c9
            refine nr_iconst hx hb dX0_hasHoly_33 ?_
            rw [← hQ]; exact s_zret (K := K) hx hb hr hlocks hI (by decide) h dX0_hasHoly_34
  unfold w_X_hasHoly at h
  refine nr_iconst hx hb dX0_hasHoly_0 ?_
  refine lv_istore_n (lv' := [(2, iV 0), (0, .ref (ad 129)), (1, iV x1)]) hx hb dX0_hasHoly_1 rfl hl (by decide) rfl (fun ls hl => ?_)
  obtain ⟨n0, h⟩ := h
  exact L2 x1 rx1 n0 0 S _ _ _ (by decide) hI (lv_sub hl [1, 2, 0] rfl) h
theorem cXX0_336 {p : Program} {l : Launch} {e : Env} {R : Room} {s : State} {m : MethodId} {args : Array Value} {below : List Frame} {meth : Method} {c : Code} {H : Heap} {locs : List Loc} {Q : State → Prop} {cc : ByteArray} {nL pc : Nat} {ls : Array Slot} {rest : List Value} {cells slots : Nat} {D : va_G} {dA : Nat → ClassId} {ad : Nat → Nat} {A : Nat → Prop} {H0 : Heap} {S : St} {dk : Nat} (hF : CallFix p m c cc nL s args lw_all RX0) (hK : gK D dA s) (hI : sI D dA wX ad A H0 S H locs) (hls : ls.size = nL) (hR : R.frames = dk + 1 ∧ R.locals = 64 * dk + 64) (hd : 0 + 1 ≤ dk) (hW : (rest.map fun v => v.category).sum ≤ 8) (hf : cells ≤ R.cells ∧ slots ≤ R.slots) {x1 : Int} {K : Int → St → Prop} (r1 : InR x1) (h : w_X_draw x1 S K) (hdg : decode cc pc = .ok (.invokevirtual 336, 3)) (kk : ∀ (r : Int) (S1 : St) (H1 : Heap) (locs1 : List Loc), InR r → K r S1 → sI D dA wX ad A H0 S1 H1 locs1 → W p l e R s m args below meth c H1 locs1 cells slots Q (F0 m (pc + 3) ls (iV r :: rest))) : W p l e R s m args below meth c H locs cells slots Q (F0 m (pc) ls (iV x1 :: .ref (ad 129) :: rest)) := s_callVi (As := [iV x1]) (rest := rest) (K := K) hF (t_X_draw l D dA ad S H.size x1 K r1 h) (s_recv hK hI 129 (by decide) wX_129 rfl) (cwV 1 hF.2.2.2.2 (lw_V q1129 q1131 qs46 q106 q1132) rfl rfl rfl (by decide +kernel) ⟨by have h1 := hR.1; have h2 : (rmD 0 0 0).frames = 0 + 1 := rfl; omega, by have h1 := hR.2; have h2 : (rmD 0 0 0).locals = 64 * 0 + 64 := rfl; omega⟩) hK hI rfl hls rfl hW hdg hf kk
theorem cXX0_339 {p : Program} {l : Launch} {e : Env} {R : Room} {s : State} {m : MethodId} {args : Array Value} {below : List Frame} {meth : Method} {c : Code} {H : Heap} {locs : List Loc} {Q : State → Prop} {cc : ByteArray} {nL pc : Nat} {ls : Array Slot} {rest : List Value} {cells slots : Nat} {D : va_G} {dA : Nat → ClassId} {ad : Nat → Nat} {A : Nat → Prop} {H0 : Heap} {S : St} {dk : Nat} (hF : CallFix p m c cc nL s args lw_all RX0) (hK : gK D dA s) (hI : sI D dA wX ad A H0 S H locs) (hls : ls.size = nL) (hR : R.frames = dk + 1 ∧ R.locals = 64 * dk + 64) (hd : 117 + 1 ≤ dk) (hW : (rest.map fun v => v.category).sum ≤ 8) (hf : cells ≤ R.cells ∧ slots ≤ R.slots) {x1 : Int} {K : Int → St → Prop} (r1 : InR x1) (h : w_X_hasHoly x1 S K) (hdg : decode cc pc = .ok (.invokevirtual 339, 3)) (kk : ∀ (r : Int) (S1 : St) (H1 : Heap) (locs1 : List Loc), (r = 0 ∨ r = 1) → K r S1 → sI D dA wX ad A H0 S1 H1 locs1 → W p l e R s m args below meth c H1 locs1 cells slots Q (F0 m (pc + 3) ls (iV r :: rest))) : W p l e R s m args below meth c H locs cells slots Q (F0 m (pc) ls (iV x1 :: .ref (ad 129) :: rest)) := s_callVz (As := [iV x1]) (rest := rest) (K := K) hF (t_X_hasHoly l D dA ad S H.size x1 K r1 h) (s_recv hK hI 129 (by decide) wX_129 rfl) (cwV 1 hF.2.2.2.2 (lw_V q1133 q1135 qs47 q106 q1136) rfl rfl rfl (by decide +kernel) ⟨by have h1 := hR.1; have h2 : (rmD 117 0 0).frames = 117 + 1 := rfl; omega, by have h1 := hR.2; have h2 : (rmD 117 0 0).locals = 64 * 117 + 64 := rfl; omega⟩) hK hI rfl hls rfl hW hdg hf kk
set_option maxHeartbeats 4000000 in
theorem t_X_pilgrims (l : Launch) (D : va_G) (dA : Nat → ClassId) (ad : Nat → Nat) (S : St) (sz : Nat) (x1 : Int) (x2 : Int) (x3 : Int) (x4 : Int) (K : Int → St → Prop) (rx1 : InR x1) (rx2 : InR x2) (rx3 : InR x3) (rx4 : InR x4) (h : w_X_pilgrims x1 x2 x3 x4 S K) : Met l yX0_pilgrims (ws_ yX0_pilgrims cX0_pilgrims 8 (Option.some Jvm.ClassFile.FieldType.int)) (rmD 118 0 0) (va_Pc [.ref (ad 129), iV x1, iV x2, iV x3, iV x4] (sPre D dA wX ad S sz)) (va_Qi (fun r S' => K r.toInt S') (sPost D dA wX ad (wA wX ad S sz)) (wA wX ad S sz)) 0 0 (wA wX ad S sz) := by
  refine Met.ofW (cc := cX0_pilgrims) (maxL := 8) (ret := (Option.some Jvm.ClassFile.FieldType.int)) (by decide) rfl ?_
  intro p e s m args below meth c s₁ B hml hv
  obtain ⟨rfl, hsz, hK, hC⟩ := hv
  have hx := B.exec
  have hb := B.bytes
  have hr := B.returns
  have hlocks := B.notSynchronized
  have hts := atoms_spec (ws := (ws_ yX0_pilgrims cX0_pilgrims 8 (Option.some Jvm.ClassFile.FieldType.int))) B.pre
  have hts : ∀ w ∈ lw_all, w.before _ s = true := fun w h => hts w (List.mem_cons_of_mem _ h)
  have hown : s.vm.findClass RX0 = some m.cls := findClass_of_methodNamed B.named
  clear B
  subst hsz
  have hI : sI D dA wX ad (wA wX ad S s.heap.size) s.heap S s.heap [] := hC.start
  clear hC
  generalize wA wX ad S s.heap.size = A at hI ⊢
  have hl := lv_entry ([.ref (ad 129), iV x1, iV x2, iV x3, iV x4] : List Value) (n := 8) (Nat.le_of_ble_eq_true rfl)
  rw [lg_entry_eq]
  generalize (lg_sl ([.ref (ad 129), iV x1, iV x2, iV x3, iV x4] : List Value) ++ List.replicate (8 - (lg_sl ([.ref (ad 129), iV x1, iV x2, iV x3, iV x4] : List Value)).length) Slot.unset).toArray = ls at hl ⊢
  have hl : lv_has ls 8 [(0, .ref (ad 129)), (1, iV x1), (2, iV x2), (3, iV x3), (4, iV x4)] := hl
  have hF : CallFix p m c cX0_pilgrims 8 s _ lw_all RX0 := ⟨hx, hb, hml, hown, hts⟩
  have hR : (headSpec (ws_ yX0_pilgrims cX0_pilgrims 8 (Option.some Jvm.ClassFile.FieldType.int)) (rmD 118 0 0)).room.frames = 118 + 1 ∧ (headSpec (ws_ yX0_pilgrims cX0_pilgrims 8 (Option.some Jvm.ClassFile.FieldType.int)) (rmD 118 0 0)).room.locals = 64 * 118 + 64 := ⟨rfl, rfl⟩
  generalize (headSpec (ws_ yX0_pilgrims cX0_pilgrims 8 (Option.some Jvm.ClassFile.FieldType.int)) (rmD 118 0 0)).room = R at hR ⊢
  generalize ([.ref (ad 129), iV x1, iV x2, iV x3, iV x4] : List Value).toArray = args at hts hF ⊢
  generalize hQ : MQ below _ _ _ _ _ _ = Q
  have L59 : ∀ (x2 : Int) (x3 : Int) (x4 : Int), InR x2 → InR x3 → InR x4 → ∀ (n59 : Nat) (x5 : Int) (x6 : Int) (S : St) (H : Heap) (locs : List Loc) (ls : Array Slot), InR x5 → InR x6 → sI D dA wX ad A s.heap S H locs → lv_has ls 8 [(0, .ref (ad 129)), (2, iV x2), (3, iV x3), (4, iV x4), (5, iV x5), (6, iV x6)] → l_X_pilgrims_59 x2 x3 x4 K n59 x5 x6 S → W p l e R s m args below meth c H locs 0 0 Q (F0 m 59 ls []) := by
    intro x2 x3 x4 rx2 rx3 rx4 n59
    induction n59 with
    | zero => intro x5 x6 S H locs ls rx5 rx6 hI hl h; exact False.elim h
    | succ n59 ih59 =>
      intro x5 x6 S H locs ls rx5 rx6 hI hl h
      have J109 : ∀ (x5 : Int) (x6 : Int) (S : St) (H : Heap) (locs : List Loc) (ls : Array Slot), InR x5 → InR x6 → sI D dA wX ad A s.heap S H locs → lv_has ls 8 [(0, .ref (ad 129)), (2, iV x2), (3, iV x3), (4, iV x4), (5, iV x5), (6, iV x6)] → j_X_pilgrims_109 x2 x3 x4 x5 x6 S K (l_X_pilgrims_59 x2 x3 x4 K n59) → W p l e R s m args below meth c H locs 0 0 Q (F0 m 109 ls []) := by
        intro x5 x6 S H locs ls rx5 rx6 hI hl h
        unfold j_X_pilgrims_109 at h
        have f1 := h.1; replace h := h.2
        refine nr_iinc (lv' := [(6, iV (x6 + 1)), (0, .ref (ad 129)), (2, iV x2), (3, iV x3), (4, iV x4), (5, iV x5)]) hx hb dX0_pilgrims_109 hl (k := 5) rfl (by decide) rfl (fun ls hl => ?_)
        refine lv_goto (tgt := 59) hx hb dX0_pilgrims_112 (by decide) ?_
        exact ih59 x5 (x6 + 1) S _ _ _ rx5 f1 hI (lv_sub hl [1, 2, 3, 4, 5, 0] rfl) h
      unfold l_X_pilgrims_59 at h
      refine lv_iload hx hb dX0_pilgrims_59 (lv_at hl 5 rfl) ?_
      refine lv_iload_n hx hb dX0_pilgrims_61 rfl (lv_at hl 1 rfl) ?_
      refine nr_icmp_ge hx hb rx6 rx2 dX0_pilgrims_62 (tgt := 115) (by decide) (fun c2 => ?_) (fun c2 => ?_)
      · replace h := h.1 c2
        refine lv_iload hx hb dX0_pilgrims_115 (lv_at hl 4 rfl) ?_
        rw [← hQ]; exact s_iret (K := K) hx hb hr hlocks hI rx5 h dX0_pilgrims_117
      · replace h := h.2 c2
        refine lv_aload_n hx hb dX0_pilgrims_65 rfl (lv_at hl 0 rfl) ?_
        refine lv_aload_n hx hb dX0_pilgrims_66 rfl (lv_at hl 0 rfl) ?_
        refine gXX0_12_129 hF hK hI dX0_pilgrims_67 ?_
        refine gXX0_71_130 hF hK hI dX0_pilgrims_70 ?_
        refine nr_iconst hx hb dX0_pilgrims_73 ?_
        refine s_iald hx hb hK hI 0 (by decide) wX_0 (by decide) (by decide) dX0_pilgrims_74 (fun f3 => ?_)
        replace h := h f3
        refine cXX0_336 hF hK hI hl.1 hR (by decide) (Nat.le_of_ble_eq_true rfl) ⟨Nat.zero_le _, Nat.zero_le _⟩ f3 h dX0_pilgrims_75 (fun r4 S5 H locs fr4 h hI => ?_)
        replace h := h fr4
        refine lv_istore (lv' := [(7, iV r4), (0, .ref (ad 129)), (2, iV x2), (3, iV x3), (4, iV x4), (5, iV x5), (6, iV x6)]) hx hb dX0_pilgrims_78 hl (by decide) rfl (fun ls hl => ?_)
        refine lv_aload_n hx hb dX0_pilgrims_80 rfl (lv_at hl 1 rfl) ?_
        refine lv_iload hx hb dX0_pilgrims_81 (lv_at hl 0 rfl) ?_
        refine cXX0_339 hF hK hI hl.1 hR (by decide) (Nat.le_of_ble_eq_true rfl) ⟨Nat.zero_le _, Nat.zero_le _⟩ fr4 h dX0_pilgrims_83 (fun r6 S7 H locs fr6 h hI => ?_)
        replace h := h fr6
        have gr6 : InR r6 := kdP_R (k := 2) (by decide) fr6
        refine nr_if_eq hx hb gr6 dX0_pilgrims_86 (tgt := 109) (by decide) (fun c8 => ?_) (fun c8 => ?_)
        · replace h := h.1 c8
          exact J109 x5 x6 S7 _ _ _ rx5 rx6 hI (lv_sub hl [1, 2, 3, 4, 5, 6] rfl) h
        · replace h := h.2 c8
          refine lv_aload_n hx hb dX0_pilgrims_89 rfl (lv_at hl 1 rfl) ?_
          refine nr_bipush hx hb dX0_pilgrims_90 (by decide) ?_
          refine cXX0_336 hF hK hI hl.1 hR (by decide) (Nat.le_of_ble_eq_true rfl) ⟨Nat.zero_le _, Nat.zero_le _⟩ (by decide) h dX0_pilgrims_92 (fun r9 S10 H locs fr9 h hI => ?_)
          replace h := h fr9
          refine lv_iload_n hx hb dX0_pilgrims_95 rfl (lv_at hl 3 rfl) ?_
          refine nr_icmp_ge hx hb fr9 rx3 dX0_pilgrims_96 (tgt := 109) (by decide) (fun c11 => ?_) (fun c11 => ?_)
          · replace h := h.1 c11
            exact J109 x5 x6 S10 _ _ _ rx5 rx6 hI (lv_sub hl [1, 2, 3, 4, 5, 6] rfl) h
          · replace h := h.2 c11
            refine lv_iload hx hb dX0_pilgrims_99 (lv_at hl 0 rfl) ?_
            refine lv_iload hx hb dX0_pilgrims_101 (lv_at hl 4 rfl) ?_
            refine nr_icmp_ne hx hb fr4 rx4 dX0_pilgrims_103 (tgt := 109) (by decide) (fun c12 => ?_) (fun c12 => ?_)
            · replace h := h.1 c12
              exact J109 x5 x6 S10 _ _ _ rx5 rx6 hI (lv_sub hl [1, 2, 3, 4, 5, 6] rfl) h
            · replace h := h.2 c12
              have f13 := h.1; replace h := h.2
              refine nr_iinc (lv' := [(5, iV (x5 + 1)), (7, iV r4), (0, .ref (ad 129)), (2, iV x2), (3, iV x3), (4, iV x4), (6, iV x6)]) hx hb dX0_pilgrims_106 hl (k := 5) rfl (by decide) rfl (fun ls hl => ?_)
              exact J109 (x5 + 1) x6 S10 _ _ _ f13 rx6 hI (lv_sub hl [2, 3, 4, 5, 0, 6] rfl) h
  unfold w_X_pilgrims at h
  refine lv_iload_n hx hb dX0_pilgrims_0 rfl (lv_at hl 1 rfl) ?_
  refine nr_iconst hx hb dX0_pilgrims_1 ?_
  refine nr_sipush hx hb dX0_pilgrims_2 (by decide) ?_
  refine cXX0_74 hF hK hI hl.1 hR (by decide) (Nat.le_of_ble_eq_true rfl) ⟨Nat.zero_le _, Nat.zero_le _⟩ rx1 (by decide) (by decide) h dX0_pilgrims_5 (fun r14 H locs fr14 h hI => ?_)
  replace h := h fr14
  have gr14 : InR r14 := kdP_R (k := 2) (by decide) fr14
  refine nr_if_eq hx hb gr14 dX0_pilgrims_8 (tgt := 40) (by decide) (fun c16 => ?_) (fun c16 => ?_)
  · replace h := h.1 c16
    refine nr_iconst hx hb dX0_pilgrims_40 ?_
    rw [← hQ]; exact s_iret (K := K) hx hb hr hlocks hI (by decide) h dX0_pilgrims_41
  · replace h := h.2 c16
    refine lv_iload_n hx hb dX0_pilgrims_11 rfl (lv_at hl 2 rfl) ?_
    refine nr_iconst hx hb dX0_pilgrims_12 ?_
    refine nr_bipush hx hb dX0_pilgrims_13 (by decide) ?_
    refine cXX0_74 hF hK hI hl.1 hR (by decide) (Nat.le_of_ble_eq_true rfl) ⟨Nat.zero_le _, Nat.zero_le _⟩ rx2 (by decide) (by decide) h dX0_pilgrims_15 (fun r17 H locs fr17 h hI => ?_)
    replace h := h fr17
    have gr17 : InR r17 := kdP_R (k := 2) (by decide) fr17
    refine nr_if_eq hx hb gr17 dX0_pilgrims_18 (tgt := 40) (by decide) (fun c19 => ?_) (fun c19 => ?_)
    · replace h := h.1 c19
      refine nr_iconst hx hb dX0_pilgrims_40 ?_
      rw [← hQ]; exact s_iret (K := K) hx hb hr hlocks hI (by decide) h dX0_pilgrims_41
    · replace h := h.2 c19
      refine lv_iload_n hx hb dX0_pilgrims_21 rfl (lv_at hl 3 rfl) ?_
      refine nr_iconst hx hb dX0_pilgrims_22 ?_
      refine nr_bipush hx hb dX0_pilgrims_23 (by decide) ?_
      refine cXX0_74 hF hK hI hl.1 hR (by decide) (Nat.le_of_ble_eq_true rfl) ⟨Nat.zero_le _, Nat.zero_le _⟩ rx3 (by decide) (by decide) h dX0_pilgrims_25 (fun r20 H locs fr20 h hI => ?_)
      replace h := h fr20
      have gr20 : InR r20 := kdP_R (k := 2) (by decide) fr20
      refine nr_if_eq hx hb gr20 dX0_pilgrims_28 (tgt := 40) (by decide) (fun c22 => ?_) (fun c22 => ?_)
      · replace h := h.1 c22
        refine nr_iconst hx hb dX0_pilgrims_40 ?_
        rw [← hQ]; exact s_iret (K := K) hx hb hr hlocks hI (by decide) h dX0_pilgrims_41
      · replace h := h.2 c22
        refine lv_aload_n hx hb dX0_pilgrims_31 rfl (lv_at hl 0 rfl) ?_
        refine lv_iload hx hb dX0_pilgrims_32 (lv_at hl 4 rfl) ?_
        refine cXX0_93 hF hK hI hl.1 hR (by decide) (Nat.le_of_ble_eq_true rfl) ⟨Nat.zero_le _, Nat.zero_le _⟩ rx4 h dX0_pilgrims_34 (fun r23 H locs fr23 h hI => ?_)
        replace h := h fr23
        have gr23 : InR r23 := kdP_R (k := 2) (by decide) fr23
        refine nr_if_ne hx hb gr23 dX0_pilgrims_37 (tgt := 42) (by decide) (fun c25 => ?_) (fun c25 => ?_)
        · replace h := h.1 c25
          refine lv_aload_n hx hb dX0_pilgrims_42 rfl (lv_at hl 0 rfl) ?_
          refine lv_iload_n hx hb dX0_pilgrims_43 rfl (lv_at hl 1 rfl) ?_
          refine nr_bipush hx hb dX0_pilgrims_44 (by decide) ?_
          have f26 := h.1; replace h := h.2
          refine nr_imul hx hb dX0_pilgrims_46 ?_
          refine nr_bipush hx hb dX0_pilgrims_47 (by decide) ?_
          have f27 := h.1; replace h := h.2
          refine nr_iadd hx hb dX0_pilgrims_49 ?_
          refine uXX0_334_129 hF hK hI f27 dX0_pilgrims_50 (fun S28 H locs eS28 hI => ?_)
          replace h := h S28 eS28
          refine nr_iconst hx hb dX0_pilgrims_53 ?_
          refine lv_istore (lv' := [(5, iV 0), (0, .ref (ad 129)), (1, iV x1), (2, iV x2), (3, iV x3), (4, iV x4)]) hx hb dX0_pilgrims_54 hl (by decide) rfl (fun ls hl => ?_)
          refine nr_iconst hx hb dX0_pilgrims_56 ?_
          refine lv_istore (lv' := [(6, iV 0), (5, iV 0), (0, .ref (ad 129)), (1, iV x1), (2, iV x2), (3, iV x3), (4, iV x4)]) hx hb dX0_pilgrims_57 hl (by decide) rfl (fun ls hl => ?_)
          obtain ⟨n0, h⟩ := h
          exact L59 x2 x3 x4 rx2 rx3 rx4 n0 0 0 S28 _ _ _ (by decide) (by decide) hI (lv_sub hl [2, 4, 5, 6, 1, 0] rfl) h
        · replace h := h.2 c25
          refine nr_iconst hx hb dX0_pilgrims_40 ?_
          rw [← hQ]; exact s_iret (K := K) hx hb hr hlocks hI (by decide) h dX0_pilgrims_41
set_option maxHeartbeats 4000000 in
theorem t_X1_copy_2_132_133 (l : Launch) (D : va_G) (dA : Nat → ClassId) (ad : Nat → Nat) (S : St) (sz : Nat) (K : St → Prop) (h : w_X1_copy_2_132_133 S K) : Met l yX1_copy_2 (ws_ yX1_copy_2 cX1_copy_2 3 (Option.none : Option Jvm.ClassFile.FieldType)) (rmD 2 0 0) (va_Pc [.ref (ad 132), .ref (ad 133)] (sPre D dA wX ad S sz)) (va_Qv (fun S' => K S') (sPost D dA wX ad (wA wX ad S sz)) (wA wX ad S sz)) 0 0 (wA wX ad S sz) := by
  refine Met.ofW (cc := cX1_copy_2) (maxL := 3) (ret := (Option.none : Option Jvm.ClassFile.FieldType)) (by decide) rfl ?_
  intro p e s m args below meth c s₁ B hml hv
  obtain ⟨rfl, hsz, hK, hC⟩ := hv
  have hx := B.exec
  have hb := B.bytes
  have hr := B.returns
  have hlocks := B.notSynchronized
  have hts := atoms_spec (ws := (ws_ yX1_copy_2 cX1_copy_2 3 (Option.none : Option Jvm.ClassFile.FieldType))) B.pre
  have hts : ∀ w ∈ lw_all, w.before _ s = true := fun w h => hts w (List.mem_cons_of_mem _ h)
  have hown : s.vm.findClass RX1 = some m.cls := findClass_of_methodNamed B.named
  clear B
  subst hsz
  have hI : sI D dA wX ad (wA wX ad S s.heap.size) s.heap S s.heap [] := hC.start
  clear hC
  generalize wA wX ad S s.heap.size = A at hI ⊢
  have hl := lv_entry ([.ref (ad 132), .ref (ad 133)] : List Value) (n := 3) (Nat.le_of_ble_eq_true rfl)
  rw [lg_entry_eq]
  generalize (lg_sl ([.ref (ad 132), .ref (ad 133)] : List Value) ++ List.replicate (3 - (lg_sl ([.ref (ad 132), .ref (ad 133)] : List Value)).length) Slot.unset).toArray = ls at hl ⊢
  have hl : lv_has ls 3 [(0, .ref (ad 132)), (1, .ref (ad 133))] := hl
  have hF : CallFix p m c cX1_copy_2 3 s _ lw_all RX1 := ⟨hx, hb, hml, hown, hts⟩
  have hR : (headSpec (ws_ yX1_copy_2 cX1_copy_2 3 (Option.none : Option Jvm.ClassFile.FieldType)) (rmD 2 0 0)).room.frames = 2 + 1 ∧ (headSpec (ws_ yX1_copy_2 cX1_copy_2 3 (Option.none : Option Jvm.ClassFile.FieldType)) (rmD 2 0 0)).room.locals = 64 * 2 + 64 := ⟨rfl, rfl⟩
  generalize (headSpec (ws_ yX1_copy_2 cX1_copy_2 3 (Option.none : Option Jvm.ClassFile.FieldType)) (rmD 2 0 0)).room = R at hR ⊢
  generalize ([.ref (ad 132), .ref (ad 133)] : List Value).toArray = args at hts hF ⊢
  generalize hQ : MQ below _ _ _ _ _ _ = Q
  have L2 : ∀ (n2 : Nat) (x2 : Int) (S : St) (H : Heap) (locs : List Loc) (ls : Array Slot), InR x2 → sI D dA wX ad A s.heap S H locs → lv_has ls 3 [(0, .ref (ad 132)), (1, .ref (ad 133)), (2, iV x2)] → l_X1_copy_2_132_133_2 K n2 x2 S → W p l e R s m args below meth c H locs 0 0 Q (F0 m 2 ls []) := by
    intro n2
    induction n2 with
    | zero => intro x2 S H locs ls rx2 hI hl h; exact False.elim h
    | succ n2 ih2 =>
      intro x2 S H locs ls rx2 hI hl h
      unfold l_X1_copy_2_132_133_2 at h
      refine lv_iload_n hx hb dX1_copy_2_2 rfl (lv_at hl 2 rfl) ?_
      refine lv_aload_n hx hb dX1_copy_2_3 rfl (lv_at hl 0 rfl) ?_
      refine s_olen hx hb hK hI 132 (by decide) wX_132 (v := 20) rfl rfl dX1_copy_2_4 ?_
      refine nr_icmp_ge hx hb rx2 (by decide) dX1_copy_2_5 (tgt := 23) (by decide) (fun c1 => ?_) (fun c1 => ?_)
      · replace h := h.1 c1
        rw [← hQ]; exact s_vret (K := K) hx hb hr hlocks hI  h dX1_copy_2_23
      · replace h := h.2 c1
        refine lv_aload_n hx hb dX1_copy_2_8 rfl (lv_at hl 0 rfl) ?_
        refine lv_iload_n hx hb dX1_copy_2_9 rfl (lv_at hl 2 rfl) ?_
        have f2 := h.1; replace h := h.2
        refine s_aald hx hb hK hI 132 (by decide) wX_132 ⟨rfl, rfl⟩ rx2 f2 dX1_copy_2_10 ?_
        refine lv_aload_n hx hb dX1_copy_2_11 rfl (lv_at hl 1 rfl) ?_
        refine lv_iload_n hx hb dX1_copy_2_12 rfl (lv_at hl 2 rfl) ?_
        have f3 := h.1; replace h := h.2
        refine s_aald hx hb hK hI 133 (by decide) wX_133 ⟨rfl, rfl⟩ rx2 f3 dX1_copy_2_13 ?_
        refine cXX1_44 hF hK hI hl.1 hR (by decide) (Nat.le_of_ble_eq_true rfl) ⟨Nat.zero_le _, Nat.zero_le _⟩ (k0 := (15 + Int.toNat x2)) (n0 := 91) (hk0 := (wX_rk132 f2)) (hd0 := (wX_rw132 f2)) (hn0 := (by decide)) (k1 := (35 + Int.toNat x2)) (n1 := 91) (hk1 := (wX_rk133 f3)) (hd1 := (wX_rw133 f3)) (hn1 := (by decide)) h dX1_copy_2_14 (fun S5 H locs h hI => ?_)
        have f6 := h.1; replace h := h.2
        refine nr_iinc (lv' := [(2, iV (x2 + 1)), (0, .ref (ad 132)), (1, .ref (ad 133))]) hx hb dX1_copy_2_17 hl (k := 2) rfl (by decide) rfl (fun ls hl => ?_)
        refine lv_goto (tgt := 2) hx hb dX1_copy_2_20 (by decide) ?_
        exact ih2 (x2 + 1) S5 _ _ _ f6 hI (lv_sub hl [1, 2, 0] rfl) h
  unfold w_X1_copy_2_132_133 at h
  refine nr_iconst hx hb dX1_copy_2_0 ?_
  refine lv_istore_n (lv' := [(2, iV 0), (0, .ref (ad 132)), (1, .ref (ad 133))]) hx hb dX1_copy_2_1 rfl hl (by decide) rfl (fun ls hl => ?_)
  obtain ⟨n0, h⟩ := h
  exact L2 n0 0 S _ _ _ (by decide) hI (lv_sub hl [1, 2, 0] rfl) h
set_option maxHeartbeats 4000000 in
theorem t_X1_copy_2_133_132 (l : Launch) (D : va_G) (dA : Nat → ClassId) (ad : Nat → Nat) (S : St) (sz : Nat) (K : St → Prop) (h : w_X1_copy_2_133_132 S K) : Met l yX1_copy_2 (ws_ yX1_copy_2 cX1_copy_2 3 (Option.none : Option Jvm.ClassFile.FieldType)) (rmD 2 0 0) (va_Pc [.ref (ad 133), .ref (ad 132)] (sPre D dA wX ad S sz)) (va_Qv (fun S' => K S') (sPost D dA wX ad (wA wX ad S sz)) (wA wX ad S sz)) 0 0 (wA wX ad S sz) := by
  refine Met.ofW (cc := cX1_copy_2) (maxL := 3) (ret := (Option.none : Option Jvm.ClassFile.FieldType)) (by decide) rfl ?_
  intro p e s m args below meth c s₁ B hml hv
  obtain ⟨rfl, hsz, hK, hC⟩ := hv
  have hx := B.exec
  have hb := B.bytes
  have hr := B.returns
  have hlocks := B.notSynchronized
  have hts := atoms_spec (ws := (ws_ yX1_copy_2 cX1_copy_2 3 (Option.none : Option Jvm.ClassFile.FieldType))) B.pre
  have hts : ∀ w ∈ lw_all, w.before _ s = true := fun w h => hts w (List.mem_cons_of_mem _ h)
  have hown : s.vm.findClass RX1 = some m.cls := findClass_of_methodNamed B.named
  clear B
  subst hsz
  have hI : sI D dA wX ad (wA wX ad S s.heap.size) s.heap S s.heap [] := hC.start
  clear hC
  generalize wA wX ad S s.heap.size = A at hI ⊢
  have hl := lv_entry ([.ref (ad 133), .ref (ad 132)] : List Value) (n := 3) (Nat.le_of_ble_eq_true rfl)
  rw [lg_entry_eq]
  generalize (lg_sl ([.ref (ad 133), .ref (ad 132)] : List Value) ++ List.replicate (3 - (lg_sl ([.ref (ad 133), .ref (ad 132)] : List Value)).length) Slot.unset).toArray = ls at hl ⊢
  have hl : lv_has ls 3 [(0, .ref (ad 133)), (1, .ref (ad 132))] := hl
  have hF : CallFix p m c cX1_copy_2 3 s _ lw_all RX1 := ⟨hx, hb, hml, hown, hts⟩
  have hR : (headSpec (ws_ yX1_copy_2 cX1_copy_2 3 (Option.none : Option Jvm.ClassFile.FieldType)) (rmD 2 0 0)).room.frames = 2 + 1 ∧ (headSpec (ws_ yX1_copy_2 cX1_copy_2 3 (Option.none : Option Jvm.ClassFile.FieldType)) (rmD 2 0 0)).room.locals = 64 * 2 + 64 := ⟨rfl, rfl⟩
  generalize (headSpec (ws_ yX1_copy_2 cX1_copy_2 3 (Option.none : Option Jvm.ClassFile.FieldType)) (rmD 2 0 0)).room = R at hR ⊢
  generalize ([.ref (ad 133), .ref (ad 132)] : List Value).toArray = args at hts hF ⊢
  generalize hQ : MQ below _ _ _ _ _ _ = Q
  have L2 : ∀ (n2 : Nat) (x2 : Int) (S : St) (H : Heap) (locs : List Loc) (ls : Array Slot), InR x2 → sI D dA wX ad A s.heap S H locs → lv_has ls 3 [(0, .ref (ad 133)), (1, .ref (ad 132)), (2, iV x2)] → l_X1_copy_2_133_132_2 K n2 x2 S → W p l e R s m args below meth c H locs 0 0 Q (F0 m 2 ls []) := by
    intro n2
    induction n2 with
    | zero => intro x2 S H locs ls rx2 hI hl h; exact False.elim h
    | succ n2 ih2 =>
      intro x2 S H locs ls rx2 hI hl h
      unfold l_X1_copy_2_133_132_2 at h
      refine lv_iload_n hx hb dX1_copy_2_2 rfl (lv_at hl 2 rfl) ?_
      refine lv_aload_n hx hb dX1_copy_2_3 rfl (lv_at hl 0 rfl) ?_
      refine s_olen hx hb hK hI 133 (by decide) wX_133 (v := 20) rfl rfl dX1_copy_2_4 ?_
      refine nr_icmp_ge hx hb rx2 (by decide) dX1_copy_2_5 (tgt := 23) (by decide) (fun c1 => ?_) (fun c1 => ?_)
      · replace h := h.1 c1
        rw [← hQ]; exact s_vret (K := K) hx hb hr hlocks hI  h dX1_copy_2_23
      · replace h := h.2 c1
        refine lv_aload_n hx hb dX1_copy_2_8 rfl (lv_at hl 0 rfl) ?_
        refine lv_iload_n hx hb dX1_copy_2_9 rfl (lv_at hl 2 rfl) ?_
        have f2 := h.1; replace h := h.2
        refine s_aald hx hb hK hI 133 (by decide) wX_133 ⟨rfl, rfl⟩ rx2 f2 dX1_copy_2_10 ?_
        refine lv_aload_n hx hb dX1_copy_2_11 rfl (lv_at hl 1 rfl) ?_
        refine lv_iload_n hx hb dX1_copy_2_12 rfl (lv_at hl 2 rfl) ?_
        have f3 := h.1; replace h := h.2
        refine s_aald hx hb hK hI 132 (by decide) wX_132 ⟨rfl, rfl⟩ rx2 f3 dX1_copy_2_13 ?_
        refine cXX1_44 hF hK hI hl.1 hR (by decide) (Nat.le_of_ble_eq_true rfl) ⟨Nat.zero_le _, Nat.zero_le _⟩ (k0 := (35 + Int.toNat x2)) (n0 := 91) (hk0 := (wX_rk133 f2)) (hd0 := (wX_rw133 f2)) (hn0 := (by decide)) (k1 := (15 + Int.toNat x2)) (n1 := 91) (hk1 := (wX_rk132 f3)) (hd1 := (wX_rw132 f3)) (hn1 := (by decide)) h dX1_copy_2_14 (fun S5 H locs h hI => ?_)
        have f6 := h.1; replace h := h.2
        refine nr_iinc (lv' := [(2, iV (x2 + 1)), (0, .ref (ad 133)), (1, .ref (ad 132))]) hx hb dX1_copy_2_17 hl (k := 2) rfl (by decide) rfl (fun ls hl => ?_)
        refine lv_goto (tgt := 2) hx hb dX1_copy_2_20 (by decide) ?_
        exact ih2 (x2 + 1) S5 _ _ _ f6 hI (lv_sub hl [1, 2, 0] rfl) h
  unfold w_X1_copy_2_133_132 at h
  refine nr_iconst hx hb dX1_copy_2_0 ?_
  refine lv_istore_n (lv' := [(2, iV 0), (0, .ref (ad 133)), (1, .ref (ad 132))]) hx hb dX1_copy_2_1 rfl hl (by decide) rfl (fun ls hl => ?_)
  obtain ⟨n0, h⟩ := h
  exact L2 n0 0 S _ _ _ (by decide) hI (lv_sub hl [1, 2, 0] rfl) h
set_option maxHeartbeats 4000000 in
theorem t_X1_copy_2_134_135 (l : Launch) (D : va_G) (dA : Nat → ClassId) (ad : Nat → Nat) (S : St) (sz : Nat) (K : St → Prop) (h : w_X1_copy_2_134_135 S K) : Met l yX1_copy_2 (ws_ yX1_copy_2 cX1_copy_2 3 (Option.none : Option Jvm.ClassFile.FieldType)) (rmD 2 0 0) (va_Pc [.ref (ad 134), .ref (ad 135)] (sPre D dA wX ad S sz)) (va_Qv (fun S' => K S') (sPost D dA wX ad (wA wX ad S sz)) (wA wX ad S sz)) 0 0 (wA wX ad S sz) := by
  refine Met.ofW (cc := cX1_copy_2) (maxL := 3) (ret := (Option.none : Option Jvm.ClassFile.FieldType)) (by decide) rfl ?_
  intro p e s m args below meth c s₁ B hml hv
  obtain ⟨rfl, hsz, hK, hC⟩ := hv
  have hx := B.exec
  have hb := B.bytes
  have hr := B.returns
  have hlocks := B.notSynchronized
  have hts := atoms_spec (ws := (ws_ yX1_copy_2 cX1_copy_2 3 (Option.none : Option Jvm.ClassFile.FieldType))) B.pre
  have hts : ∀ w ∈ lw_all, w.before _ s = true := fun w h => hts w (List.mem_cons_of_mem _ h)
  have hown : s.vm.findClass RX1 = some m.cls := findClass_of_methodNamed B.named
  clear B
  subst hsz
  have hI : sI D dA wX ad (wA wX ad S s.heap.size) s.heap S s.heap [] := hC.start
  clear hC
  generalize wA wX ad S s.heap.size = A at hI ⊢
  have hl := lv_entry ([.ref (ad 134), .ref (ad 135)] : List Value) (n := 3) (Nat.le_of_ble_eq_true rfl)
  rw [lg_entry_eq]
  generalize (lg_sl ([.ref (ad 134), .ref (ad 135)] : List Value) ++ List.replicate (3 - (lg_sl ([.ref (ad 134), .ref (ad 135)] : List Value)).length) Slot.unset).toArray = ls at hl ⊢
  have hl : lv_has ls 3 [(0, .ref (ad 134)), (1, .ref (ad 135))] := hl
  have hF : CallFix p m c cX1_copy_2 3 s _ lw_all RX1 := ⟨hx, hb, hml, hown, hts⟩
  have hR : (headSpec (ws_ yX1_copy_2 cX1_copy_2 3 (Option.none : Option Jvm.ClassFile.FieldType)) (rmD 2 0 0)).room.frames = 2 + 1 ∧ (headSpec (ws_ yX1_copy_2 cX1_copy_2 3 (Option.none : Option Jvm.ClassFile.FieldType)) (rmD 2 0 0)).room.locals = 64 * 2 + 64 := ⟨rfl, rfl⟩
  generalize (headSpec (ws_ yX1_copy_2 cX1_copy_2 3 (Option.none : Option Jvm.ClassFile.FieldType)) (rmD 2 0 0)).room = R at hR ⊢
  generalize ([.ref (ad 134), .ref (ad 135)] : List Value).toArray = args at hts hF ⊢
  generalize hQ : MQ below _ _ _ _ _ _ = Q
  have L2 : ∀ (n2 : Nat) (x2 : Int) (S : St) (H : Heap) (locs : List Loc) (ls : Array Slot), InR x2 → sI D dA wX ad A s.heap S H locs → lv_has ls 3 [(0, .ref (ad 134)), (1, .ref (ad 135)), (2, iV x2)] → l_X1_copy_2_134_135_2 K n2 x2 S → W p l e R s m args below meth c H locs 0 0 Q (F0 m 2 ls []) := by
    intro n2
    induction n2 with
    | zero => intro x2 S H locs ls rx2 hI hl h; exact False.elim h
    | succ n2 ih2 =>
      intro x2 S H locs ls rx2 hI hl h
      unfold l_X1_copy_2_134_135_2 at h
      refine lv_iload_n hx hb dX1_copy_2_2 rfl (lv_at hl 2 rfl) ?_
      refine lv_aload_n hx hb dX1_copy_2_3 rfl (lv_at hl 0 rfl) ?_
      refine s_olen hx hb hK hI 134 (by decide) wX_134 (v := 12) rfl rfl dX1_copy_2_4 ?_
      refine nr_icmp_ge hx hb rx2 (by decide) dX1_copy_2_5 (tgt := 23) (by decide) (fun c1 => ?_) (fun c1 => ?_)
      · replace h := h.1 c1
        rw [← hQ]; exact s_vret (K := K) hx hb hr hlocks hI  h dX1_copy_2_23
      · replace h := h.2 c1
        refine lv_aload_n hx hb dX1_copy_2_8 rfl (lv_at hl 0 rfl) ?_
        refine lv_iload_n hx hb dX1_copy_2_9 rfl (lv_at hl 2 rfl) ?_
        have f2 := h.1; replace h := h.2
        refine s_aald hx hb hK hI 134 (by decide) wX_134 ⟨rfl, rfl⟩ rx2 f2 dX1_copy_2_10 ?_
        refine lv_aload_n hx hb dX1_copy_2_11 rfl (lv_at hl 1 rfl) ?_
        refine lv_iload_n hx hb dX1_copy_2_12 rfl (lv_at hl 2 rfl) ?_
        have f3 := h.1; replace h := h.2
        refine s_aald hx hb hK hI 135 (by decide) wX_135 ⟨rfl, rfl⟩ rx2 f3 dX1_copy_2_13 ?_
        refine cXX1_44 hF hK hI hl.1 hR (by decide) (Nat.le_of_ble_eq_true rfl) ⟨Nat.zero_le _, Nat.zero_le _⟩ (k0 := (55 + Int.toNat x2)) (n0 := 4) (hk0 := (wX_rk134 f2)) (hd0 := (wX_rw134 f2)) (hn0 := (by decide)) (k1 := (67 + Int.toNat x2)) (n1 := 4) (hk1 := (wX_rk135 f3)) (hd1 := (wX_rw135 f3)) (hn1 := (by decide)) h dX1_copy_2_14 (fun S5 H locs h hI => ?_)
        have f6 := h.1; replace h := h.2
        refine nr_iinc (lv' := [(2, iV (x2 + 1)), (0, .ref (ad 134)), (1, .ref (ad 135))]) hx hb dX1_copy_2_17 hl (k := 2) rfl (by decide) rfl (fun ls hl => ?_)
        refine lv_goto (tgt := 2) hx hb dX1_copy_2_20 (by decide) ?_
        exact ih2 (x2 + 1) S5 _ _ _ f6 hI (lv_sub hl [1, 2, 0] rfl) h
  unfold w_X1_copy_2_134_135 at h
  refine nr_iconst hx hb dX1_copy_2_0 ?_
  refine lv_istore_n (lv' := [(2, iV 0), (0, .ref (ad 134)), (1, .ref (ad 135))]) hx hb dX1_copy_2_1 rfl hl (by decide) rfl (fun ls hl => ?_)
  obtain ⟨n0, h⟩ := h
  exact L2 n0 0 S _ _ _ (by decide) hI (lv_sub hl [1, 2, 0] rfl) h
set_option maxHeartbeats 4000000 in
theorem t_X1_copy_2_135_134 (l : Launch) (D : va_G) (dA : Nat → ClassId) (ad : Nat → Nat) (S : St) (sz : Nat) (K : St → Prop) (h : w_X1_copy_2_135_134 S K) : Met l yX1_copy_2 (ws_ yX1_copy_2 cX1_copy_2 3 (Option.none : Option Jvm.ClassFile.FieldType)) (rmD 2 0 0) (va_Pc [.ref (ad 135), .ref (ad 134)] (sPre D dA wX ad S sz)) (va_Qv (fun S' => K S') (sPost D dA wX ad (wA wX ad S sz)) (wA wX ad S sz)) 0 0 (wA wX ad S sz) := by
  refine Met.ofW (cc := cX1_copy_2) (maxL := 3) (ret := (Option.none : Option Jvm.ClassFile.FieldType)) (by decide) rfl ?_
  intro p e s m args below meth c s₁ B hml hv
  obtain ⟨rfl, hsz, hK, hC⟩ := hv
  have hx := B.exec
  have hb := B.bytes
  have hr := B.returns
  have hlocks := B.notSynchronized
  have hts := atoms_spec (ws := (ws_ yX1_copy_2 cX1_copy_2 3 (Option.none : Option Jvm.ClassFile.FieldType))) B.pre
  have hts : ∀ w ∈ lw_all, w.before _ s = true := fun w h => hts w (List.mem_cons_of_mem _ h)
  have hown : s.vm.findClass RX1 = some m.cls := findClass_of_methodNamed B.named
  clear B
  subst hsz
  have hI : sI D dA wX ad (wA wX ad S s.heap.size) s.heap S s.heap [] := hC.start
  clear hC
  generalize wA wX ad S s.heap.size = A at hI ⊢
  have hl := lv_entry ([.ref (ad 135), .ref (ad 134)] : List Value) (n := 3) (Nat.le_of_ble_eq_true rfl)
  rw [lg_entry_eq]
  generalize (lg_sl ([.ref (ad 135), .ref (ad 134)] : List Value) ++ List.replicate (3 - (lg_sl ([.ref (ad 135), .ref (ad 134)] : List Value)).length) Slot.unset).toArray = ls at hl ⊢
  have hl : lv_has ls 3 [(0, .ref (ad 135)), (1, .ref (ad 134))] := hl
  have hF : CallFix p m c cX1_copy_2 3 s _ lw_all RX1 := ⟨hx, hb, hml, hown, hts⟩
  have hR : (headSpec (ws_ yX1_copy_2 cX1_copy_2 3 (Option.none : Option Jvm.ClassFile.FieldType)) (rmD 2 0 0)).room.frames = 2 + 1 ∧ (headSpec (ws_ yX1_copy_2 cX1_copy_2 3 (Option.none : Option Jvm.ClassFile.FieldType)) (rmD 2 0 0)).room.locals = 64 * 2 + 64 := ⟨rfl, rfl⟩
  generalize (headSpec (ws_ yX1_copy_2 cX1_copy_2 3 (Option.none : Option Jvm.ClassFile.FieldType)) (rmD 2 0 0)).room = R at hR ⊢
  generalize ([.ref (ad 135), .ref (ad 134)] : List Value).toArray = args at hts hF ⊢
  generalize hQ : MQ below _ _ _ _ _ _ = Q
  have L2 : ∀ (n2 : Nat) (x2 : Int) (S : St) (H : Heap) (locs : List Loc) (ls : Array Slot), InR x2 → sI D dA wX ad A s.heap S H locs → lv_has ls 3 [(0, .ref (ad 135)), (1, .ref (ad 134)), (2, iV x2)] → l_X1_copy_2_135_134_2 K n2 x2 S → W p l e R s m args below meth c H locs 0 0 Q (F0 m 2 ls []) := by
    intro n2
    induction n2 with
    | zero => intro x2 S H locs ls rx2 hI hl h; exact False.elim h
    | succ n2 ih2 =>
      intro x2 S H locs ls rx2 hI hl h
      unfold l_X1_copy_2_135_134_2 at h
      refine lv_iload_n hx hb dX1_copy_2_2 rfl (lv_at hl 2 rfl) ?_
      refine lv_aload_n hx hb dX1_copy_2_3 rfl (lv_at hl 0 rfl) ?_
      refine s_olen hx hb hK hI 135 (by decide) wX_135 (v := 12) rfl rfl dX1_copy_2_4 ?_
      refine nr_icmp_ge hx hb rx2 (by decide) dX1_copy_2_5 (tgt := 23) (by decide) (fun c1 => ?_) (fun c1 => ?_)
      · replace h := h.1 c1
        rw [← hQ]; exact s_vret (K := K) hx hb hr hlocks hI  h dX1_copy_2_23
      · replace h := h.2 c1
        refine lv_aload_n hx hb dX1_copy_2_8 rfl (lv_at hl 0 rfl) ?_
        refine lv_iload_n hx hb dX1_copy_2_9 rfl (lv_at hl 2 rfl) ?_
        have f2 := h.1; replace h := h.2
        refine s_aald hx hb hK hI 135 (by decide) wX_135 ⟨rfl, rfl⟩ rx2 f2 dX1_copy_2_10 ?_
        refine lv_aload_n hx hb dX1_copy_2_11 rfl (lv_at hl 1 rfl) ?_
        refine lv_iload_n hx hb dX1_copy_2_12 rfl (lv_at hl 2 rfl) ?_
        have f3 := h.1; replace h := h.2
        refine s_aald hx hb hK hI 134 (by decide) wX_134 ⟨rfl, rfl⟩ rx2 f3 dX1_copy_2_13 ?_
        refine cXX1_44 hF hK hI hl.1 hR (by decide) (Nat.le_of_ble_eq_true rfl) ⟨Nat.zero_le _, Nat.zero_le _⟩ (k0 := (67 + Int.toNat x2)) (n0 := 4) (hk0 := (wX_rk135 f2)) (hd0 := (wX_rw135 f2)) (hn0 := (by decide)) (k1 := (55 + Int.toNat x2)) (n1 := 4) (hk1 := (wX_rk134 f3)) (hd1 := (wX_rw134 f3)) (hn1 := (by decide)) h dX1_copy_2_14 (fun S5 H locs h hI => ?_)
        have f6 := h.1; replace h := h.2
        refine nr_iinc (lv' := [(2, iV (x2 + 1)), (0, .ref (ad 135)), (1, .ref (ad 134))]) hx hb dX1_copy_2_17 hl (k := 2) rfl (by decide) rfl (fun ls hl => ?_)
        refine lv_goto (tgt := 2) hx hb dX1_copy_2_20 (by decide) ?_
        exact ih2 (x2 + 1) S5 _ _ _ f6 hI (lv_sub hl [1, 2, 0] rfl) h
  unfold w_X1_copy_2_135_134 at h
  refine nr_iconst hx hb dX1_copy_2_0 ?_
  refine lv_istore_n (lv' := [(2, iV 0), (0, .ref (ad 135)), (1, .ref (ad 134))]) hx hb dX1_copy_2_1 rfl hl (by decide) rfl (fun ls hl => ?_)
  obtain ⟨n0, h⟩ := h
  exact L2 n0 0 S _ _ _ (by decide) hI (lv_sub hl [1, 2, 0] rfl) h
theorem gXX1_9_131 {p : Program} {l : Launch} {e : Env} {R : Room} {s : State} {m : MethodId} {args : Array Value} {below : List Frame} {meth : Method} {c : Code} {H : Heap} {locs : List Loc} {Q : State → Prop} {cc : ByteArray} {nL pc : Nat} {ls : Array Slot} {rest : List Value} {cells slots : Nat} {D : va_G} {dA : Nat → ClassId} {ad : Nat → Nat} {A : Nat → Prop} {H0 : Heap} {S : St} (hF : CallFix p m c cc nL s args lw_all RX1) (hK : gK D dA s) (hI : sI D dA wX ad A H0 S H locs) (hdg : decode cc pc = .ok (.getfield 9, 3)) (kk : W p l e R s m args below meth c H locs cells slots Q (F0 m (pc + 3) ls (.ref (ad 4) :: rest))) : W p l e R s m args below meth c H locs cells slots Q (F0 m (pc) ls (.ref (ad 131) :: rest)) := s_getr hF.1 hF.2.1 hF.2.2.2.2 hF.2.2.2.1 hK hI 131 (by decide) wX_131 rfl in_X1 0 (by decide) q156 rfl 4 rfl hdg kk
theorem gXX1_15_131 {p : Program} {l : Launch} {e : Env} {R : Room} {s : State} {m : MethodId} {args : Array Value} {below : List Frame} {meth : Method} {c : Code} {H : Heap} {locs : List Loc} {Q : State → Prop} {cc : ByteArray} {nL pc : Nat} {ls : Array Slot} {rest : List Value} {cells slots : Nat} {D : va_G} {dA : Nat → ClassId} {ad : Nat → Nat} {A : Nat → Prop} {H0 : Heap} {S : St} (hF : CallFix p m c cc nL s args lw_all RX1) (hK : gK D dA s) (hI : sI D dA wX ad A H0 S H locs) (hdg : decode cc pc = .ok (.getfield 15, 3)) (kk : W p l e R s m args below meth c H locs cells slots Q (F0 m (pc + 3) ls (.ref (ad 5) :: rest))) : W p l e R s m args below meth c H locs cells slots Q (F0 m (pc) ls (.ref (ad 131) :: rest)) := s_getr hF.1 hF.2.1 hF.2.2.2.2 hF.2.2.2.1 hK hI 131 (by decide) wX_131 rfl in_X1 1 (by decide) q158 rfl 5 rfl hdg kk
theorem gXX1_15_130 {p : Program} {l : Launch} {e : Env} {R : Room} {s : State} {m : MethodId} {args : Array Value} {below : List Frame} {meth : Method} {c : Code} {H : Heap} {locs : List Loc} {Q : State → Prop} {cc : ByteArray} {nL pc : Nat} {ls : Array Slot} {rest : List Value} {cells slots : Nat} {D : va_G} {dA : Nat → ClassId} {ad : Nat → Nat} {A : Nat → Prop} {H0 : Heap} {S : St} (hF : CallFix p m c cc nL s args lw_all RX1) (hK : gK D dA s) (hI : sI D dA wX ad A H0 S H locs) (hdg : decode cc pc = .ok (.getfield 15, 3)) (kk : W p l e R s m args below meth c H locs cells slots Q (F0 m (pc + 3) ls (.ref (ad 1) :: rest))) : W p l e R s m args below meth c H locs cells slots Q (F0 m (pc) ls (.ref (ad 130) :: rest)) := s_getr hF.1 hF.2.1 hF.2.2.2.2 hF.2.2.2.1 hK hI 130 (by decide) wX_130 rfl in_X1 1 (by decide) q158 rfl 1 rfl hdg kk
theorem gXX1_18_131 {p : Program} {l : Launch} {e : Env} {R : Room} {s : State} {m : MethodId} {args : Array Value} {below : List Frame} {meth : Method} {c : Code} {H : Heap} {locs : List Loc} {Q : State → Prop} {cc : ByteArray} {nL pc : Nat} {ls : Array Slot} {rest : List Value} {cells slots : Nat} {D : va_G} {dA : Nat → ClassId} {ad : Nat → Nat} {A : Nat → Prop} {H0 : Heap} {S : St} (hF : CallFix p m c cc nL s args lw_all RX1) (hK : gK D dA s) (hI : sI D dA wX ad A H0 S H locs) (hdg : decode cc pc = .ok (.getfield 18, 3)) (kk : W p l e R s m args below meth c H locs cells slots Q (F0 m (pc + 3) ls (.ref (ad 6) :: rest))) : W p l e R s m args below meth c H locs cells slots Q (F0 m (pc) ls (.ref (ad 131) :: rest)) := s_getr hF.1 hF.2.1 hF.2.2.2.2 hF.2.2.2.1 hK hI 131 (by decide) wX_131 rfl in_X1 2 (by decide) q160 rfl 6 rfl hdg kk
theorem gXX1_18_130 {p : Program} {l : Launch} {e : Env} {R : Room} {s : State} {m : MethodId} {args : Array Value} {below : List Frame} {meth : Method} {c : Code} {H : Heap} {locs : List Loc} {Q : State → Prop} {cc : ByteArray} {nL pc : Nat} {ls : Array Slot} {rest : List Value} {cells slots : Nat} {D : va_G} {dA : Nat → ClassId} {ad : Nat → Nat} {A : Nat → Prop} {H0 : Heap} {S : St} (hF : CallFix p m c cc nL s args lw_all RX1) (hK : gK D dA s) (hI : sI D dA wX ad A H0 S H locs) (hdg : decode cc pc = .ok (.getfield 18, 3)) (kk : W p l e R s m args below meth c H locs cells slots Q (F0 m (pc + 3) ls (.ref (ad 2) :: rest))) : W p l e R s m args below meth c H locs cells slots Q (F0 m (pc) ls (.ref (ad 130) :: rest)) := s_getr hF.1 hF.2.1 hF.2.2.2.2 hF.2.2.2.1 hK hI 130 (by decide) wX_130 rfl in_X1 2 (by decide) q160 rfl 2 rfl hdg kk
theorem gXX1_21_131 {p : Program} {l : Launch} {e : Env} {R : Room} {s : State} {m : MethodId} {args : Array Value} {below : List Frame} {meth : Method} {c : Code} {H : Heap} {locs : List Loc} {Q : State → Prop} {cc : ByteArray} {nL pc : Nat} {ls : Array Slot} {rest : List Value} {cells slots : Nat} {D : va_G} {dA : Nat → ClassId} {ad : Nat → Nat} {A : Nat → Prop} {H0 : Heap} {S : St} (hF : CallFix p m c cc nL s args lw_all RX1) (hK : gK D dA s) (hI : sI D dA wX ad A H0 S H locs) (hdg : decode cc pc = .ok (.getfield 21, 3)) (kk : W p l e R s m args below meth c H locs cells slots Q (F0 m (pc + 3) ls (.ref (ad 7) :: rest))) : W p l e R s m args below meth c H locs cells slots Q (F0 m (pc) ls (.ref (ad 131) :: rest)) := s_getr hF.1 hF.2.1 hF.2.2.2.2 hF.2.2.2.1 hK hI 131 (by decide) wX_131 rfl in_X1 3 (by decide) q162 rfl 7 rfl hdg kk
theorem gXX1_26_131 {p : Program} {l : Launch} {e : Env} {R : Room} {s : State} {m : MethodId} {args : Array Value} {below : List Frame} {meth : Method} {c : Code} {H : Heap} {locs : List Loc} {Q : State → Prop} {cc : ByteArray} {nL pc : Nat} {ls : Array Slot} {rest : List Value} {cells slots : Nat} {D : va_G} {dA : Nat → ClassId} {ad : Nat → Nat} {A : Nat → Prop} {H0 : Heap} {S : St} (hF : CallFix p m c cc nL s args lw_all RX1) (hK : gK D dA s) (hI : sI D dA wX ad A H0 S H locs) (hdg : decode cc pc = .ok (.getfield 26, 3)) (kk : W p l e R s m args below meth c H locs cells slots Q (F0 m (pc + 3) ls (.ref (ad 133) :: rest))) : W p l e R s m args below meth c H locs cells slots Q (F0 m (pc) ls (.ref (ad 131) :: rest)) := s_getr hF.1 hF.2.1 hF.2.2.2.2 hF.2.2.2.1 hK hI 131 (by decide) wX_131 rfl in_X1 4 (by decide) q164 rfl 133 rfl hdg kk
theorem cXX1_48_133_132 {p : Program} {l : Launch} {e : Env} {R : Room} {s : State} {m : MethodId} {args : Array Value} {below : List Frame} {meth : Method} {c : Code} {H : Heap} {locs : List Loc} {Q : State → Prop} {cc : ByteArray} {nL pc : Nat} {ls : Array Slot} {rest : List Value} {cells slots : Nat} {D : va_G} {dA : Nat → ClassId} {ad : Nat → Nat} {A : Nat → Prop} {H0 : Heap} {S : St} {dk : Nat} (hF : CallFix p m c cc nL s args lw_all RX1) (hK : gK D dA s) (hI : sI D dA wX ad A H0 S H locs) (hls : ls.size = nL) (hR : R.frames = dk + 1 ∧ R.locals = 64 * dk + 64) (hd : 2 + 1 ≤ dk) (hW : (rest.map fun v => v.category).sum ≤ 8) (hf : cells ≤ R.cells ∧ slots ≤ R.slots) {K : St → Prop} (h : w_X1_copy_2_133_132 S K) (hdg : decode cc pc = .ok (.invokestatic 48, 3)) (kk : ∀ (S1 : St) (H1 : Heap) (locs1 : List Loc), K S1 → sI D dA wX ad A H0 S1 H1 locs1 → W p l e R s m args below meth c H1 locs1 cells slots Q (F0 m (pc + 3) ls (rest))) : W p l e R s m args below meth c H locs cells slots Q (F0 m (pc) ls (.ref (ad 132) :: .ref (ad 133) :: rest)) := s_callSv (As := [.ref (ad 133), .ref (ad 132)]) (rest := rest) (K := K) hF (t_X1_copy_2_133_132 l D dA ad S H.size K h) (va_cwS 2 hF.2.2.2.2 (lw_S q201 q202 q107 q203) rfl rfl rfl (by decide +kernel) ⟨by have h1 := hR.1; have h2 : (rmD 2 0 0).frames = 2 + 1 := rfl; omega, by have h1 := hR.2; have h2 : (rmD 2 0 0).locals = 64 * 2 + 64 := rfl; omega⟩) hK hI rfl hls rfl hW hdg hf kk
theorem gXX1_29_131 {p : Program} {l : Launch} {e : Env} {R : Room} {s : State} {m : MethodId} {args : Array Value} {below : List Frame} {meth : Method} {c : Code} {H : Heap} {locs : List Loc} {Q : State → Prop} {cc : ByteArray} {nL pc : Nat} {ls : Array Slot} {rest : List Value} {cells slots : Nat} {D : va_G} {dA : Nat → ClassId} {ad : Nat → Nat} {A : Nat → Prop} {H0 : Heap} {S : St} (hF : CallFix p m c cc nL s args lw_all RX1) (hK : gK D dA s) (hI : sI D dA wX ad A H0 S H locs) (hdg : decode cc pc = .ok (.getfield 29, 3)) (kk : W p l e R s m args below meth c H locs cells slots Q (F0 m (pc + 3) ls (.ref (ad 135) :: rest))) : W p l e R s m args below meth c H locs cells slots Q (F0 m (pc) ls (.ref (ad 131) :: rest)) := s_getr hF.1 hF.2.1 hF.2.2.2.2 hF.2.2.2.1 hK hI 131 (by decide) wX_131 rfl in_X1 5 (by decide) q166 rfl 135 rfl hdg kk
theorem gXX1_29_130 {p : Program} {l : Launch} {e : Env} {R : Room} {s : State} {m : MethodId} {args : Array Value} {below : List Frame} {meth : Method} {c : Code} {H : Heap} {locs : List Loc} {Q : State → Prop} {cc : ByteArray} {nL pc : Nat} {ls : Array Slot} {rest : List Value} {cells slots : Nat} {D : va_G} {dA : Nat → ClassId} {ad : Nat → Nat} {A : Nat → Prop} {H0 : Heap} {S : St} (hF : CallFix p m c cc nL s args lw_all RX1) (hK : gK D dA s) (hI : sI D dA wX ad A H0 S H locs) (hdg : decode cc pc = .ok (.getfield 29, 3)) (kk : W p l e R s m args below meth c H locs cells slots Q (F0 m (pc + 3) ls (.ref (ad 134) :: rest))) : W p l e R s m args below meth c H locs cells slots Q (F0 m (pc) ls (.ref (ad 130) :: rest)) := s_getr hF.1 hF.2.1 hF.2.2.2.2 hF.2.2.2.1 hK hI 130 (by decide) wX_130 rfl in_X1 5 (by decide) q166 rfl 134 rfl hdg kk
theorem cXX1_48_135_134 {p : Program} {l : Launch} {e : Env} {R : Room} {s : State} {m : MethodId} {args : Array Value} {below : List Frame} {meth : Method} {c : Code} {H : Heap} {locs : List Loc} {Q : State → Prop} {cc : ByteArray} {nL pc : Nat} {ls : Array Slot} {rest : List Value} {cells slots : Nat} {D : va_G} {dA : Nat → ClassId} {ad : Nat → Nat} {A : Nat → Prop} {H0 : Heap} {S : St} {dk : Nat} (hF : CallFix p m c cc nL s args lw_all RX1) (hK : gK D dA s) (hI : sI D dA wX ad A H0 S H locs) (hls : ls.size = nL) (hR : R.frames = dk + 1 ∧ R.locals = 64 * dk + 64) (hd : 2 + 1 ≤ dk) (hW : (rest.map fun v => v.category).sum ≤ 8) (hf : cells ≤ R.cells ∧ slots ≤ R.slots) {K : St → Prop} (h : w_X1_copy_2_135_134 S K) (hdg : decode cc pc = .ok (.invokestatic 48, 3)) (kk : ∀ (S1 : St) (H1 : Heap) (locs1 : List Loc), K S1 → sI D dA wX ad A H0 S1 H1 locs1 → W p l e R s m args below meth c H1 locs1 cells slots Q (F0 m (pc + 3) ls (rest))) : W p l e R s m args below meth c H locs cells slots Q (F0 m (pc) ls (.ref (ad 134) :: .ref (ad 135) :: rest)) := s_callSv (As := [.ref (ad 135), .ref (ad 134)]) (rest := rest) (K := K) hF (t_X1_copy_2_135_134 l D dA ad S H.size K h) (va_cwS 2 hF.2.2.2.2 (lw_S q201 q202 q107 q203) rfl rfl rfl (by decide +kernel) ⟨by have h1 := hR.1; have h2 : (rmD 2 0 0).frames = 2 + 1 := rfl; omega, by have h1 := hR.2; have h2 : (rmD 2 0 0).locals = 64 * 2 + 64 := rfl; omega⟩) hK hI rfl hls rfl hW hdg hf kk
theorem gXX1_34_131 {p : Program} {l : Launch} {e : Env} {R : Room} {s : State} {m : MethodId} {args : Array Value} {below : List Frame} {meth : Method} {c : Code} {H : Heap} {locs : List Loc} {Q : State → Prop} {cc : ByteArray} {nL pc : Nat} {ls : Array Slot} {rest : List Value} {cells slots : Nat} {D : va_G} {dA : Nat → ClassId} {ad : Nat → Nat} {A : Nat → Prop} {H0 : Heap} {S : St} (hF : CallFix p m c cc nL s args lw_all RX1) (hK : gK D dA s) (hI : sI D dA wX ad A H0 S H locs) (hdg : decode cc pc = .ok (.getfield 34, 3)) (kk : W p l e R s m args below meth c H locs cells slots Q (F0 m (pc + 3) ls (.ref (ad 141) :: rest))) : W p l e R s m args below meth c H locs cells slots Q (F0 m (pc) ls (.ref (ad 131) :: rest)) := s_getr hF.1 hF.2.1 hF.2.2.2.2 hF.2.2.2.1 hK hI 131 (by decide) wX_131 rfl in_X1 6 (by decide) q168 rfl 141 rfl hdg kk
theorem gXX1_34_130 {p : Program} {l : Launch} {e : Env} {R : Room} {s : State} {m : MethodId} {args : Array Value} {below : List Frame} {meth : Method} {c : Code} {H : Heap} {locs : List Loc} {Q : State → Prop} {cc : ByteArray} {nL pc : Nat} {ls : Array Slot} {rest : List Value} {cells slots : Nat} {D : va_G} {dA : Nat → ClassId} {ad : Nat → Nat} {A : Nat → Prop} {H0 : Heap} {S : St} (hF : CallFix p m c cc nL s args lw_all RX1) (hK : gK D dA s) (hI : sI D dA wX ad A H0 S H locs) (hdg : decode cc pc = .ok (.getfield 34, 3)) (kk : W p l e R s m args below meth c H locs cells slots Q (F0 m (pc + 3) ls (.ref (ad 140) :: rest))) : W p l e R s m args below meth c H locs cells slots Q (F0 m (pc) ls (.ref (ad 130) :: rest)) := s_getr hF.1 hF.2.1 hF.2.2.2.2 hF.2.2.2.1 hK hI 130 (by decide) wX_130 rfl in_X1 6 (by decide) q168 rfl 140 rfl hdg kk
set_option maxHeartbeats 4000000 in
theorem t_X1_be_t130_131 (l : Launch) (D : va_G) (dA : Nat → ClassId) (ad : Nat → Nat) (S : St) (sz : Nat) (K : St → Prop) (h : w_X1_be_t130_131 S K) : Met l yX1_be (ws_ yX1_be cX1_be 2 (Option.none : Option Jvm.ClassFile.FieldType)) (rmD 3 0 0) (va_Pc [.ref (ad 130), .ref (ad 131)] (sPre D dA wX ad S sz)) (va_Qv (fun S' => K S') (sPost D dA wX ad (wA wX ad S sz)) (wA wX ad S sz)) 0 0 (wA wX ad S sz) := by
  refine Met.ofW (cc := cX1_be) (maxL := 2) (ret := (Option.none : Option Jvm.ClassFile.FieldType)) (by decide) rfl ?_
  intro p e s m args below meth c s₁ B hml hv
  obtain ⟨rfl, hsz, hK, hC⟩ := hv
  have hx := B.exec
  have hb := B.bytes
  have hr := B.returns
  have hlocks := B.notSynchronized
  have hts := atoms_spec (ws := (ws_ yX1_be cX1_be 2 (Option.none : Option Jvm.ClassFile.FieldType))) B.pre
  have hts : ∀ w ∈ lw_all, w.before _ s = true := fun w h => hts w (List.mem_cons_of_mem _ h)
  have hown : s.vm.findClass RX1 = some m.cls := findClass_of_methodNamed B.named
  clear B
  subst hsz
  have hI : sI D dA wX ad (wA wX ad S s.heap.size) s.heap S s.heap [] := hC.start
  clear hC
  generalize wA wX ad S s.heap.size = A at hI ⊢
  have hl := lv_entry ([.ref (ad 130), .ref (ad 131)] : List Value) (n := 2) (Nat.le_of_ble_eq_true rfl)
  rw [lg_entry_eq]
  generalize (lg_sl ([.ref (ad 130), .ref (ad 131)] : List Value) ++ List.replicate (2 - (lg_sl ([.ref (ad 130), .ref (ad 131)] : List Value)).length) Slot.unset).toArray = ls at hl ⊢
  have hl : lv_has ls 2 [(0, .ref (ad 130)), (1, .ref (ad 131))] := hl
  have hF : CallFix p m c cX1_be 2 s _ lw_all RX1 := ⟨hx, hb, hml, hown, hts⟩
  have hR : (headSpec (ws_ yX1_be cX1_be 2 (Option.none : Option Jvm.ClassFile.FieldType)) (rmD 3 0 0)).room.frames = 3 + 1 ∧ (headSpec (ws_ yX1_be cX1_be 2 (Option.none : Option Jvm.ClassFile.FieldType)) (rmD 3 0 0)).room.locals = 64 * 3 + 64 := ⟨rfl, rfl⟩
  generalize (headSpec (ws_ yX1_be cX1_be 2 (Option.none : Option Jvm.ClassFile.FieldType)) (rmD 3 0 0)).room = R at hR ⊢
  generalize ([.ref (ad 130), .ref (ad 131)] : List Value).toArray = args at hts hF ⊢
  generalize hQ : MQ below _ _ _ _ _ _ = Q
  unfold w_X1_be_t130_131 at h
  refine lv_aload_n hx hb dX1_be_0 rfl (lv_at hl 1 rfl) ?_
  refine gXX1_9_131 hF hK hI dX1_be_1 ?_
  refine lv_aload_n hx hb dX1_be_4 rfl (lv_at hl 0 rfl) ?_
  refine gXX1_9_130 hF hK hI dX1_be_5 ?_
  refine cXX1_44 hF hK hI hl.1 hR (by decide) (Nat.le_of_ble_eq_true rfl) ⟨Nat.zero_le _, Nat.zero_le _⟩ (k0 := 4) (n0 := 8) (hk0 := (by decide)) (hd0 := wX_4) (hn0 := (by decide)) (k1 := 0) (n1 := 8) (hk1 := (by decide)) (hd1 := wX_0) (hn1 := (by decide)) h dX1_be_8 (fun S2 H locs h hI => ?_)
  refine lv_aload_n hx hb dX1_be_11 rfl (lv_at hl 1 rfl) ?_
  refine gXX1_15_131 hF hK hI dX1_be_12 ?_
  refine lv_aload_n hx hb dX1_be_15 rfl (lv_at hl 0 rfl) ?_
  refine gXX1_15_130 hF hK hI dX1_be_16 ?_
  refine cXX1_44 hF hK hI hl.1 hR (by decide) (Nat.le_of_ble_eq_true rfl) ⟨Nat.zero_le _, Nat.zero_le _⟩ (k0 := 5) (n0 := 10) (hk0 := (by decide)) (hd0 := wX_5) (hn0 := (by decide)) (k1 := 1) (n1 := 10) (hk1 := (by decide)) (hd1 := wX_1) (hn1 := (by decide)) h dX1_be_19 (fun S4 H locs h hI => ?_)
  refine lv_aload_n hx hb dX1_be_22 rfl (lv_at hl 1 rfl) ?_
  refine gXX1_18_131 hF hK hI dX1_be_23 ?_
  refine lv_aload_n hx hb dX1_be_26 rfl (lv_at hl 0 rfl) ?_
  refine gXX1_18_130 hF hK hI dX1_be_27 ?_
  refine cXX1_44 hF hK hI hl.1 hR (by decide) (Nat.le_of_ble_eq_true rfl) ⟨Nat.zero_le _, Nat.zero_le _⟩ (k0 := 6) (n0 := 10) (hk0 := (by decide)) (hd0 := wX_6) (hn0 := (by decide)) (k1 := 2) (n1 := 10) (hk1 := (by decide)) (hd1 := wX_2) (hn1 := (by decide)) h dX1_be_30 (fun S6 H locs h hI => ?_)
  refine lv_aload_n hx hb dX1_be_33 rfl (lv_at hl 1 rfl) ?_
  refine gXX1_21_131 hF hK hI dX1_be_34 ?_
  refine lv_aload_n hx hb dX1_be_37 rfl (lv_at hl 0 rfl) ?_
  refine gXX1_21_130 hF hK hI dX1_be_38 ?_
  refine cXX1_44 hF hK hI hl.1 hR (by decide) (Nat.le_of_ble_eq_true rfl) ⟨Nat.zero_le _, Nat.zero_le _⟩ (k0 := 7) (n0 := 91) (hk0 := (by decide)) (hd0 := wX_7) (hn0 := (by decide)) (k1 := 3) (n1 := 91) (hk1 := (by decide)) (hd1 := wX_3) (hn1 := (by decide)) h dX1_be_41 (fun S8 H locs h hI => ?_)
  refine lv_aload_n hx hb dX1_be_44 rfl (lv_at hl 1 rfl) ?_
  refine gXX1_26_131 hF hK hI dX1_be_45 ?_
  refine lv_aload_n hx hb dX1_be_48 rfl (lv_at hl 0 rfl) ?_
  refine gXX1_26_130 hF hK hI dX1_be_49 ?_
  refine cXX1_48_133_132 hF hK hI hl.1 hR (by decide) (Nat.le_of_ble_eq_true rfl) ⟨Nat.zero_le _, Nat.zero_le _⟩ h dX1_be_52 (fun S10 H locs h hI => ?_)
  refine lv_aload_n hx hb dX1_be_55 rfl (lv_at hl 1 rfl) ?_
  refine gXX1_29_131 hF hK hI dX1_be_56 ?_
  refine lv_aload_n hx hb dX1_be_59 rfl (lv_at hl 0 rfl) ?_
  refine gXX1_29_130 hF hK hI dX1_be_60 ?_
  refine cXX1_48_135_134 hF hK hI hl.1 hR (by decide) (Nat.le_of_ble_eq_true rfl) ⟨Nat.zero_le _, Nat.zero_le _⟩ h dX1_be_63 (fun S12 H locs h hI => ?_)
  refine lv_aload_n hx hb dX1_be_66 rfl (lv_at hl 1 rfl) ?_
  refine gXX1_34_131 hF hK hI dX1_be_67 ?_
  refine nr_iconst hx hb dX1_be_70 ?_
  refine lv_aload_n hx hb dX1_be_71 rfl (lv_at hl 0 rfl) ?_
  refine gXX1_34_130 hF hK hI dX1_be_72 ?_
  refine nr_iconst hx hb dX1_be_75 ?_
  refine nr_iconst hx hb dX1_be_76 ?_
  have f14 := h.1; replace h := h.2
  refine s_rcpy hx hb (hl.1.trans hml.symm) hown hts q198 hK hI 141 140 (by decide) (by decide) (by decide) wX_141 wX_140 (by decide) f14 rfl (by have h1 := hR.1; have h2 := hR.2; omega) (Nat.le_of_ble_eq_true rfl) dX1_be_77 (fun S13 H locs eS13 hI => ?_)
  replace h := h S13 eS13
  rw [← hQ]; exact s_vret (K := K) hx hb hr hlocks hI  h dX1_be_80
theorem cXX1_48_132_133 {p : Program} {l : Launch} {e : Env} {R : Room} {s : State} {m : MethodId} {args : Array Value} {below : List Frame} {meth : Method} {c : Code} {H : Heap} {locs : List Loc} {Q : State → Prop} {cc : ByteArray} {nL pc : Nat} {ls : Array Slot} {rest : List Value} {cells slots : Nat} {D : va_G} {dA : Nat → ClassId} {ad : Nat → Nat} {A : Nat → Prop} {H0 : Heap} {S : St} {dk : Nat} (hF : CallFix p m c cc nL s args lw_all RX1) (hK : gK D dA s) (hI : sI D dA wX ad A H0 S H locs) (hls : ls.size = nL) (hR : R.frames = dk + 1 ∧ R.locals = 64 * dk + 64) (hd : 2 + 1 ≤ dk) (hW : (rest.map fun v => v.category).sum ≤ 8) (hf : cells ≤ R.cells ∧ slots ≤ R.slots) {K : St → Prop} (h : w_X1_copy_2_132_133 S K) (hdg : decode cc pc = .ok (.invokestatic 48, 3)) (kk : ∀ (S1 : St) (H1 : Heap) (locs1 : List Loc), K S1 → sI D dA wX ad A H0 S1 H1 locs1 → W p l e R s m args below meth c H1 locs1 cells slots Q (F0 m (pc + 3) ls (rest))) : W p l e R s m args below meth c H locs cells slots Q (F0 m (pc) ls (.ref (ad 133) :: .ref (ad 132) :: rest)) := s_callSv (As := [.ref (ad 132), .ref (ad 133)]) (rest := rest) (K := K) hF (t_X1_copy_2_132_133 l D dA ad S H.size K h) (va_cwS 2 hF.2.2.2.2 (lw_S q201 q202 q107 q203) rfl rfl rfl (by decide +kernel) ⟨by have h1 := hR.1; have h2 : (rmD 2 0 0).frames = 2 + 1 := rfl; omega, by have h1 := hR.2; have h2 : (rmD 2 0 0).locals = 64 * 2 + 64 := rfl; omega⟩) hK hI rfl hls rfl hW hdg hf kk
theorem cXX1_48_134_135 {p : Program} {l : Launch} {e : Env} {R : Room} {s : State} {m : MethodId} {args : Array Value} {below : List Frame} {meth : Method} {c : Code} {H : Heap} {locs : List Loc} {Q : State → Prop} {cc : ByteArray} {nL pc : Nat} {ls : Array Slot} {rest : List Value} {cells slots : Nat} {D : va_G} {dA : Nat → ClassId} {ad : Nat → Nat} {A : Nat → Prop} {H0 : Heap} {S : St} {dk : Nat} (hF : CallFix p m c cc nL s args lw_all RX1) (hK : gK D dA s) (hI : sI D dA wX ad A H0 S H locs) (hls : ls.size = nL) (hR : R.frames = dk + 1 ∧ R.locals = 64 * dk + 64) (hd : 2 + 1 ≤ dk) (hW : (rest.map fun v => v.category).sum ≤ 8) (hf : cells ≤ R.cells ∧ slots ≤ R.slots) {K : St → Prop} (h : w_X1_copy_2_134_135 S K) (hdg : decode cc pc = .ok (.invokestatic 48, 3)) (kk : ∀ (S1 : St) (H1 : Heap) (locs1 : List Loc), K S1 → sI D dA wX ad A H0 S1 H1 locs1 → W p l e R s m args below meth c H1 locs1 cells slots Q (F0 m (pc + 3) ls (rest))) : W p l e R s m args below meth c H locs cells slots Q (F0 m (pc) ls (.ref (ad 135) :: .ref (ad 134) :: rest)) := s_callSv (As := [.ref (ad 134), .ref (ad 135)]) (rest := rest) (K := K) hF (t_X1_copy_2_134_135 l D dA ad S H.size K h) (va_cwS 2 hF.2.2.2.2 (lw_S q201 q202 q107 q203) rfl rfl rfl (by decide +kernel) ⟨by have h1 := hR.1; have h2 : (rmD 2 0 0).frames = 2 + 1 := rfl; omega, by have h1 := hR.2; have h2 : (rmD 2 0 0).locals = 64 * 2 + 64 := rfl; omega⟩) hK hI rfl hls rfl hW hdg hf kk
set_option maxHeartbeats 4000000 in
theorem t_X1_be_t131_130 (l : Launch) (D : va_G) (dA : Nat → ClassId) (ad : Nat → Nat) (S : St) (sz : Nat) (K : St → Prop) (h : w_X1_be_t131_130 S K) : Met l yX1_be (ws_ yX1_be cX1_be 2 (Option.none : Option Jvm.ClassFile.FieldType)) (rmD 3 0 0) (va_Pc [.ref (ad 131), .ref (ad 130)] (sPre D dA wX ad S sz)) (va_Qv (fun S' => K S') (sPost D dA wX ad (wA wX ad S sz)) (wA wX ad S sz)) 0 0 (wA wX ad S sz) := by
  refine Met.ofW (cc := cX1_be) (maxL := 2) (ret := (Option.none : Option Jvm.ClassFile.FieldType)) (by decide) rfl ?_
  intro p e s m args below meth c s₁ B hml hv
  obtain ⟨rfl, hsz, hK, hC⟩ := hv
  have hx := B.exec
  have hb := B.bytes
  have hr := B.returns
  have hlocks := B.notSynchronized
  have hts := atoms_spec (ws := (ws_ yX1_be cX1_be 2 (Option.none : Option Jvm.ClassFile.FieldType))) B.pre
  have hts : ∀ w ∈ lw_all, w.before _ s = true := fun w h => hts w (List.mem_cons_of_mem _ h)
  have hown : s.vm.findClass RX1 = some m.cls := findClass_of_methodNamed B.named
  clear B
  subst hsz
  have hI : sI D dA wX ad (wA wX ad S s.heap.size) s.heap S s.heap [] := hC.start
  clear hC
  generalize wA wX ad S s.heap.size = A at hI ⊢
  have hl := lv_entry ([.ref (ad 131), .ref (ad 130)] : List Value) (n := 2) (Nat.le_of_ble_eq_true rfl)
  rw [lg_entry_eq]
  generalize (lg_sl ([.ref (ad 131), .ref (ad 130)] : List Value) ++ List.replicate (2 - (lg_sl ([.ref (ad 131), .ref (ad 130)] : List Value)).length) Slot.unset).toArray = ls at hl ⊢
  have hl : lv_has ls 2 [(0, .ref (ad 131)), (1, .ref (ad 130))] := hl
  have hF : CallFix p m c cX1_be 2 s _ lw_all RX1 := ⟨hx, hb, hml, hown, hts⟩
  have hR : (headSpec (ws_ yX1_be cX1_be 2 (Option.none : Option Jvm.ClassFile.FieldType)) (rmD 3 0 0)).room.frames = 3 + 1 ∧ (headSpec (ws_ yX1_be cX1_be 2 (Option.none : Option Jvm.ClassFile.FieldType)) (rmD 3 0 0)).room.locals = 64 * 3 + 64 := ⟨rfl, rfl⟩
  generalize (headSpec (ws_ yX1_be cX1_be 2 (Option.none : Option Jvm.ClassFile.FieldType)) (rmD 3 0 0)).room = R at hR ⊢
  generalize ([.ref (ad 131), .ref (ad 130)] : List Value).toArray = args at hts hF ⊢
  generalize hQ : MQ below _ _ _ _ _ _ = Q
  unfold w_X1_be_t131_130 at h
  refine lv_aload_n hx hb dX1_be_0 rfl (lv_at hl 1 rfl) ?_
  refine gXX1_9_130 hF hK hI dX1_be_1 ?_
  refine lv_aload_n hx hb dX1_be_4 rfl (lv_at hl 0 rfl) ?_
  refine gXX1_9_131 hF hK hI dX1_be_5 ?_
  refine cXX1_44 hF hK hI hl.1 hR (by decide) (Nat.le_of_ble_eq_true rfl) ⟨Nat.zero_le _, Nat.zero_le _⟩ (k0 := 0) (n0 := 8) (hk0 := (by decide)) (hd0 := wX_0) (hn0 := (by decide)) (k1 := 4) (n1 := 8) (hk1 := (by decide)) (hd1 := wX_4) (hn1 := (by decide)) h dX1_be_8 (fun S2 H locs h hI => ?_)
  refine lv_aload_n hx hb dX1_be_11 rfl (lv_at hl 1 rfl) ?_
  refine gXX1_15_130 hF hK hI dX1_be_12 ?_
  refine lv_aload_n hx hb dX1_be_15 rfl (lv_at hl 0 rfl) ?_
  refine gXX1_15_131 hF hK hI dX1_be_16 ?_
  refine cXX1_44 hF hK hI hl.1 hR (by decide) (Nat.le_of_ble_eq_true rfl) ⟨Nat.zero_le _, Nat.zero_le _⟩ (k0 := 1) (n0 := 10) (hk0 := (by decide)) (hd0 := wX_1) (hn0 := (by decide)) (k1 := 5) (n1 := 10) (hk1 := (by decide)) (hd1 := wX_5) (hn1 := (by decide)) h dX1_be_19 (fun S4 H locs h hI => ?_)
  refine lv_aload_n hx hb dX1_be_22 rfl (lv_at hl 1 rfl) ?_
  refine gXX1_18_130 hF hK hI dX1_be_23 ?_
  refine lv_aload_n hx hb dX1_be_26 rfl (lv_at hl 0 rfl) ?_
  refine gXX1_18_131 hF hK hI dX1_be_27 ?_
  refine cXX1_44 hF hK hI hl.1 hR (by decide) (Nat.le_of_ble_eq_true rfl) ⟨Nat.zero_le _, Nat.zero_le _⟩ (k0 := 2) (n0 := 10) (hk0 := (by decide)) (hd0 := wX_2) (hn0 := (by decide)) (k1 := 6) (n1 := 10) (hk1 := (by decide)) (hd1 := wX_6) (hn1 := (by decide)) h dX1_be_30 (fun S6 H locs h hI => ?_)
  refine lv_aload_n hx hb dX1_be_33 rfl (lv_at hl 1 rfl) ?_
  refine gXX1_21_130 hF hK hI dX1_be_34 ?_
  refine lv_aload_n hx hb dX1_be_37 rfl (lv_at hl 0 rfl) ?_
  refine gXX1_21_131 hF hK hI dX1_be_38 ?_
  refine cXX1_44 hF hK hI hl.1 hR (by decide) (Nat.le_of_ble_eq_true rfl) ⟨Nat.zero_le _, Nat.zero_le _⟩ (k0 := 3) (n0 := 91) (hk0 := (by decide)) (hd0 := wX_3) (hn0 := (by decide)) (k1 := 7) (n1 := 91) (hk1 := (by decide)) (hd1 := wX_7) (hn1 := (by decide)) h dX1_be_41 (fun S8 H locs h hI => ?_)
  refine lv_aload_n hx hb dX1_be_44 rfl (lv_at hl 1 rfl) ?_
  refine gXX1_26_130 hF hK hI dX1_be_45 ?_
  refine lv_aload_n hx hb dX1_be_48 rfl (lv_at hl 0 rfl) ?_
  refine gXX1_26_131 hF hK hI dX1_be_49 ?_
  refine cXX1_48_132_133 hF hK hI hl.1 hR (by decide) (Nat.le_of_ble_eq_true rfl) ⟨Nat.zero_le _, Nat.zero_le _⟩ h dX1_be_52 (fun S10 H locs h hI => ?_)
  refine lv_aload_n hx hb dX1_be_55 rfl (lv_at hl 1 rfl) ?_
  refine gXX1_29_130 hF hK hI dX1_be_56 ?_
  refine lv_aload_n hx hb dX1_be_59 rfl (lv_at hl 0 rfl) ?_
  refine gXX1_29_131 hF hK hI dX1_be_60 ?_
  refine cXX1_48_134_135 hF hK hI hl.1 hR (by decide) (Nat.le_of_ble_eq_true rfl) ⟨Nat.zero_le _, Nat.zero_le _⟩ h dX1_be_63 (fun S12 H locs h hI => ?_)
  refine lv_aload_n hx hb dX1_be_66 rfl (lv_at hl 1 rfl) ?_
  refine gXX1_34_130 hF hK hI dX1_be_67 ?_
  refine nr_iconst hx hb dX1_be_70 ?_
  refine lv_aload_n hx hb dX1_be_71 rfl (lv_at hl 0 rfl) ?_
  refine gXX1_34_131 hF hK hI dX1_be_72 ?_
  refine nr_iconst hx hb dX1_be_75 ?_
  refine nr_iconst hx hb dX1_be_76 ?_
  have f14 := h.1; replace h := h.2
  refine s_rcpy hx hb (hl.1.trans hml.symm) hown hts q198 hK hI 140 141 (by decide) (by decide) (by decide) wX_140 wX_141 (by decide) f14 rfl (by have h1 := hR.1; have h2 := hR.2; omega) (Nat.le_of_ble_eq_true rfl) dX1_be_77 (fun S13 H locs eS13 hI => ?_)
  replace h := h S13 eS13
  rw [← hQ]; exact s_vret (K := K) hx hb hr hlocks hI  h dX1_be_80
theorem gXX0_16_129 {p : Program} {l : Launch} {e : Env} {R : Room} {s : State} {m : MethodId} {args : Array Value} {below : List Frame} {meth : Method} {c : Code} {H : Heap} {locs : List Loc} {Q : State → Prop} {cc : ByteArray} {nL pc : Nat} {ls : Array Slot} {rest : List Value} {cells slots : Nat} {D : va_G} {dA : Nat → ClassId} {ad : Nat → Nat} {A : Nat → Prop} {H0 : Heap} {S : St} (hF : CallFix p m c cc nL s args lw_all RX0) (hK : gK D dA s) (hI : sI D dA wX ad A H0 S H locs) (hdg : decode cc pc = .ok (.getfield 16, 3)) (kk : W p l e R s m args below meth c H locs cells slots Q (F0 m (pc + 3) ls (.ref (ad 131) :: rest))) : W p l e R s m args below meth c H locs cells slots Q (F0 m (pc) ls (.ref (ad 129) :: rest)) := s_getr hF.1 hF.2.1 hF.2.2.2.2 hF.2.2.2.1 hK hI 129 (by decide) wX_129 rfl in_X0 1 (by decide) q205 rfl 131 rfl hdg kk
theorem cXX0_67_t131_130 {p : Program} {l : Launch} {e : Env} {R : Room} {s : State} {m : MethodId} {args : Array Value} {below : List Frame} {meth : Method} {c : Code} {H : Heap} {locs : List Loc} {Q : State → Prop} {cc : ByteArray} {nL pc : Nat} {ls : Array Slot} {rest : List Value} {cells slots : Nat} {D : va_G} {dA : Nat → ClassId} {ad : Nat → Nat} {A : Nat → Prop} {H0 : Heap} {S : St} {dk : Nat} (hF : CallFix p m c cc nL s args lw_all RX0) (hK : gK D dA s) (hI : sI D dA wX ad A H0 S H locs) (hls : ls.size = nL) (hR : R.frames = dk + 1 ∧ R.locals = 64 * dk + 64) (hd : 3 + 1 ≤ dk) (hW : (rest.map fun v => v.category).sum ≤ 8) (hf : cells ≤ R.cells ∧ slots ≤ R.slots) {K : St → Prop} (h : w_X1_be_t131_130 S K) (hdg : decode cc pc = .ok (.invokevirtual 67, 3)) (kk : ∀ (S1 : St) (H1 : Heap) (locs1 : List Loc), K S1 → sI D dA wX ad A H0 S1 H1 locs1 → W p l e R s m args below meth c H1 locs1 cells slots Q (F0 m (pc + 3) ls (rest))) : W p l e R s m args below meth c H locs cells slots Q (F0 m (pc) ls (.ref (ad 130) :: .ref (ad 131) :: rest)) := s_callVv (As := [.ref (ad 130)]) (rest := rest) (K := K) hF (t_X1_be_t131_130 l D dA ad S H.size K h) (s_recv hK hI 131 (by decide) wX_131 rfl) (cwV 1 hF.2.2.2.2 (lw_V q191 q192 q193 q107 q194) rfl rfl rfl (by decide +kernel) ⟨by have h1 := hR.1; have h2 : (rmD 3 0 0).frames = 3 + 1 := rfl; omega, by have h1 := hR.2; have h2 : (rmD 3 0 0).locals = 64 * 3 + 64 := rfl; omega⟩) hK hI rfl hls rfl hW hdg hf kk
set_option maxHeartbeats 4000000 in
theorem t_X_image (l : Launch) (D : va_G) (dA : Nat → ClassId) (ad : Nat → Nat) (S : St) (sz : Nat) (K : Int → St → Prop) (h : w_X_image S K) : Met l yX0_image (ws_ yX0_image cX0_image 1 (Option.some Jvm.ClassFile.FieldType.int)) (rmD 4 0 0) (va_Pc [.ref (ad 129)] (sPre D dA wX ad S sz)) (va_Qi (fun r S' => K r.toInt S') (sPost D dA wX ad (wA wX ad S sz)) (wA wX ad S sz)) 0 0 (wA wX ad S sz) := by
  refine Met.ofW (cc := cX0_image) (maxL := 1) (ret := (Option.some Jvm.ClassFile.FieldType.int)) (by decide) rfl ?_
  intro p e s m args below meth c s₁ B hml hv
  obtain ⟨rfl, hsz, hK, hC⟩ := hv
  have hx := B.exec
  have hb := B.bytes
  have hr := B.returns
  have hlocks := B.notSynchronized
  have hts := atoms_spec (ws := (ws_ yX0_image cX0_image 1 (Option.some Jvm.ClassFile.FieldType.int))) B.pre
  have hts : ∀ w ∈ lw_all, w.before _ s = true := fun w h => hts w (List.mem_cons_of_mem _ h)
  have hown : s.vm.findClass RX0 = some m.cls := findClass_of_methodNamed B.named
  clear B
  subst hsz
  have hI : sI D dA wX ad (wA wX ad S s.heap.size) s.heap S s.heap [] := hC.start
  clear hC
  generalize wA wX ad S s.heap.size = A at hI ⊢
  have hl := lv_entry ([.ref (ad 129)] : List Value) (n := 1) (Nat.le_of_ble_eq_true rfl)
  rw [lg_entry_eq]
  generalize (lg_sl ([.ref (ad 129)] : List Value) ++ List.replicate (1 - (lg_sl ([.ref (ad 129)] : List Value)).length) Slot.unset).toArray = ls at hl ⊢
  have hl : lv_has ls 1 [(0, .ref (ad 129))] := hl
  have hF : CallFix p m c cX0_image 1 s _ lw_all RX0 := ⟨hx, hb, hml, hown, hts⟩
  have hR : (headSpec (ws_ yX0_image cX0_image 1 (Option.some Jvm.ClassFile.FieldType.int)) (rmD 4 0 0)).room.frames = 4 + 1 ∧ (headSpec (ws_ yX0_image cX0_image 1 (Option.some Jvm.ClassFile.FieldType.int)) (rmD 4 0 0)).room.locals = 64 * 4 + 64 := ⟨rfl, rfl⟩
  generalize (headSpec (ws_ yX0_image cX0_image 1 (Option.some Jvm.ClassFile.FieldType.int)) (rmD 4 0 0)).room = R at hR ⊢
  generalize ([.ref (ad 129)] : List Value).toArray = args at hts hF ⊢
  generalize hQ : MQ below _ _ _ _ _ _ = Q
  unfold w_X_image at h
  refine lv_aload_n hx hb dX0_image_0 rfl (lv_at hl 0 rfl) ?_
  refine gXX0_16_129 hF hK hI dX0_image_1 ?_
  refine lv_aload_n hx hb dX0_image_4 rfl (lv_at hl 0 rfl) ?_
  refine gXX0_12_129 hF hK hI dX0_image_5 ?_
  refine cXX0_67_t131_130 hF hK hI hl.1 hR (by decide) (Nat.le_of_ble_eq_true rfl) ⟨Nat.zero_le _, Nat.zero_le _⟩ h dX0_image_8 (fun S2 H locs h hI => ?_)
  refine lv_aload_n hx hb dX0_image_11 rfl (lv_at hl 0 rfl) ?_
  refine cXX0_156 hF hK hI hl.1 hR (by decide) (Nat.le_of_ble_eq_true rfl) ⟨Nat.zero_le _, Nat.zero_le _⟩ h dX0_image_12 (fun r3 H locs fr3 h hI => ?_)
  replace h := h fr3
  rw [← hQ]; exact s_iret (K := K) hx hb hr hlocks hI fr3 h dX0_image_15
theorem cXX0_67_t130_131 {p : Program} {l : Launch} {e : Env} {R : Room} {s : State} {m : MethodId} {args : Array Value} {below : List Frame} {meth : Method} {c : Code} {H : Heap} {locs : List Loc} {Q : State → Prop} {cc : ByteArray} {nL pc : Nat} {ls : Array Slot} {rest : List Value} {cells slots : Nat} {D : va_G} {dA : Nat → ClassId} {ad : Nat → Nat} {A : Nat → Prop} {H0 : Heap} {S : St} {dk : Nat} (hF : CallFix p m c cc nL s args lw_all RX0) (hK : gK D dA s) (hI : sI D dA wX ad A H0 S H locs) (hls : ls.size = nL) (hR : R.frames = dk + 1 ∧ R.locals = 64 * dk + 64) (hd : 3 + 1 ≤ dk) (hW : (rest.map fun v => v.category).sum ≤ 8) (hf : cells ≤ R.cells ∧ slots ≤ R.slots) {K : St → Prop} (h : w_X1_be_t130_131 S K) (hdg : decode cc pc = .ok (.invokevirtual 67, 3)) (kk : ∀ (S1 : St) (H1 : Heap) (locs1 : List Loc), K S1 → sI D dA wX ad A H0 S1 H1 locs1 → W p l e R s m args below meth c H1 locs1 cells slots Q (F0 m (pc + 3) ls (rest))) : W p l e R s m args below meth c H locs cells slots Q (F0 m (pc) ls (.ref (ad 131) :: .ref (ad 130) :: rest)) := s_callVv (As := [.ref (ad 131)]) (rest := rest) (K := K) hF (t_X1_be_t130_131 l D dA ad S H.size K h) (s_recv hK hI 130 (by decide) wX_130 rfl) (cwV 1 hF.2.2.2.2 (lw_V q191 q192 q193 q107 q194) rfl rfl rfl (by decide +kernel) ⟨by have h1 := hR.1; have h2 : (rmD 3 0 0).frames = 3 + 1 := rfl; omega, by have h1 := hR.2; have h2 : (rmD 3 0 0).locals = 64 * 3 + 64 := rfl; omega⟩) hK hI rfl hls rfl hW hdg hf kk
set_option maxHeartbeats 4000000 in
theorem t_X_back (l : Launch) (D : va_G) (dA : Nat → ClassId) (ad : Nat → Nat) (S : St) (sz : Nat) (K : Int → St → Prop) (h : w_X_back S K) : Met l yX0_back (ws_ yX0_back cX0_back 1 (Option.some Jvm.ClassFile.FieldType.int)) (rmD 4 0 0) (va_Pc [.ref (ad 129)] (sPre D dA wX ad S sz)) (va_Qi (fun r S' => K r.toInt S') (sPost D dA wX ad (wA wX ad S sz)) (wA wX ad S sz)) 0 0 (wA wX ad S sz) := by
  refine Met.ofW (cc := cX0_back) (maxL := 1) (ret := (Option.some Jvm.ClassFile.FieldType.int)) (by decide) rfl ?_
  intro p e s m args below meth c s₁ B hml hv
  obtain ⟨rfl, hsz, hK, hC⟩ := hv
  have hx := B.exec
  have hb := B.bytes
  have hr := B.returns
  have hlocks := B.notSynchronized
  have hts := atoms_spec (ws := (ws_ yX0_back cX0_back 1 (Option.some Jvm.ClassFile.FieldType.int))) B.pre
  have hts : ∀ w ∈ lw_all, w.before _ s = true := fun w h => hts w (List.mem_cons_of_mem _ h)
  have hown : s.vm.findClass RX0 = some m.cls := findClass_of_methodNamed B.named
  clear B
  subst hsz
  have hI : sI D dA wX ad (wA wX ad S s.heap.size) s.heap S s.heap [] := hC.start
  clear hC
  generalize wA wX ad S s.heap.size = A at hI ⊢
  have hl := lv_entry ([.ref (ad 129)] : List Value) (n := 1) (Nat.le_of_ble_eq_true rfl)
  rw [lg_entry_eq]
  generalize (lg_sl ([.ref (ad 129)] : List Value) ++ List.replicate (1 - (lg_sl ([.ref (ad 129)] : List Value)).length) Slot.unset).toArray = ls at hl ⊢
  have hl : lv_has ls 1 [(0, .ref (ad 129))] := hl
  have hF : CallFix p m c cX0_back 1 s _ lw_all RX0 := ⟨hx, hb, hml, hown, hts⟩
  have hR : (headSpec (ws_ yX0_back cX0_back 1 (Option.some Jvm.ClassFile.FieldType.int)) (rmD 4 0 0)).room.frames = 4 + 1 ∧ (headSpec (ws_ yX0_back cX0_back 1 (Option.some Jvm.ClassFile.FieldType.int)) (rmD 4 0 0)).room.locals = 64 * 4 + 64 := ⟨rfl, rfl⟩
  generalize (headSpec (ws_ yX0_back cX0_back 1 (Option.some Jvm.ClassFile.FieldType.int)) (rmD 4 0 0)).room = R at hR ⊢
  generalize ([.ref (ad 129)] : List Value).toArray = args at hts hF ⊢
  generalize hQ : MQ below _ _ _ _ _ _ = Q
  unfold w_X_back at h
  refine lv_aload_n hx hb dX0_back_0 rfl (lv_at hl 0 rfl) ?_
  refine gXX0_12_129 hF hK hI dX0_back_1 ?_
  refine lv_aload_n hx hb dX0_back_4 rfl (lv_at hl 0 rfl) ?_
  refine gXX0_16_129 hF hK hI dX0_back_5 ?_
  refine cXX0_67_t130_131 hF hK hI hl.1 hR (by decide) (Nat.le_of_ble_eq_true rfl) ⟨Nat.zero_le _, Nat.zero_le _⟩ h dX0_back_8 (fun S2 H locs h hI => ?_)
  refine lv_aload_n hx hb dX0_back_11 rfl (lv_at hl 0 rfl) ?_
  refine cXX0_156 hF hK hI hl.1 hR (by decide) (Nat.le_of_ble_eq_true rfl) ⟨Nat.zero_le _, Nat.zero_le _⟩ h dX0_back_12 (fun r3 H locs fr3 h hI => ?_)
  replace h := h fr3
  rw [← hQ]; exact s_iret (K := K) hx hb hr hlocks hI fr3 h dX0_back_15
