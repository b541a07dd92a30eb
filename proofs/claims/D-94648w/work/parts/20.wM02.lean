set_option maxRecDepth 100000
set_option maxHeartbeats 4000000 in
theorem t_M_bits (l : Launch) (x0 : Int) (K : Int → Prop) (rx0 : InR x0) (h : w_M_bits x0 K) : Met l yX2_bits (ws_ yX2_bits cX2_bits 3 (Option.some Jvm.ClassFile.FieldType.int)) (rmD 0 0 0) (va_Pc [iV x0] (fun _ => True)) (va_Qi (fun r (_ : Unit) => K r.toInt) (fun _ _ => True) (fun _ => False)) 0 0 (fun _ => False) := by
  refine Met.ofW (cc := cX2_bits) (maxL := 3) (ret := (Option.some Jvm.ClassFile.FieldType.int)) (by decide) rfl ?_
  intro p e s m args below meth c s₁ B hml hv
  obtain ⟨rfl, -⟩ := hv
  have hx := B.exec
  have hb := B.bytes
  have hr := B.returns
  have hlocks := B.notSynchronized
  have hts := atoms_spec (ws := (ws_ yX2_bits cX2_bits 3 (Option.some Jvm.ClassFile.FieldType.int))) B.pre
  have hts : ∀ w ∈ lw_all, w.before _ s = true := fun w h => hts w (List.mem_cons_of_mem _ h)
  have hown : s.vm.findClass RX2 = some m.cls := findClass_of_methodNamed B.named
  clear B
  have hI : va_S (fun _ => False) s.heap s.heap [] := va_S.rf
  have hl := lv_entry ([iV x0] : List Value) (n := 3) (Nat.le_of_ble_eq_true rfl)
  rw [lg_entry_eq]
  generalize (lg_sl ([iV x0] : List Value) ++ List.replicate (3 - (lg_sl ([iV x0] : List Value)).length) Slot.unset).toArray = ls at hl ⊢
  have hl : lv_has ls 3 [(0, iV x0)] := hl
  have hF : CallFix p m c cX2_bits 3 s _ lw_all RX2 := ⟨hx, hb, hml, hown, hts⟩
  have hR : (headSpec (ws_ yX2_bits cX2_bits 3 (Option.some Jvm.ClassFile.FieldType.int)) (rmD 0 0 0)).room.frames = 0 + 1 ∧ (headSpec (ws_ yX2_bits cX2_bits 3 (Option.some Jvm.ClassFile.FieldType.int)) (rmD 0 0 0)).room.locals = 64 * 0 + 64 := ⟨rfl, rfl⟩
  generalize (headSpec (ws_ yX2_bits cX2_bits 3 (Option.some Jvm.ClassFile.FieldType.int)) (rmD 0 0 0)).room = R at hR ⊢
  generalize ([iV x0] : List Value).toArray = args at hts hF ⊢
  generalize hQ : MQ below _ _ _ _ _ _ = Q
  have L4 : ∀ (x0 : Int), InR x0 → ∀ (n4 : Nat) (x1 : Int) (x2 : Int) (H : Heap) (locs : List Loc) (ls : Array Slot), InR x1 → InR x2 → va_S (fun _ => False) s.heap H locs → lv_has ls 3 [(0, iV x0), (1, iV x1), (2, iV x2)] → l_M_bits_4 x0 K n4 x1 x2 → W p l e R s m args below meth c H locs 0 0 Q (F0 m 4 ls []) := by
    intro x0 rx0 n4
    induction n4 with
    | zero => intro x1 x2 H locs ls rx1 rx2 hI hl h; exact False.elim h
    | succ n4 ih4 =>
      intro x1 x2 H locs ls rx1 rx2 hI hl h
      unfold l_M_bits_4 at h
      refine lv_iload_n hx hb dX2_bits_4 rfl (lv_at hl 2 rfl) ?_
      refine nr_bipush hx hb dX2_bits_5 (by decide) ?_
      refine nr_icmp_ge hx hb rx2 (by decide) dX2_bits_7 (tgt := 24) (by decide) (fun c1 => ?_) (fun c1 => ?_)
      · replace h := h.1 c1
        refine lv_iload_n hx hb dX2_bits_24 rfl (lv_at hl 1 rfl) ?_
        rw [← hQ]; exact p_iret (K := K) hx hb hr hlocks hI rx1 h dX2_bits_25
      · replace h := h.2 c1
        refine lv_iload_n hx hb dX2_bits_10 rfl (lv_at hl 1 rfl) ?_
        refine lv_iload_n hx hb dX2_bits_11 rfl (lv_at hl 0 rfl) ?_
        refine lv_iload_n hx hb dX2_bits_12 rfl (lv_at hl 2 rfl) ?_
        have f2 := h.1; replace h := h.2
        refine nr_ishr hx hb f2 rx0 dX2_bits_13 ?_
        have f3 : InR (x0 / 2 ^ (Int.toNat x2)) := ni_shrR rx0
        refine nr_iconst hx hb dX2_bits_14 ?_
        refine nr_mask hx hb 1 (by decide) (by decide) dX2_bits_15 ?_
        have f4 : InR ((x0 / 2 ^ (Int.toNat x2)) % 2) := by omega
        have f5 := h.1; replace h := h.2
        refine nr_iadd hx hb dX2_bits_16 ?_
        refine nr_topi (fun v6 ev6 => ?_)
        have rv6 : InR v6 := by rw [ev6]; exact f5
        replace h := h v6 ev6 rv6
        refine lv_istore_n (lv' := [(1, iV v6), (0, iV x0), (2, iV x2)]) hx hb dX2_bits_17 rfl hl (by decide) rfl (fun ls hl => ?_)
        have f7 := h.1; replace h := h.2
        refine nr_iinc (lv' := [(2, iV (x2 + 1)), (1, iV v6), (0, iV x0)]) hx hb dX2_bits_18 hl (k := 2) rfl (by decide) rfl (fun ls hl => ?_)
        refine lv_goto (tgt := 4) hx hb dX2_bits_21 (by decide) ?_
        exact ih4 v6 (x2 + 1) _ _ _ rv6 f7 hI (lv_sub hl [2, 1, 0] rfl) h
  unfold w_M_bits at h
  refine nr_iconst hx hb dX2_bits_0 ?_
  refine lv_istore_n (lv' := [(1, iV 0), (0, iV x0)]) hx hb dX2_bits_1 rfl hl (by decide) rfl (fun ls hl => ?_)
  refine nr_iconst hx hb dX2_bits_2 ?_
  refine lv_istore_n (lv' := [(2, iV 0), (1, iV 0), (0, iV x0)]) hx hb dX2_bits_3 rfl hl (by decide) rfl (fun ls hl => ?_)
  obtain ⟨n0, h⟩ := h
  exact L4 x0 rx0 n0 0 0 _ _ _ (by decide) (by decide) hI (lv_sub hl [2, 1, 0] rfl) h
theorem gMX2_32_17 {p : Program} {l : Launch} {e : Env} {R : Room} {s : State} {m : MethodId} {args : Array Value} {below : List Frame} {meth : Method} {c : Code} {H : Heap} {locs : List Loc} {Q : State → Prop} {cc : ByteArray} {nL pc : Nat} {ls : Array Slot} {rest : List Value} {cells slots : Nat} {D : va_G} {dA : Nat → ClassId} {ad : Nat → Nat} {A : Nat → Prop} {H0 : Heap} {S : St} (hF : CallFix p m c cc nL s args lw_all RX2) (hK : gK D dA s) (hI : sI D dA wM ad A H0 S H locs) (hdg : decode cc pc = .ok (.getfield 32, 3)) (kk : W p l e R s m args below meth c H locs cells slots Q (F0 m (pc + 3) ls (.ref (ad 5) :: rest))) : W p l e R s m args below meth c H locs cells slots Q (F0 m (pc) ls (.ref (ad 17) :: rest)) := s_getr hF.1 hF.2.1 hF.2.2.2.2 hF.2.2.2.1 hK hI 17 (by decide) wM_17 rfl in_X2 22 (by decide) q1183 rfl 5 rfl hdg kk
theorem cMX2_303 {p : Program} {l : Launch} {e : Env} {R : Room} {s : State} {m : MethodId} {args : Array Value} {below : List Frame} {meth : Method} {c : Code} {H : Heap} {locs : List Loc} {Q : State → Prop} {cc : ByteArray} {nL pc : Nat} {ls : Array Slot} {rest : List Value} {cells slots : Nat} {D : va_G} {dA : Nat → ClassId} {ad : Nat → Nat} {A : Nat → Prop} {H0 : Heap} {S : St} {dk : Nat} (hF : CallFix p m c cc nL s args lw_all RX2) (hK : gK D dA s) (hI : sI D dA wM ad A H0 S H locs) (hls : ls.size = nL) (hR : R.frames = dk + 1 ∧ R.locals = 64 * dk + 64) (hd : 0 + 1 ≤ dk) (hW : (rest.map fun v => v.category).sum ≤ 8) (hf : cells ≤ R.cells ∧ slots ≤ R.slots) {x0 : Int} {K : Int → Prop} (r0 : InR x0) (h : w_M_bits x0 K) (hdg : decode cc pc = .ok (.invokestatic 303, 3)) (kk : ∀ (r : Int) (H1 : Heap) (locs1 : List Loc), InR r → K r → sI D dA wM ad A H0 S H1 locs1 → W p l e R s m args below meth c H1 locs1 cells slots Q (F0 m (pc + 3) ls (iV r :: rest))) : W p l e R s m args below meth c H locs cells slots Q (F0 m (pc) ls (iV x0 :: rest)) := s_callPi (As := [iV x0]) (rest := rest) hF (t_M_bits l x0 K r0 h) (va_cwS 1 hF.2.2.2.2 (lw_S q1340 q1341 q109 q1342) rfl rfl rfl (by decide +kernel) ⟨by have h1 := hR.1; have h2 : (rmD 0 0 0).frames = 0 + 1 := rfl; omega, by have h1 := hR.2; have h2 : (rmD 0 0 0).locals = 64 * 0 + 64 := rfl; omega⟩) hI rfl hls rfl hW hdg hf kk
set_option maxHeartbeats 4000000 in
theorem t_M_name (l : Launch) (D : va_G) (dA : Nat → ClassId) (ad : Nat → Nat) (S : St) (sz : Nat) (x1 : Int) (x2 : Int) (K : St → Prop) (rx1 : InR x1) (rx2 : InR x2) (h : w_M_name x1 x2 S K) : Met l yX2_name (ws_ yX2_name cX2_name 5 (Option.none : Option Jvm.ClassFile.FieldType)) (rmD 1 0 0) (va_Pc [.ref (ad 17), iV x1, iV x2] (sPre D dA wM ad S sz)) (va_Qv (fun S' => K S') (sPost D dA wM ad (wA wM ad S sz)) (wA wM ad S sz)) 0 0 (wA wM ad S sz) := by
  refine Met.ofW (cc := cX2_name) (maxL := 5) (ret := (Option.none : Option Jvm.ClassFile.FieldType)) (by decide) rfl ?_
  intro p e s m args below meth c s₁ B hml hv
  obtain ⟨rfl, hsz, hK, hC⟩ := hv
  have hx := B.exec
  have hb := B.bytes
  have hr := B.returns
  have hlocks := B.notSynchronized
  have hts := atoms_spec (ws := (ws_ yX2_name cX2_name 5 (Option.none : Option Jvm.ClassFile.FieldType))) B.pre
  have hts : ∀ w ∈ lw_all, w.before _ s = true := fun w h => hts w (List.mem_cons_of_mem _ h)
  have hown : s.vm.findClass RX2 = some m.cls := findClass_of_methodNamed B.named
  clear B
  subst hsz
  have hI : sI D dA wM ad (wA wM ad S s.heap.size) s.heap S s.heap [] := hC.start
  clear hC
  generalize wA wM ad S s.heap.size = A at hI ⊢
  have hl := lv_entry ([.ref (ad 17), iV x1, iV x2] : List Value) (n := 5) (Nat.le_of_ble_eq_true rfl)
  rw [lg_entry_eq]
  generalize (lg_sl ([.ref (ad 17), iV x1, iV x2] : List Value) ++ List.replicate (5 - (lg_sl ([.ref (ad 17), iV x1, iV x2] : List Value)).length) Slot.unset).toArray = ls at hl ⊢
  have hl : lv_has ls 5 [(0, .ref (ad 17)), (1, iV x1), (2, iV x2)] := hl
  have hF : CallFix p m c cX2_name 5 s _ lw_all RX2 := ⟨hx, hb, hml, hown, hts⟩
  have hR : (headSpec (ws_ yX2_name cX2_name 5 (Option.none : Option Jvm.ClassFile.FieldType)) (rmD 1 0 0)).room.frames = 1 + 1 ∧ (headSpec (ws_ yX2_name cX2_name 5 (Option.none : Option Jvm.ClassFile.FieldType)) (rmD 1 0 0)).room.locals = 64 * 1 + 64 := ⟨rfl, rfl⟩
  generalize (headSpec (ws_ yX2_name cX2_name 5 (Option.none : Option Jvm.ClassFile.FieldType)) (rmD 1 0 0)).room = R at hR ⊢
  generalize ([.ref (ad 17), iV x1, iV x2] : List Value).toArray = args at hts hF ⊢
  generalize hQ : MQ below _ _ _ _ _ _ = Q
  unfold w_M_name at h
  refine lv_iload_n hx hb dX2_name_0 rfl (lv_at hl 1 rfl) ?_
  refine cMX2_87 hF hK hI hl.1 hR (by decide) (Nat.le_of_ble_eq_true rfl) ⟨Nat.zero_le _, Nat.zero_le _⟩ rx1 h dX2_name_1 (fun r1 H locs fr1 h hI => ?_)
  replace h := h fr1
  refine lv_istore_n (lv' := [(3, iV r1), (0, .ref (ad 17)), (1, iV x1), (2, iV x2)]) hx hb dX2_name_4 rfl hl (by decide) rfl (fun ls hl => ?_)
  refine lv_iload_n hx hb dX2_name_5 rfl (lv_at hl 3 rfl) ?_
  refine cMX2_87 hF hK hI hl.1 hR (by decide) (Nat.le_of_ble_eq_true rfl) ⟨Nat.zero_le _, Nat.zero_le _⟩ rx2 h dX2_name_6 (fun r3 H locs fr3 h hI => ?_)
  replace h := h fr3
  refine lv_istore (lv' := [(4, iV r3), (3, iV r1), (0, .ref (ad 17)), (1, iV x1), (2, iV x2)]) hx hb dX2_name_9 hl (by decide) rfl (fun ls hl => ?_)
  refine lv_aload_n hx hb dX2_name_11 rfl (lv_at hl 2 rfl) ?_
  refine gMX2_32_17 hF hK hI dX2_name_12 ?_
  refine nr_iconst hx hb dX2_name_15 ?_
  refine lv_aload_n hx hb dX2_name_16 rfl (lv_at hl 2 rfl) ?_
  refine gMX2_7_17 hF hK hI dX2_name_17 ?_
  refine lv_iload_n hx hb dX2_name_20 rfl (lv_at hl 1 rfl) ?_
  have f5 := h.1; replace h := h.2
  refine s_iald hx hb hK hI 0 (by decide) wM_0 fr1 f5 dX2_name_21 (fun f6 => ?_)
  replace h := h f6
  refine s_iast hx hb hK hI 5 (by decide) wM_5 (by decide) (by decide) f6 dX2_name_22 (fun S7 H locs eS7 hI => ?_)
  replace h := h S7 eS7
  refine lv_aload_n hx hb dX2_name_23 rfl (lv_at hl 2 rfl) ?_
  refine gMX2_32_17 hF hK hI dX2_name_24 ?_
  refine nr_iconst hx hb dX2_name_27 ?_
  refine lv_aload_n hx hb dX2_name_28 rfl (lv_at hl 2 rfl) ?_
  refine gMX2_7_17 hF hK hI dX2_name_29 ?_
  refine lv_iload_n hx hb dX2_name_32 rfl (lv_at hl 1 rfl) ?_
  refine nr_iconst hx hb dX2_name_33 ?_
  have f8 := h.1; replace h := h.2
  refine nr_iadd hx hb dX2_name_34 ?_
  have f9 := h.1; replace h := h.2
  refine s_iald hx hb hK hI 0 (by decide) wM_0 f8 f9 dX2_name_35 (fun f10 => ?_)
  replace h := h f10
  refine s_iast hx hb hK hI 5 (by decide) wM_5 (by decide) (by decide) f10 dX2_name_36 (fun S11 H locs eS11 hI => ?_)
  replace h := h S11 eS11
  refine lv_aload_n hx hb dX2_name_37 rfl (lv_at hl 2 rfl) ?_
  refine gMX2_32_17 hF hK hI dX2_name_38 ?_
  refine nr_iconst hx hb dX2_name_41 ?_
  refine lv_aload_n hx hb dX2_name_42 rfl (lv_at hl 2 rfl) ?_
  refine gMX2_7_17 hF hK hI dX2_name_43 ?_
  refine lv_iload_n hx hb dX2_name_46 rfl (lv_at hl 1 rfl) ?_
  refine nr_iconst hx hb dX2_name_47 ?_
  have f12 := h.1; replace h := h.2
  refine nr_iadd hx hb dX2_name_48 ?_
  have f13 := h.1; replace h := h.2
  refine s_iald hx hb hK hI 0 (by decide) wM_0 f12 f13 dX2_name_49 (fun f14 => ?_)
  replace h := h f14
  refine s_iast hx hb hK hI 5 (by decide) wM_5 (by decide) (by decide) f14 dX2_name_50 (fun S15 H locs eS15 hI => ?_)
  replace h := h S15 eS15
  refine lv_aload_n hx hb dX2_name_51 rfl (lv_at hl 2 rfl) ?_
  refine gMX2_32_17 hF hK hI dX2_name_52 ?_
  refine nr_iconst hx hb dX2_name_55 ?_
  refine lv_aload_n hx hb dX2_name_56 rfl (lv_at hl 2 rfl) ?_
  refine gMX2_7_17 hF hK hI dX2_name_57 ?_
  refine lv_iload_n hx hb dX2_name_60 rfl (lv_at hl 1 rfl) ?_
  refine nr_iconst hx hb dX2_name_61 ?_
  have f16 := h.1; replace h := h.2
  refine nr_iadd hx hb dX2_name_62 ?_
  have f17 := h.1; replace h := h.2
  refine s_iald hx hb hK hI 0 (by decide) wM_0 f16 f17 dX2_name_63 (fun f18 => ?_)
  replace h := h f18
  refine cMX2_303 hF hK hI hl.1 hR (by decide) (Nat.le_of_ble_eq_true rfl) ⟨Nat.zero_le _, Nat.zero_le _⟩ f18 h dX2_name_64 (fun r19 H locs fr19 h hI => ?_)
  replace h := h fr19
  refine s_iast hx hb hK hI 5 (by decide) wM_5 (by decide) (by decide) fr19 dX2_name_67 (fun S21 H locs eS21 hI => ?_)
  replace h := h S21 eS21
  refine lv_aload_n hx hb dX2_name_68 rfl (lv_at hl 2 rfl) ?_
  refine gMX2_32_17 hF hK hI dX2_name_69 ?_
  refine nr_iconst hx hb dX2_name_72 ?_
  refine lv_aload_n hx hb dX2_name_73 rfl (lv_at hl 2 rfl) ?_
  refine gMX2_7_17 hF hK hI dX2_name_74 ?_
  refine nr_iconst hx hb dX2_name_77 ?_
  refine s_iald hx hb hK hI 0 (by decide) wM_0 (by decide) (by decide) dX2_name_78 (fun f22 => ?_)
  replace h := h f22
  refine s_iast hx hb hK hI 5 (by decide) wM_5 (by decide) (by decide) f22 dX2_name_79 (fun S23 H locs eS23 hI => ?_)
  replace h := h S23 eS23
  refine lv_aload_n hx hb dX2_name_80 rfl (lv_at hl 2 rfl) ?_
  refine gMX2_32_17 hF hK hI dX2_name_81 ?_
  refine nr_iconst hx hb dX2_name_84 ?_
  refine lv_aload_n hx hb dX2_name_85 rfl (lv_at hl 2 rfl) ?_
  refine gMX2_7_17 hF hK hI dX2_name_86 ?_
  refine lv_iload hx hb dX2_name_89 (lv_at hl 0 rfl) ?_
  have f24 := h.1; replace h := h.2
  refine s_iald hx hb hK hI 0 (by decide) wM_0 fr3 f24 dX2_name_91 (fun f25 => ?_)
  replace h := h f25
  refine s_iast hx hb hK hI 5 (by decide) wM_5 (by decide) (by decide) f25 dX2_name_92 (fun S26 H locs eS26 hI => ?_)
  replace h := h S26 eS26
  refine lv_aload_n hx hb dX2_name_93 rfl (lv_at hl 2 rfl) ?_
  refine gMX2_32_17 hF hK hI dX2_name_94 ?_
  refine nr_bipush hx hb dX2_name_97 (by decide) ?_
  refine lv_aload_n hx hb dX2_name_99 rfl (lv_at hl 2 rfl) ?_
  refine gMX2_7_17 hF hK hI dX2_name_100 ?_
  refine lv_iload hx hb dX2_name_103 (lv_at hl 0 rfl) ?_
  refine nr_iconst hx hb dX2_name_105 ?_
  have f27 := h.1; replace h := h.2
  refine nr_iadd hx hb dX2_name_106 ?_
  have f28 := h.1; replace h := h.2
  refine s_iald hx hb hK hI 0 (by decide) wM_0 f27 f28 dX2_name_107 (fun f29 => ?_)
  replace h := h f29
  refine s_iast hx hb hK hI 5 (by decide) wM_5 (by decide) (by decide) f29 dX2_name_108 (fun S30 H locs eS30 hI => ?_)
  replace h := h S30 eS30
  refine lv_aload_n hx hb dX2_name_109 rfl (lv_at hl 2 rfl) ?_
  refine gMX2_32_17 hF hK hI dX2_name_110 ?_
  refine nr_bipush hx hb dX2_name_113 (by decide) ?_
  refine lv_aload_n hx hb dX2_name_115 rfl (lv_at hl 2 rfl) ?_
  refine gMX2_7_17 hF hK hI dX2_name_116 ?_
  refine lv_iload hx hb dX2_name_119 (lv_at hl 0 rfl) ?_
  refine nr_iconst hx hb dX2_name_121 ?_
  have f31 := h.1; replace h := h.2
  refine nr_iadd hx hb dX2_name_122 ?_
  have f32 := h.1; replace h := h.2
  refine s_iald hx hb hK hI 0 (by decide) wM_0 f31 f32 dX2_name_123 (fun f33 => ?_)
  replace h := h f33
  refine s_iast hx hb hK hI 5 (by decide) wM_5 (by decide) (by decide) f33 dX2_name_124 (fun S34 H locs eS34 hI => ?_)
  replace h := h S34 eS34
  rw [← hQ]; exact s_vret (K := K) hx hb hr hlocks hI  h dX2_name_125
set_option maxHeartbeats 4000000 in
theorem t_M_isAsked (l : Launch) (x0 : Int) (x1 : Int) (x3 : Int) (K : Int → Prop) (rx0 : InR x0) (rx1 : InL x1) (rx3 : InL x3) (h : w_M_isAsked x0 x1 x3 K) : Met l yX2_isAsked (ws_ yX2_isAsked cX2_isAsked 5 (Option.some Jvm.ClassFile.FieldType.boolean)) (rmD 0 0 0) (va_Pc [iV x0, jV x1, jV x3] (fun _ => True)) (va_Qi (fun r (_ : Unit) => (r.toInt = 0 ∨ r.toInt = 1) ∧ K r.toInt) (fun _ _ => True) (fun _ => False)) 0 0 (fun _ => False) := by
  refine Met.ofW (cc := cX2_isAsked) (maxL := 5) (ret := (Option.some Jvm.ClassFile.FieldType.boolean)) (by decide) rfl ?_
  intro p e s m args below meth c s₁ B hml hv
  obtain ⟨rfl, -⟩ := hv
  have hx := B.exec
  have hb := B.bytes
  have hr := B.returns
  have hlocks := B.notSynchronized
  have hts := atoms_spec (ws := (ws_ yX2_isAsked cX2_isAsked 5 (Option.some Jvm.ClassFile.FieldType.boolean))) B.pre
  have hts : ∀ w ∈ lw_all, w.before _ s = true := fun w h => hts w (List.mem_cons_of_mem _ h)
  have hown : s.vm.findClass RX2 = some m.cls := findClass_of_methodNamed B.named
  clear B
  have hI : va_S (fun _ => False) s.heap s.heap [] := va_S.rf
  have hl := lv_entry ([iV x0, jV x1, jV x3] : List Value) (n := 5) (Nat.le_of_ble_eq_true rfl)
  rw [lg_entry_eq]
  generalize (lg_sl ([iV x0, jV x1, jV x3] : List Value) ++ List.replicate (5 - (lg_sl ([iV x0, jV x1, jV x3] : List Value)).length) Slot.unset).toArray = ls at hl ⊢
  have hl : lv_has ls 5 [(0, iV x0), (1, jV x1), (3, jV x3)] := hl
  have hF : CallFix p m c cX2_isAsked 5 s _ lw_all RX2 := ⟨hx, hb, hml, hown, hts⟩
  have hR : (headSpec (ws_ yX2_isAsked cX2_isAsked 5 (Option.some Jvm.ClassFile.FieldType.boolean)) (rmD 0 0 0)).room.frames = 0 + 1 ∧ (headSpec (ws_ yX2_isAsked cX2_isAsked 5 (Option.some Jvm.ClassFile.FieldType.boolean)) (rmD 0 0 0)).room.locals = 64 * 0 + 64 := ⟨rfl, rfl⟩
  generalize (headSpec (ws_ yX2_isAsked cX2_isAsked 5 (Option.some Jvm.ClassFile.FieldType.boolean)) (rmD 0 0 0)).room = R at hR ⊢
  generalize ([iV x0, jV x1, jV x3] : List Value).toArray = args at hts hF ⊢
  generalize hQ : MQ below _ _ _ _ _ _ = Q
  unfold w_M_isAsked at h
  refine lv_iload_n hx hb dX2_isAsked_0 rfl (lv_at hl 0 rfl) ?_
  refine nr_bipush hx hb dX2_isAsked_1 (by decide) ?_
  refine nr_icmp_ne hx hb rx0 (by decide) dX2_isAsked_3 (tgt := 20) (by decide) (fun c1 => ?_) (fun c1 => ?_)
  · replace h := h.1 c1
    refine lv_iload_n hx hb dX2_isAsked_20 rfl (lv_at hl 0 rfl) ?_
    refine nr_bipush hx hb dX2_isAsked_21 (by decide) ?_
    refine nr_icmp_ne hx hb rx0 (by decide) dX2_isAsked_23 (tgt := 40) (by decide) (fun c2 => ?_) (fun c2 => ?_)
    · replace h := h.1 c2
      refine lv_iload_n hx hb dX2_isAsked_40 rfl (lv_at hl 0 rfl) ?_
      refine nr_bipush hx hb dX2_isAsked_41 (by decide) ?_
      refine nr_icmp_ne hx hb rx0 (by decide) dX2_isAsked_43 (tgt := 60) (by decide) (fun c3 => ?_) (fun c3 => ?_)
      · replace h := h.1 c3
        refine lv_iload_n hx hb dX2_isAsked_60 rfl (lv_at hl 0 rfl) ?_
        refine nr_bipush hx hb dX2_isAsked_61 (by decide) ?_
        refine nr_icmp_ne hx hb rx0 (by decide) dX2_isAsked_63 (tgt := 80) (by decide) (fun c4 => ?_) (fun c4 => ?_)
        · replace h := h.1 c4
          refine lv_iload_n hx hb dX2_isAsked_80 rfl (lv_at hl 0 rfl) ?_
          refine nr_bipush hx hb dX2_isAsked_81 (by decide) ?_
          refine nr_icmp_ne hx hb rx0 (by decide) dX2_isAsked_83 (tgt := 100) (by decide) (fun c5 => ?_) (fun c5 => ?_)
          · replace h := h.1 c5
            refine lv_lload_n hx hb dX2_isAsked_100 rfl (lv_at hl 1 rfl) ?_
            refine lv_lload_n hx hb dX2_isAsked_101 rfl (lv_at hl 2 rfl) ?_
            refine nr_lcmp_eq hx hb rx1 rx3 dX2_isAsked_102 dX2_isAsked_103 (tgt := 110) (by decide) (fun c6 => ?_) (fun c6 => ?_)
            · replace h := h.1 c6
              refine nr_iconst hx hb dX2_isAsked_110 ?_
              rw [← hQ]; exact p_zret (K := K) hx hb hr hlocks hI (by decide) h dX2_isAsked_111
            · replace h := h.2 c6
              refine nr_iconst hx hb dX2_isAsked_106 ?_
              refine lv_goto (tgt := 111) hx hb dX2_isAsked_107 (by decide) ?_
              rw [← hQ]; exact p_zret (K := K) hx hb hr hlocks hI (by decide) h dX2_isAsked_111
          · replace h := h.2 c5
            refine lv_lload_n hx hb dX2_isAsked_86 rfl (lv_at hl 1 rfl) ?_
            refine lv_lload_n hx hb dX2_isAsked_87 rfl (lv_at hl 2 rfl) ?_
            refine nr_lcmp_ne hx hb rx1 rx3 dX2_isAsked_88 dX2_isAsked_89 (tgt := 96) (by decide) (fun c7 => ?_) (fun c7 => ?_)
            · replace h := h.1 c7
              refine nr_iconst hx hb dX2_isAsked_96 ?_
              refine lv_goto (tgt := 111) hx hb dX2_isAsked_97 (by decide) ?_
              rw [← hQ]; exact p_zret (K := K) hx hb hr hlocks hI (by decide) h dX2_isAsked_111
            · replace h := h.2 c7
              refine nr_iconst hx hb dX2_isAsked_92 ?_
              refine lv_goto (tgt := 111) hx hb dX2_isAsked_93 (by decide) ?_
              rw [← hQ]; exact p_zret (K := K) hx hb hr hlocks hI (by decide) h dX2_isAsked_111
        · replace h := h.2 c4
          refine lv_lload_n hx hb dX2_isAsked_66 rfl (lv_at hl 1 rfl) ?_
          refine lv_lload_n hx hb dX2_isAsked_67 rfl (lv_at hl 2 rfl) ?_
          refine nr_lcmp_lt hx hb rx1 rx3 dX2_isAsked_68 dX2_isAsked_69 (tgt := 76) (by decide) (fun c8 => ?_) (fun c8 => ?_)
          · replace h := h.1 c8
            refine nr_iconst hx hb dX2_isAsked_76 ?_
            refine lv_goto (tgt := 111) hx hb dX2_isAsked_77 (by decide) ?_
            rw [← hQ]; exact p_zret (K := K) hx hb hr hlocks hI (by decide) h dX2_isAsked_111
          · replace h := h.2 c8
            refine nr_iconst hx hb dX2_isAsked_72 ?_
            refine lv_goto (tgt := 111) hx hb dX2_isAsked_73 (by decide) ?_
            rw [← hQ]; exact p_zret (K := K) hx hb hr hlocks hI (by decide) h dX2_isAsked_111
      · replace h := h.2 c3
        refine lv_lload_n hx hb dX2_isAsked_46 rfl (lv_at hl 1 rfl) ?_
        refine lv_lload_n hx hb dX2_isAsked_47 rfl (lv_at hl 2 rfl) ?_
        refine nr_lcmp_le hx hb rx1 rx3 dX2_isAsked_48 dX2_isAsked_49 (tgt := 56) (by decide) (fun c9 => ?_) (fun c9 => ?_)
        · replace h := h.1 c9
          refine nr_iconst hx hb dX2_isAsked_56 ?_
          refine lv_goto (tgt := 111) hx hb dX2_isAsked_57 (by decide) ?_
          rw [← hQ]; exact p_zret (K := K) hx hb hr hlocks hI (by decide) h dX2_isAsked_111
        · replace h := h.2 c9
          refine nr_iconst hx hb dX2_isAsked_52 ?_
          refine lv_goto (tgt := 111) hx hb dX2_isAsked_53 (by decide) ?_
          rw [← hQ]; exact p_zret (K := K) hx hb hr hlocks hI (by decide) h dX2_isAsked_111
    · replace h := h.2 c2
      refine lv_lload_n hx hb dX2_isAsked_26 rfl (lv_at hl 1 rfl) ?_
      refine lv_lload_n hx hb dX2_isAsked_27 rfl (lv_at hl 2 rfl) ?_
      refine nr_lcmp_gt hx hb rx1 rx3 dX2_isAsked_28 dX2_isAsked_29 (tgt := 36) (by decide) (fun c10 => ?_) (fun c10 => ?_)
      · replace h := h.1 c10
        refine nr_iconst hx hb dX2_isAsked_36 ?_
        refine lv_goto (tgt := 111) hx hb dX2_isAsked_37 (by decide) ?_
        rw [← hQ]; exact p_zret (K := K) hx hb hr hlocks hI (by decide) h dX2_isAsked_111
      · replace h := h.2 c10
        refine nr_iconst hx hb dX2_isAsked_32 ?_
        refine lv_goto (tgt := 111) hx hb dX2_isAsked_33 (by decide) ?_
        rw [← hQ]; exact p_zret (K := K) hx hb hr hlocks hI (by decide) h dX2_isAsked_111
  · replace h := h.2 c1
    refine lv_lload_n hx hb dX2_isAsked_6 rfl (lv_at hl 1 rfl) ?_
    refine lv_lload_n hx hb dX2_isAsked_7 rfl (lv_at hl 2 rfl) ?_
    refine nr_lcmp_ge hx hb rx1 rx3 dX2_isAsked_8 dX2_isAsked_9 (tgt := 16) (by decide) (fun c11 => ?_) (fun c11 => ?_)
    · replace h := h.1 c11
      refine nr_iconst hx hb dX2_isAsked_16 ?_
      refine lv_goto (tgt := 111) hx hb dX2_isAsked_17 (by decide) ?_
      rw [← hQ]; exact p_zret (K := K) hx hb hr hlocks hI (by decide) h dX2_isAsked_111
    · replace h := h.2 c11
      refine nr_iconst hx hb dX2_isAsked_12 ?_
      refine lv_goto (tgt := 111) hx hb dX2_isAsked_13 (by decide) ?_
      rw [← hQ]; exact p_zret (K := K) hx hb hr hlocks hI (by decide) h dX2_isAsked_111
set_option maxHeartbeats 4000000 in
theorem t_M_clip (l : Launch) (x0 : Int) (K : Int → Prop) (rx0 : InL x0) (h : w_M_clip x0 K) : Met l yX2_clip (ws_ yX2_clip cX2_clip 2 (Option.some Jvm.ClassFile.FieldType.long)) (rmD 0 0 0) (va_Pc [jV x0] (fun _ => True)) (va_Ql (fun r (_ : Unit) => K r.toInt) (fun _ _ => True) (fun _ => False)) 0 0 (fun _ => False) := by
  refine Met.ofW (cc := cX2_clip) (maxL := 2) (ret := (Option.some Jvm.ClassFile.FieldType.long)) (by decide) rfl ?_
  intro p e s m args below meth c s₁ B hml hv
  obtain ⟨rfl, -⟩ := hv
  have hx := B.exec
  have hb := B.bytes
  have hr := B.returns
  have hlocks := B.notSynchronized
  have hts := atoms_spec (ws := (ws_ yX2_clip cX2_clip 2 (Option.some Jvm.ClassFile.FieldType.long))) B.pre
  have hts : ∀ w ∈ lw_all, w.before _ s = true := fun w h => hts w (List.mem_cons_of_mem _ h)
  have hown : s.vm.findClass RX2 = some m.cls := findClass_of_methodNamed B.named
  clear B
  have hI : va_S (fun _ => False) s.heap s.heap [] := va_S.rf
  have hl := lv_entry ([jV x0] : List Value) (n := 2) (Nat.le_of_ble_eq_true rfl)
  rw [lg_entry_eq]
  generalize (lg_sl ([jV x0] : List Value) ++ List.replicate (2 - (lg_sl ([jV x0] : List Value)).length) Slot.unset).toArray = ls at hl ⊢
  have hl : lv_has ls 2 [(0, jV x0)] := hl
  have hF : CallFix p m c cX2_clip 2 s _ lw_all RX2 := ⟨hx, hb, hml, hown, hts⟩
  have hR : (headSpec (ws_ yX2_clip cX2_clip 2 (Option.some Jvm.ClassFile.FieldType.long)) (rmD 0 0 0)).room.frames = 0 + 1 ∧ (headSpec (ws_ yX2_clip cX2_clip 2 (Option.some Jvm.ClassFile.FieldType.long)) (rmD 0 0 0)).room.locals = 64 * 0 + 64 := ⟨rfl, rfl⟩
  generalize (headSpec (ws_ yX2_clip cX2_clip 2 (Option.some Jvm.ClassFile.FieldType.long)) (rmD 0 0 0)).room = R at hR ⊢
  generalize ([jV x0] : List Value).toArray = args at hts hF ⊢
  generalize hQ : MQ below _ _ _ _ _ _ = Q
  unfold w_M_clip at h
  refine lv_lload_n hx hb dX2_clip_0 rfl (lv_at hl 0 rfl) ?_
  refine nr_ldc2 (v := 1000000) hx hb hown (by decide) (hts _ q1353) dX2_clip_1 ?_
  refine nr_lcmp_le hx hb rx0 (by decide) dX2_clip_4 dX2_clip_5 (tgt := 14) (by decide) (fun c1 => ?_) (fun c1 => ?_)
  · replace h := h.1 c1
    refine lv_lload_n hx hb dX2_clip_14 rfl (lv_at hl 0 rfl) ?_
    refine nr_ldc2 (v := (-1000000)) hx hb hown (by decide) (hts _ q1354) dX2_clip_15 ?_
    refine nr_lcmp_ge hx hb rx0 (by decide) dX2_clip_18 dX2_clip_19 (tgt := 28) (by decide) (fun c2 => ?_) (fun c2 => ?_)
    · replace h := h.1 c2
      refine lv_lload_n hx hb dX2_clip_28 rfl (lv_at hl 0 rfl) ?_
      rw [← hQ]; exact p_lret (K := K) hx hb hr hlocks hI rx0 h dX2_clip_29
    · replace h := h.2 c2
      refine nr_ldc2 (v := (-1000000)) hx hb hown (by decide) (hts _ q1354) dX2_clip_22 ?_
      refine lv_goto (tgt := 29) hx hb dX2_clip_25 (by decide) ?_
      rw [← hQ]; exact p_lret (K := K) hx hb hr hlocks hI (by decide) h dX2_clip_29
  · replace h := h.2 c1
    refine nr_ldc2 (v := 1000000) hx hb hown (by decide) (hts _ q1353) dX2_clip_8 ?_
    refine lv_goto (tgt := 29) hx hb dX2_clip_11 (by decide) ?_
    rw [← hQ]; exact p_lret (K := K) hx hb hr hlocks hI (by decide) h dX2_clip_29
theorem cqMX2_291 {p : Program} {l : Launch} {e : Env} {R : Room} {s : State} {m : MethodId} {args : Array Value} {below : List Frame} {meth : Method} {c : Code} {H : Heap} {locs : List Loc} {Q : State → Prop} {cc : ByteArray} {nL pc : Nat} {ls : Array Slot} {rest : List Value} {cells slots : Nat} {A : Nat → Prop} {H0 : Heap} {dk : Nat} (hF : CallFix p m c cc nL s args lw_all RX2) (hI : va_S A H0 H locs) (hls : ls.size = nL) (hR : R.frames = dk + 1 ∧ R.locals = 64 * dk + 64) (hd : 0 + 1 ≤ dk) (hW : (rest.map fun v => v.category).sum ≤ 8) (hf : cells ≤ R.cells ∧ slots ≤ R.slots) {x0 : Int} {K : Int → Prop} (r0 : InL x0) (h : w_M_clip x0 K) (hdg : decode cc pc = .ok (.invokestatic 291, 3)) (kk : ∀ (r : Int) (H1 : Heap) (locs1 : List Loc), InL r → K r → va_S A H0 H1 locs1 → W p l e R s m args below meth c H1 locs1 cells slots Q (F0 m (pc + 3) ls (jV r :: rest))) : W p l e R s m args below meth c H locs cells slots Q (F0 m (pc) ls (jV x0 :: rest)) := p_callPl (As := [jV x0]) (rest := rest) hF (t_M_clip l x0 K r0 h) (va_cwS 1 hF.2.2.2.2 (lw_S q1350 q1351 q109 q1352) rfl rfl rfl (by decide +kernel) ⟨by have h1 := hR.1; have h2 : (rmD 0 0 0).frames = 0 + 1 := rfl; omega, by have h1 := hR.2; have h2 : (rmD 0 0 0).locals = 64 * 0 + 64 := rfl; omega⟩) hI rfl hls rfl hW hdg hf kk
set_option maxHeartbeats 4000000 in
theorem t_M_two (l : Launch) (x0 : Int) (x1 : Int) (x3 : Int) (K : Int → Prop) (rx0 : InR x0) (rx1 : InL x1) (rx3 : InL x3) (h : w_M_two x0 x1 x3 K) : Met l yX2_two (ws_ yX2_two cX2_two 5 (Option.some Jvm.ClassFile.FieldType.long)) (rmD 1 0 0) (va_Pc [iV x0, jV x1, jV x3] (fun _ => True)) (va_Ql (fun r (_ : Unit) => K r.toInt) (fun _ _ => True) (fun _ => False)) 0 0 (fun _ => False) := by
  refine Met.ofW (cc := cX2_two) (maxL := 5) (ret := (Option.some Jvm.ClassFile.FieldType.long)) (by decide) rfl ?_
  intro p e s m args below meth c s₁ B hml hv
  obtain ⟨rfl, -⟩ := hv
  have hx := B.exec
  have hb := B.bytes
  have hr := B.returns
  have hlocks := B.notSynchronized
  have hts := atoms_spec (ws := (ws_ yX2_two cX2_two 5 (Option.some Jvm.ClassFile.FieldType.long))) B.pre
  have hts : ∀ w ∈ lw_all, w.before _ s = true := fun w h => hts w (List.mem_cons_of_mem _ h)
  have hown : s.vm.findClass RX2 = some m.cls := findClass_of_methodNamed B.named
  clear B
  have hI : va_S (fun _ => False) s.heap s.heap [] := va_S.rf
  have hl := lv_entry ([iV x0, jV x1, jV x3] : List Value) (n := 5) (Nat.le_of_ble_eq_true rfl)
  rw [lg_entry_eq]
  generalize (lg_sl ([iV x0, jV x1, jV x3] : List Value) ++ List.replicate (5 - (lg_sl ([iV x0, jV x1, jV x3] : List Value)).length) Slot.unset).toArray = ls at hl ⊢
  have hl : lv_has ls 5 [(0, iV x0), (1, jV x1), (3, jV x3)] := hl
  have hF : CallFix p m c cX2_two 5 s _ lw_all RX2 := ⟨hx, hb, hml, hown, hts⟩
  have hR : (headSpec (ws_ yX2_two cX2_two 5 (Option.some Jvm.ClassFile.FieldType.long)) (rmD 1 0 0)).room.frames = 1 + 1 ∧ (headSpec (ws_ yX2_two cX2_two 5 (Option.some Jvm.ClassFile.FieldType.long)) (rmD 1 0 0)).room.locals = 64 * 1 + 64 := ⟨rfl, rfl⟩
  generalize (headSpec (ws_ yX2_two cX2_two 5 (Option.some Jvm.ClassFile.FieldType.long)) (rmD 1 0 0)).room = R at hR ⊢
  generalize ([iV x0, jV x1, jV x3] : List Value).toArray = args at hts hF ⊢
  generalize hQ : MQ below _ _ _ _ _ _ = Q
  unfold w_M_two at h
  refine lv_iload_n hx hb dX2_two_0 rfl (lv_at hl 0 rfl) ?_
  have hcs : x0 = 3 ∨ x0 = 4 ∨ x0 = 5 ∨ ¬ (3 ≤ x0 ∧ x0 ≤ 5) := by omega
  rcases hcs with c1 | c1 | c1 | c1
  · replace h := h.1 c1
    refine nr_tableIn hx hb 3 c1 (by decide) dX2_two_1 (by decide) rfl (tgt := 28) (by decide) ?_
    refine lv_lload_n hx hb dX2_two_28 rfl (lv_at hl 1 rfl) ?_
    refine lv_lload_n hx hb dX2_two_29 rfl (lv_at hl 2 rfl) ?_
    have f2 := h.1; replace h := h.2
    refine nr_ladd hx hb dX2_two_30 ?_
    refine cqMX2_291 hF hI hl.1 hR (by decide) (Nat.le_of_ble_eq_true rfl) ⟨Nat.zero_le _, Nat.zero_le _⟩ f2 h dX2_two_31 (fun r3 H locs fr3 h hI => ?_)
    replace h := h fr3
    rw [← hQ]; exact p_lret (K := K) hx hb hr hlocks hI fr3 h dX2_two_34
  · replace h := h.2.1 c1
    refine nr_tableIn hx hb 4 c1 (by decide) dX2_two_1 (by decide) rfl (tgt := 35) (by decide) ?_
    refine lv_lload_n hx hb dX2_two_35 rfl (lv_at hl 1 rfl) ?_
    refine lv_lload_n hx hb dX2_two_36 rfl (lv_at hl 2 rfl) ?_
    have f5 := h.1; replace h := h.2
    refine nr_lsub hx hb dX2_two_37 ?_
    refine cqMX2_291 hF hI hl.1 hR (by decide) (Nat.le_of_ble_eq_true rfl) ⟨Nat.zero_le _, Nat.zero_le _⟩ f5 h dX2_two_38 (fun r6 H locs fr6 h hI => ?_)
    replace h := h fr6
    rw [← hQ]; exact p_lret (K := K) hx hb hr hlocks hI fr6 h dX2_two_41
  · replace h := h.2.2.1 c1
    refine nr_tableIn hx hb 5 c1 (by decide) dX2_two_1 (by decide) rfl (tgt := 42) (by decide) ?_
    refine lv_lload_n hx hb dX2_two_42 rfl (lv_at hl 1 rfl) ?_
    refine lv_lload_n hx hb dX2_two_43 rfl (lv_at hl 2 rfl) ?_
    have f8 := h.1; replace h := h.2
    refine nr_lmul hx hb dX2_two_44 ?_
    refine cqMX2_291 hF hI hl.1 hR (by decide) (Nat.le_of_ble_eq_true rfl) ⟨Nat.zero_le _, Nat.zero_le _⟩ f8 h dX2_two_45 (fun r9 H locs fr9 h hI => ?_)
    replace h := h fr9
    rw [← hQ]; exact p_lret (K := K) hx hb hr hlocks hI fr9 h dX2_two_48
  · replace h := h.2.2.2 c1
    refine nr_tableOut hx hb rx0 dX2_two_1 c1 (tgt := 49) (by decide) ?_
    refine lv_lload_n hx hb dX2_two_49 rfl (lv_at hl 2 rfl) ?_
    refine nr_lconst (v := 0) hx hb dX2_two_50 rfl ?_
    refine nr_lcmp_ne hx hb rx3 (by decide) dX2_two_51 dX2_two_52 (tgt := 59) (by decide) (fun c11 => ?_) (fun c11 => ?_)
    · replace h := h.1 c11
      refine lv_lload_n hx hb dX2_two_59 rfl (lv_at hl 1 rfl) ?_
      refine lv_lload_n hx hb dX2_two_60 rfl (lv_at hl 2 rfl) ?_
      have f12 := h.1; replace h := h.2
      have f13 := h.1; replace h := h.2
      refine nr_ldiv hx hb rx1 rx3 f12 dX2_two_61 ?_
      refine cqMX2_291 hF hI hl.1 hR (by decide) (Nat.le_of_ble_eq_true rfl) ⟨Nat.zero_le _, Nat.zero_le _⟩ f13 h dX2_two_62 (fun r14 H locs fr14 h hI => ?_)
      replace h := h fr14
      rw [← hQ]; exact p_lret (K := K) hx hb hr hlocks hI fr14 h dX2_two_65
    · replace h := h.2 c11
      refine nr_lconst (v := 0) hx hb dX2_two_55 rfl ?_
      refine lv_goto (tgt := 65) hx hb dX2_two_56 (by decide) ?_
      rw [← hQ]; exact p_lret (K := K) hx hb hr hlocks hI (by decide) h dX2_two_65
theorem gMX2_39_17 {p : Program} {l : Launch} {e : Env} {R : Room} {s : State} {m : MethodId} {args : Array Value} {below : List Frame} {meth : Method} {c : Code} {H : Heap} {locs : List Loc} {Q : State → Prop} {cc : ByteArray} {nL pc : Nat} {ls : Array Slot} {rest : List Value} {cells slots : Nat} {D : va_G} {dA : Nat → ClassId} {ad : Nat → Nat} {A : Nat → Prop} {H0 : Heap} {S : St} (hF : CallFix p m c cc nL s args lw_all RX2) (hK : gK D dA s) (hI : sI D dA wM ad A H0 S H locs) (hdg : decode cc pc = .ok (.getfield 39, 3)) (kk : W p l e R s m args below meth c H locs cells slots Q (F0 m (pc + 3) ls (.ref (ad 7) :: rest))) : W p l e R s m args below meth c H locs cells slots Q (F0 m (pc) ls (.ref (ad 17) :: rest)) := s_getr hF.1 hF.2.1 hF.2.2.2.2 hF.2.2.2.1 hK hI 17 (by decide) wM_17 rfl in_X2 24 (by decide) q1185 rfl 7 rfl hdg kk
theorem gMX2_35_17 {p : Program} {l : Launch} {e : Env} {R : Room} {s : State} {m : MethodId} {args : Array Value} {below : List Frame} {meth : Method} {c : Code} {H : Heap} {locs : List Loc} {Q : State → Prop} {cc : ByteArray} {nL pc : Nat} {ls : Array Slot} {rest : List Value} {cells slots : Nat} {D : va_G} {dA : Nat → ClassId} {ad : Nat → Nat} {A : Nat → Prop} {H0 : Heap} {S : St} (hF : CallFix p m c cc nL s args lw_all RX2) (hK : gK D dA s) (hI : sI D dA wM ad A H0 S H locs) (hdg : decode cc pc = .ok (.getfield 35, 3)) (kk : W p l e R s m args below meth c H locs cells slots Q (F0 m (pc + 3) ls (.ref (ad 6) :: rest))) : W p l e R s m args below meth c H locs cells slots Q (F0 m (pc) ls (.ref (ad 17) :: rest)) := s_getr hF.1 hF.2.1 hF.2.2.2.2 hF.2.2.2.1 hK hI 17 (by decide) wM_17 rfl in_X2 23 (by decide) q1184 rfl 6 rfl hdg kk
theorem cMX2_299 {p : Program} {l : Launch} {e : Env} {R : Room} {s : State} {m : MethodId} {args : Array Value} {below : List Frame} {meth : Method} {c : Code} {H : Heap} {locs : List Loc} {Q : State → Prop} {cc : ByteArray} {nL pc : Nat} {ls : Array Slot} {rest : List Value} {cells slots : Nat} {D : va_G} {dA : Nat → ClassId} {ad : Nat → Nat} {A : Nat → Prop} {H0 : Heap} {S : St} {dk : Nat} (hF : CallFix p m c cc nL s args lw_all RX2) (hK : gK D dA s) (hI : sI D dA wM ad A H0 S H locs) (hls : ls.size = nL) (hR : R.frames = dk + 1 ∧ R.locals = 64 * dk + 64) (hd : 0 + 1 ≤ dk) (hW : (rest.map fun v => v.category).sum ≤ 8) (hf : cells ≤ R.cells ∧ slots ≤ R.slots) {x0 : Int} {x1 : Int} {x3 : Int} {K : Int → Prop} (r0 : InR x0) (r1 : InL x1) (r3 : InL x3) (h : w_M_isAsked x0 x1 x3 K) (hdg : decode cc pc = .ok (.invokestatic 299, 3)) (kk : ∀ (r : Int) (H1 : Heap) (locs1 : List Loc), (r = 0 ∨ r = 1) → K r → sI D dA wM ad A H0 S H1 locs1 → W p l e R s m args below meth c H1 locs1 cells slots Q (F0 m (pc + 3) ls (iV r :: rest))) : W p l e R s m args below meth c H locs cells slots Q (F0 m (pc) ls (jV x3 :: jV x1 :: iV x0 :: rest)) := s_callPz (As := [iV x0, jV x1, jV x3]) (rest := rest) hF (t_M_isAsked l x0 x1 x3 K r0 r1 r3 h) (va_cwS 3 hF.2.2.2.2 (lw_S q1355 q1356 q109 q1357) rfl rfl rfl (by decide +kernel) ⟨by have h1 := hR.1; have h2 : (rmD 0 0 0).frames = 0 + 1 := rfl; omega, by have h1 := hR.2; have h2 : (rmD 0 0 0).locals = 64 * 0 + 64 := rfl; omega⟩) hI rfl hls rfl hW hdg hf kk
theorem cMX2_295 {p : Program} {l : Launch} {e : Env} {R : Room} {s : State} {m : MethodId} {args : Array Value} {below : List Frame} {meth : Method} {c : Code} {H : Heap} {locs : List Loc} {Q : State → Prop} {cc : ByteArray} {nL pc : Nat} {ls : Array Slot} {rest : List Value} {cells slots : Nat} {D : va_G} {dA : Nat → ClassId} {ad : Nat → Nat} {A : Nat → Prop} {H0 : Heap} {S : St} {dk : Nat} (hF : CallFix p m c cc nL s args lw_all RX2) (hK : gK D dA s) (hI : sI D dA wM ad A H0 S H locs) (hls : ls.size = nL) (hR : R.frames = dk + 1 ∧ R.locals = 64 * dk + 64) (hd : 1 + 1 ≤ dk) (hW : (rest.map fun v => v.category).sum ≤ 8) (hf : cells ≤ R.cells ∧ slots ≤ R.slots) {x0 : Int} {x1 : Int} {x3 : Int} {K : Int → Prop} (r0 : InR x0) (r1 : InL x1) (r3 : InL x3) (h : w_M_two x0 x1 x3 K) (hdg : decode cc pc = .ok (.invokestatic 295, 3)) (kk : ∀ (r : Int) (H1 : Heap) (locs1 : List Loc), InL r → K r → sI D dA wM ad A H0 S H1 locs1 → W p l e R s m args below meth c H1 locs1 cells slots Q (F0 m (pc + 3) ls (jV r :: rest))) : W p l e R s m args below meth c H locs cells slots Q (F0 m (pc) ls (jV x3 :: jV x1 :: iV x0 :: rest)) := s_callPl (As := [iV x0, jV x1, jV x3]) (rest := rest) hF (t_M_two l x0 x1 x3 K r0 r1 r3 h) (va_cwS 3 hF.2.2.2.2 (lw_S q1347 q1348 q109 q1349) rfl rfl rfl (by decide +kernel) ⟨by have h1 := hR.1; have h2 : (rmD 1 0 0).frames = 1 + 1 := rfl; omega, by have h1 := hR.2; have h2 : (rmD 1 0 0).locals = 64 * 1 + 64 := rfl; omega⟩) hI rfl hls rfl hW hdg hf kk
set_option maxHeartbeats 4000000 in
theorem t_M_work (l : Launch) (D : va_G) (dA : Nat → ClassId) (ad : Nat → Nat) (S : St) (sz : Nat) (x1 : Int) (K : St → Prop) (rx1 : InR x1) (h : w_M_work x1 S K) : Met l yX2_work (ws_ yX2_work cX2_work 9 (Option.none : Option Jvm.ClassFile.FieldType)) (rmD 2 0 0) (va_Pc [.ref (ad 17), iV x1] (sPre D dA wM ad S sz)) (va_Qv (fun S' => K S') (sPost D dA wM ad (wA wM ad S sz)) (wA wM ad S sz)) 0 0 (wA wM ad S sz) := by
  refine Met.ofW (cc := cX2_work) (maxL := 9) (ret := (Option.none : Option Jvm.ClassFile.FieldType)) (by decide) rfl ?_
  intro p e s m args below meth c s₁ B hml hv
  obtain ⟨rfl, hsz, hK, hC⟩ := hv
  have hx := B.exec
  have hb := B.bytes
  have hr := B.returns
  have hlocks := B.notSynchronized
  have hts := atoms_spec (ws := (ws_ yX2_work cX2_work 9 (Option.none : Option Jvm.ClassFile.FieldType))) B.pre
  have hts : ∀ w ∈ lw_all, w.before _ s = true := fun w h => hts w (List.mem_cons_of_mem _ h)
  have hown : s.vm.findClass RX2 = some m.cls := findClass_of_methodNamed B.named
  clear B
  subst hsz
  have hI : sI D dA wM ad (wA wM ad S s.heap.size) s.heap S s.heap [] := hC.start
  clear hC
  generalize wA wM ad S s.heap.size = A at hI ⊢
  have hl := lv_entry ([.ref (ad 17), iV x1] : List Value) (n := 9) (Nat.le_of_ble_eq_true rfl)
  rw [lg_entry_eq]
  generalize (lg_sl ([.ref (ad 17), iV x1] : List Value) ++ List.replicate (9 - (lg_sl ([.ref (ad 17), iV x1] : List Value)).length) Slot.unset).toArray = ls at hl ⊢
  have hl : lv_has ls 9 [(0, .ref (ad 17)), (1, iV x1)] := hl
  have hF : CallFix p m c cX2_work 9 s _ lw_all RX2 := ⟨hx, hb, hml, hown, hts⟩
  have hR : (headSpec (ws_ yX2_work cX2_work 9 (Option.none : Option Jvm.ClassFile.FieldType)) (rmD 2 0 0)).room.frames = 2 + 1 ∧ (headSpec (ws_ yX2_work cX2_work 9 (Option.none : Option Jvm.ClassFile.FieldType)) (rmD 2 0 0)).room.locals = 64 * 2 + 64 := ⟨rfl, rfl⟩
  generalize (headSpec (ws_ yX2_work cX2_work 9 (Option.none : Option Jvm.ClassFile.FieldType)) (rmD 2 0 0)).room = R at hR ⊢
  generalize ([.ref (ad 17), iV x1] : List Value).toArray = args at hts hF ⊢
  generalize hQ : MQ below _ _ _ _ _ _ = Q
  have L47 : ∀ (x2 : Int) (x3 : Int), InR x2 → InR x3 → ∀ (n47 : Nat) (x4 : Int) (x5 : Int) (x6 : Int) (S : St) (H : Heap) (locs : List Loc) (ls : Array Slot), InR x4 → InR x5 → InR x6 → sI D dA wM ad A s.heap S H locs → lv_has ls 9 [(0, .ref (ad 17)), (2, iV x2), (3, iV x3), (4, iV x4), (5, iV x5), (6, iV x6)] → l_M_work_47 x2 x3 K n47 x4 x5 x6 S → W p l e R s m args below meth c H locs 0 0 Q (F0 m 47 ls []) := by
    intro x2 x3 rx2 rx3 n47
    induction n47 with
    | zero => intro x4 x5 x6 S H locs ls rx4 rx5 rx6 hI hl h; exact False.elim h
    | succ n47 ih47 =>
      intro x4 x5 x6 S H locs ls rx4 rx5 rx6 hI hl h
      have J353 : ∀ (x4 : Int) (x5 : Int) (x6 : Int) (S : St) (H : Heap) (locs : List Loc) (ls : Array Slot), InR x4 → InR x5 → InR x6 → sI D dA wM ad A s.heap S H locs → lv_has ls 9 [(0, .ref (ad 17)), (2, iV x2), (3, iV x3), (4, iV x4), (5, iV x5), (6, iV x6)] → j_M_work_353 x2 x3 x4 x5 x6 S K (l_M_work_47 x2 x3 K n47) → W p l e R s m args below meth c H locs 0 0 Q (F0 m 353 ls []) := by
        intro x4 x5 x6 S H locs ls rx4 rx5 rx6 hI hl h
        unfold j_M_work_353 at h
        have f1 := h.1; replace h := h.2
        refine nr_iinc (lv' := [(6, iV (x6 + 1)), (0, .ref (ad 17)), (2, iV x2), (3, iV x3), (4, iV x4), (5, iV x5)]) hx hb dX2_work_353 hl (k := 5) rfl (by decide) rfl (fun ls hl => ?_)
        refine lv_goto (tgt := 47) hx hb dX2_work_356 (by decide) ?_
        exact ih47 x4 x5 (x6 + 1) S _ _ _ rx4 rx5 f1 hI (lv_sub hl [1, 2, 3, 4, 5, 0] rfl) h
      have J352 : ∀ (x4 : Int) (x5 : Int) (x6 : Int) (y1 : Int) (y2 : Int) (S : St) (H : Heap) (locs : List Loc) (ls : Array Slot), InR x4 → InR x5 → InR x6 → InR y1 → InR y2 → sI D dA wM ad A s.heap S H locs → lv_has ls 9 [(0, .ref (ad 17)), (2, iV x2), (3, iV x3), (4, iV x4), (5, iV x5), (6, iV x6)] → j_M_work_352 x2 x3 x4 x5 x6 y1 y2 S K (l_M_work_47 x2 x3 K n47) → W p l e R s m args below meth c H locs 0 0 Q (F0 m 352 ls [iV y2, iV y1, .ref (ad 7)]) := by
        intro x4 x5 x6 y1 y2 S H locs ls rx4 rx5 rx6 ry1 ry2 hI hl h
        unfold j_M_work_352 at h
        have f2 := h.1; replace h := h.2
        have f3 := h.1; replace h := h.2
        refine s_zast hx hb hK hI 7 (by decide) wM_7 ry1 f2 f3 dX2_work_352 (fun S4 H locs eS4 hI => ?_)
        replace h := h S4 eS4
        exact J353 x4 x5 x6 S4 _ _ _ rx4 rx5 rx6 hI (lv_sub hl [0, 1, 2, 3, 4, 5] rfl) h
      have J347 : ∀ (x4 : Int) (x5 : Int) (x6 : Int) (y1 : Int) (S : St) (H : Heap) (locs : List Loc) (ls : Array Slot), InR x4 → InR x5 → InR x6 → InR y1 → sI D dA wM ad A s.heap S H locs → lv_has ls 9 [(0, .ref (ad 17)), (2, iV x2), (3, iV x3), (4, iV x4), (5, iV x5), (6, iV x6)] → j_M_work_347 x2 x3 x4 x5 x6 y1 S K (l_M_work_47 x2 x3 K n47) → W p l e R s m args below meth c H locs 0 0 Q (F0 m 347 ls [iV y1, .ref (ad 7)]) := by
        intro x4 x5 x6 y1 S H locs ls rx4 rx5 rx6 ry1 hI hl h
        unfold j_M_work_347 at h
        refine nr_iconst hx hb dX2_work_347 ?_
        refine lv_goto (tgt := 352) hx hb dX2_work_348 (by decide) ?_
        exact J352 x4 x5 x6 y1 1 S _ _ _ rx4 rx5 rx6 ry1 (by decide) hI (lv_sub hl [0, 1, 2, 3, 4, 5] rfl) h
      have J321 : ∀ (x4 : Int) (x5 : Int) (x6 : Int) (y1 : Int) (S : St) (H : Heap) (locs : List Loc) (ls : Array Slot), InR x4 → InR x5 → InR x6 → InR y1 → sI D dA wM ad A s.heap S H locs → lv_has ls 9 [(0, .ref (ad 17)), (2, iV x2), (3, iV x3), (4, iV x4), (5, iV x5), (6, iV x6)] → j_M_work_321 x2 x3 x4 x5 x6 y1 S K (l_M_work_47 x2 x3 K n47) → W p l e R s m args below meth c H locs 0 0 Q (F0 m 321 ls [iV y1, .ref (ad 7)]) := by
        intro x4 x5 x6 y1 S H locs ls rx4 rx5 rx6 ry1 hI hl h
        unfold j_M_work_321 at h
        refine nr_iconst hx hb dX2_work_321 ?_
        refine lv_goto (tgt := 352) hx hb dX2_work_322 (by decide) ?_
        exact J352 x4 x5 x6 y1 0 S _ _ _ rx4 rx5 rx6 ry1 (by decide) hI (lv_sub hl [0, 1, 2, 3, 4, 5] rfl) h
      have J273 : ∀ (x4 : Int) (x5 : Int) (x6 : Int) (y1 : Int) (y2 : Int) (S : St) (H : Heap) (locs : List Loc) (ls : Array Slot), InR x4 → InR x5 → InR x6 → InR y1 → InR y2 → sI D dA wM ad A s.heap S H locs → lv_has ls 9 [(0, .ref (ad 17)), (2, iV x2), (3, iV x3), (4, iV x4), (5, iV x5), (6, iV x6)] → j_M_work_273 x2 x3 x4 x5 x6 y1 y2 S K (l_M_work_47 x2 x3 K n47) → W p l e R s m args below meth c H locs 0 0 Q (F0 m 273 ls [iV y2, iV y1, .ref (ad 7)]) := by
        intro x4 x5 x6 y1 y2 S H locs ls rx4 rx5 rx6 ry1 ry2 hI hl h
        unfold j_M_work_273 at h
        have f5 := h.1; replace h := h.2
        have f6 := h.1; replace h := h.2
        refine s_zast hx hb hK hI 7 (by decide) wM_7 ry1 f5 f6 dX2_work_273 (fun S7 H locs eS7 hI => ?_)
        replace h := h S7 eS7
        refine lv_goto (tgt := 353) hx hb dX2_work_274 (by decide) ?_
        exact J353 x4 x5 x6 S7 _ _ _ rx4 rx5 rx6 hI (lv_sub hl [0, 1, 2, 3, 4, 5] rfl) h
      have J119 : ∀ (x4 : Int) (x5 : Int) (x6 : Int) (y1 : Int) (y2 : Int) (S : St) (H : Heap) (locs : List Loc) (ls : Array Slot), InR x4 → InR x5 → InR x6 → InR y1 → InL y2 → sI D dA wM ad A s.heap S H locs → lv_has ls 9 [(0, .ref (ad 17)), (2, iV x2), (3, iV x3), (4, iV x4), (5, iV x5), (6, iV x6)] → j_M_work_119 x2 x3 x4 x5 x6 y1 y2 S K (l_M_work_47 x2 x3 K n47) → W p l e R s m args below meth c H locs 0 0 Q (F0 m 119 ls [jV y2, iV y1, .ref (ad 6)]) := by
        intro x4 x5 x6 y1 y2 S H locs ls rx4 rx5 rx6 ry1 ry2 hI hl h
        unfold j_M_work_119 at h
        have f8 := h.1; replace h := h.2
        refine s_last hx hb hK hI 6 (by decide) wM_6 ry1 f8 ry2 dX2_work_119 (fun S9 H locs eS9 hI => ?_)
        replace h := h S9 eS9
        have f10 := h.1; replace h := h.2
        refine nr_iinc (lv' := [(4, iV (x4 + 1)), (0, .ref (ad 17)), (2, iV x2), (3, iV x3), (5, iV x5), (6, iV x6)]) hx hb dX2_work_120 hl (k := 3) rfl (by decide) rfl (fun ls hl => ?_)
        refine lv_goto (tgt := 353) hx hb dX2_work_123 (by decide) ?_
        exact J353 (x4 + 1) x5 x6 S9 _ _ _ f10 rx5 rx6 hI (lv_sub hl [1, 2, 3, 0, 4, 5] rfl) h
      unfold l_M_work_47 at h
      refine lv_iload hx hb dX2_work_47 (lv_at hl 5 rfl) ?_
      refine lv_aload_n hx hb dX2_work_49 rfl (lv_at hl 0 rfl) ?_
      refine gMX2_16_17 hF hK hI dX2_work_50 ?_
      refine lv_iload_n hx hb dX2_work_53 rfl (lv_at hl 1 rfl) ?_
      refine nr_iconst hx hb dX2_work_54 ?_
      have f11 := h.1; replace h := h.2
      refine nr_iadd hx hb dX2_work_55 ?_
      have f12 := h.1; replace h := h.2
      refine s_iald hx hb hK hI 2 (by decide) wM_2 f11 f12 dX2_work_56 (fun f13 => ?_)
      replace h := h f13
      refine nr_icmp_ge hx hb rx6 f13 dX2_work_57 (tgt := 359) (by decide) (fun c14 => ?_) (fun c14 => ?_)
      · replace h := h.1 c14
        rw [← hQ]; exact s_vret (K := K) hx hb hr hlocks hI  h dX2_work_359
      · replace h := h.2 c14
        refine lv_aload_n hx hb dX2_work_60 rfl (lv_at hl 0 rfl) ?_
        refine gMX2_16_17 hF hK hI dX2_work_61 ?_
        refine lv_iload_n hx hb dX2_work_64 rfl (lv_at hl 2 rfl) ?_
        refine nr_iconst hx hb dX2_work_65 ?_
        refine lv_iload hx hb dX2_work_66 (lv_at hl 5 rfl) ?_
        have f15 := h.1; replace h := h.2
        refine nr_imul hx hb dX2_work_68 ?_
        have f16 := h.1; replace h := h.2
        refine nr_iadd hx hb dX2_work_69 ?_
        have f17 := h.1; replace h := h.2
        refine s_iald hx hb hK hI 2 (by decide) wM_2 f16 f17 dX2_work_70 (fun f18 => ?_)
        replace h := h f18
        refine nr_topi (fun v19 ev19 => ?_)
        have rv19 : InR v19 := by rw [ev19]; exact f18
        replace h := h v19 ev19 rv19
        refine lv_istore (lv' := [(7, iV v19), (0, .ref (ad 17)), (2, iV x2), (3, iV x3), (4, iV x4), (5, iV x5), (6, iV x6)]) hx hb dX2_work_71 hl (by decide) rfl (fun ls hl => ?_)
        refine lv_aload_n hx hb dX2_work_73 rfl (lv_at hl 1 rfl) ?_
        refine gMX2_16_17 hF hK hI dX2_work_74 ?_
        refine lv_iload_n hx hb dX2_work_77 rfl (lv_at hl 3 rfl) ?_
        refine nr_iconst hx hb dX2_work_78 ?_
        refine lv_iload hx hb dX2_work_79 (lv_at hl 6 rfl) ?_
        refine nr_imul hx hb dX2_work_81 ?_
        refine nr_iadd hx hb dX2_work_82 ?_
        refine nr_iconst hx hb dX2_work_83 ?_
        have f20 := h.1; replace h := h.2
        refine nr_iadd hx hb dX2_work_84 ?_
        have f21 := h.1; replace h := h.2
        refine s_iald hx hb hK hI 2 (by decide) wM_2 f20 f21 dX2_work_85 (fun f22 => ?_)
        replace h := h f22
        refine nr_topi (fun v23 ev23 => ?_)
        have rv23 : InR v23 := by rw [ev23]; exact f22
        replace h := h v23 ev23 rv23
        refine lv_istore (lv' := [(8, iV v23), (7, iV v19), (0, .ref (ad 17)), (2, iV x2), (3, iV x3), (4, iV x4), (5, iV x5), (6, iV x6)]) hx hb dX2_work_86 hl (by decide) rfl (fun ls hl => ?_)
        refine lv_iload hx hb dX2_work_88 (lv_at hl 1 rfl) ?_
        refine nr_iconst hx hb dX2_work_90 ?_
        refine nr_icmp_gt hx hb rv19 (by decide) dX2_work_91 (tgt := 126) (by decide) (fun c24 => ?_) (fun c24 => ?_)
        · replace h := h.1 c24
          refine lv_iload hx hb dX2_work_126 (lv_at hl 1 rfl) ?_
          refine nr_iconst hx hb dX2_work_128 ?_
          refine nr_icmp_ne hx hb rv19 (by decide) dX2_work_129 (tgt := 154) (by decide) (fun c25 => ?_) (fun c25 => ?_)
          · replace h := h.1 c25
            refine lv_iload hx hb dX2_work_154 (lv_at hl 1 rfl) ?_
            refine nr_bipush hx hb dX2_work_156 (by decide) ?_
            refine nr_icmp_ge hx hb rv19 (by decide) dX2_work_158 (tgt := 197) (by decide) (fun c26 => ?_) (fun c26 => ?_)
            · replace h := h.1 c26
              refine lv_iload hx hb dX2_work_197 (lv_at hl 1 rfl) ?_
              refine nr_bipush hx hb dX2_work_199 (by decide) ?_
              refine nr_icmp_ge hx hb rv19 (by decide) dX2_work_201 (tgt := 241) (by decide) (fun c27 => ?_) (fun c27 => ?_)
              · replace h := h.1 c27
                refine lv_iload hx hb dX2_work_241 (lv_at hl 1 rfl) ?_
                refine nr_bipush hx hb dX2_work_243 (by decide) ?_
                refine nr_icmp_ne hx hb rv19 (by decide) dX2_work_245 (tgt := 277) (by decide) (fun c28 => ?_) (fun c28 => ?_)
                · replace h := h.1 c28
                  have f29 := h.1; replace h := h.2
                  refine nr_iinc (lv' := [(5, iV (x5 + (-1))), (8, iV v23), (7, iV v19), (0, .ref (ad 17)), (2, iV x2), (3, iV x3), (4, iV x4), (6, iV x6)]) hx hb dX2_work_277 hl (k := 6) rfl (by decide) rfl (fun ls hl => ?_)
                  refine lv_aload_n hx hb dX2_work_280 rfl (lv_at hl 3 rfl) ?_
                  refine gMX2_39_17 hF hK hI dX2_work_281 ?_
                  refine lv_iload hx hb dX2_work_284 (lv_at hl 0 rfl) ?_
                  refine nr_iconst hx hb dX2_work_286 ?_
                  have f30 := h.1; replace h := h.2
                  refine nr_isub hx hb dX2_work_287 ?_
                  refine lv_iload hx hb dX2_work_288 (lv_at hl 2 rfl) ?_
                  refine nr_bipush hx hb dX2_work_290 (by decide) ?_
                  refine nr_icmp_ne hx hb rv19 (by decide) dX2_work_292 (tgt := 325) (by decide) (fun c31 => ?_) (fun c31 => ?_)
                  · replace h := h.1 c31
                    refine lv_aload_n hx hb dX2_work_325 rfl (lv_at hl 3 rfl) ?_
                    refine gMX2_39_17 hF hK hI dX2_work_326 ?_
                    refine lv_iload hx hb dX2_work_329 (lv_at hl 0 rfl) ?_
                    refine nr_iconst hx hb dX2_work_331 ?_
                    refine nr_isub hx hb dX2_work_332 ?_
                    have f32 := h.1; replace h := h.2
                    refine s_zald hx hb hK hI 7 (by decide) wM_7 f30 f32 dX2_work_333 (fun f33 f33z => ?_)
                    replace h := h f33
                    replace h := h f33z
                    refine nr_if_ne hx hb f33 dX2_work_334 (tgt := 347) (by decide) (fun c34 => ?_) (fun c34 => ?_)
                    · replace h := h.1 c34
                      exact J347 x4 (x5 + (-1)) x6 ((x5 + (-1)) - 1) S _ _ _ rx4 f29 rx6 f30 hI (lv_sub hl [3, 4, 5, 6, 0, 7] rfl) h
                    · replace h := h.2 c34
                      refine lv_aload_n hx hb dX2_work_337 rfl (lv_at hl 3 rfl) ?_
                      refine gMX2_39_17 hF hK hI dX2_work_338 ?_
                      refine lv_iload hx hb dX2_work_341 (lv_at hl 0 rfl) ?_
                      have f35 := h.1; replace h := h.2
                      refine s_zald hx hb hK hI 7 (by decide) wM_7 f29 f35 dX2_work_343 (fun f36 f36z => ?_)
                      replace h := h f36
                      replace h := h f36z
                      refine nr_if_eq hx hb f36 dX2_work_344 (tgt := 351) (by decide) (fun c37 => ?_) (fun c37 => ?_)
                      · replace h := h.1 c37
                        refine nr_iconst hx hb dX2_work_351 ?_
                        exact J352 x4 (x5 + (-1)) x6 ((x5 + (-1)) - 1) 0 S _ _ _ rx4 f29 rx6 f30 (by decide) hI (lv_sub hl [3, 4, 5, 6, 0, 7] rfl) h
                      · replace h := h.2 c37
                        exact J347 x4 (x5 + (-1)) x6 ((x5 + (-1)) - 1) S _ _ _ rx4 f29 rx6 f30 hI (lv_sub hl [3, 4, 5, 6, 0, 7] rfl) h
                  · replace h := h.2 c31
                    refine lv_aload_n hx hb dX2_work_295 rfl (lv_at hl 3 rfl) ?_
                    refine gMX2_39_17 hF hK hI dX2_work_296 ?_
                    refine lv_iload hx hb dX2_work_299 (lv_at hl 0 rfl) ?_
                    refine nr_iconst hx hb dX2_work_301 ?_
                    refine nr_isub hx hb dX2_work_302 ?_
                    have f38 := h.1; replace h := h.2
                    refine s_zald hx hb hK hI 7 (by decide) wM_7 f30 f38 dX2_work_303 (fun f39 f39z => ?_)
                    replace h := h f39
                    replace h := h f39z
                    refine nr_if_eq hx hb f39 dX2_work_304 (tgt := 321) (by decide) (fun c40 => ?_) (fun c40 => ?_)
                    · replace h := h.1 c40
                      exact J321 x4 (x5 + (-1)) x6 ((x5 + (-1)) - 1) S _ _ _ rx4 f29 rx6 f30 hI (lv_sub hl [3, 4, 5, 6, 0, 7] rfl) h
                    · replace h := h.2 c40
                      refine lv_aload_n hx hb dX2_work_307 rfl (lv_at hl 3 rfl) ?_
                      refine gMX2_39_17 hF hK hI dX2_work_308 ?_
                      refine lv_iload hx hb dX2_work_311 (lv_at hl 0 rfl) ?_
                      have f41 := h.1; replace h := h.2
                      refine s_zald hx hb hK hI 7 (by decide) wM_7 f29 f41 dX2_work_313 (fun f42 f42z => ?_)
                      replace h := h f42
                      replace h := h f42z
                      refine nr_if_eq hx hb f42 dX2_work_314 (tgt := 321) (by decide) (fun c43 => ?_) (fun c43 => ?_)
                      · replace h := h.1 c43
                        exact J321 x4 (x5 + (-1)) x6 ((x5 + (-1)) - 1) S _ _ _ rx4 f29 rx6 f30 hI (lv_sub hl [3, 4, 5, 6, 0, 7] rfl) h
                      · replace h := h.2 c43
                        refine nr_iconst hx hb dX2_work_317 ?_
                        refine lv_goto (tgt := 352) hx hb dX2_work_318 (by decide) ?_
                        exact J352 x4 (x5 + (-1)) x6 ((x5 + (-1)) - 1) 1 S _ _ _ rx4 f29 rx6 f30 (by decide) hI (lv_sub hl [3, 4, 5, 6, 0, 7] rfl) h
                · replace h := h.2 c28
                  refine lv_aload_n hx hb dX2_work_248 rfl (lv_at hl 2 rfl) ?_
                  refine gMX2_39_17 hF hK hI dX2_work_249 ?_
                  refine lv_iload hx hb dX2_work_252 (lv_at hl 6 rfl) ?_
                  refine nr_iconst hx hb dX2_work_254 ?_
                  have f44 := h.1; replace h := h.2
                  refine nr_isub hx hb dX2_work_255 ?_
                  refine lv_aload_n hx hb dX2_work_256 rfl (lv_at hl 2 rfl) ?_
                  refine gMX2_39_17 hF hK hI dX2_work_257 ?_
                  refine lv_iload hx hb dX2_work_260 (lv_at hl 6 rfl) ?_
                  refine nr_iconst hx hb dX2_work_262 ?_
                  refine nr_isub hx hb dX2_work_263 ?_
                  have f45 := h.1; replace h := h.2
                  refine s_zald hx hb hK hI 7 (by decide) wM_7 f44 f45 dX2_work_264 (fun f46 f46z => ?_)
                  replace h := h f46
                  replace h := h f46z
                  refine nr_if_ne hx hb f46 dX2_work_265 (tgt := 272) (by decide) (fun c47 => ?_) (fun c47 => ?_)
                  · replace h := h.1 c47
                    refine nr_iconst hx hb dX2_work_272 ?_
                    exact J273 x4 x5 x6 (x5 - 1) 0 S _ _ _ rx4 rx5 rx6 f44 (by decide) hI (lv_sub hl [2, 3, 4, 5, 6, 7] rfl) h
                  · replace h := h.2 c47
                    refine nr_iconst hx hb dX2_work_268 ?_
                    refine lv_goto (tgt := 273) hx hb dX2_work_269 (by decide) ?_
                    exact J273 x4 x5 x6 (x5 - 1) 1 S _ _ _ rx4 rx5 rx6 f44 (by decide) hI (lv_sub hl [2, 3, 4, 5, 6, 7] rfl) h
              · replace h := h.2 c27
                have f48 := h.1; replace h := h.2
                refine nr_iinc (lv' := [(4, iV (x4 + (-2))), (8, iV v23), (7, iV v19), (0, .ref (ad 17)), (2, iV x2), (3, iV x3), (5, iV x5), (6, iV x6)]) hx hb dX2_work_204 hl (k := 5) rfl (by decide) rfl (fun ls hl => ?_)
                refine lv_aload_n hx hb dX2_work_207 rfl (lv_at hl 3 rfl) ?_
                refine gMX2_39_17 hF hK hI dX2_work_208 ?_
                refine lv_iload hx hb dX2_work_211 (lv_at hl 6 rfl) ?_
                refine lv_iload hx hb dX2_work_213 (lv_at hl 2 rfl) ?_
                refine lv_aload_n hx hb dX2_work_215 rfl (lv_at hl 3 rfl) ?_
                refine gMX2_35_17 hF hK hI dX2_work_216 ?_
                refine lv_iload hx hb dX2_work_219 (lv_at hl 0 rfl) ?_
                have f49 := h.1; replace h := h.2
                refine s_lald hx hb hK hI 6 (by decide) wM_6 f48 f49 dX2_work_221 (fun f50 => ?_)
                replace h := h f50
                refine lv_aload_n hx hb dX2_work_222 rfl (lv_at hl 3 rfl) ?_
                refine gMX2_35_17 hF hK hI dX2_work_223 ?_
                refine lv_iload hx hb dX2_work_226 (lv_at hl 0 rfl) ?_
                refine nr_iconst hx hb dX2_work_228 ?_
                have f51 := h.1; replace h := h.2
                refine nr_iadd hx hb dX2_work_229 ?_
                have f52 := h.1; replace h := h.2
                refine s_lald hx hb hK hI 6 (by decide) wM_6 f51 f52 dX2_work_230 (fun f53 => ?_)
                replace h := h f53
                refine cMX2_299 hF hK hI hl.1 hR (by decide) (Nat.le_of_ble_eq_true rfl) ⟨Nat.zero_le _, Nat.zero_le _⟩ rv19 f50 f53 h dX2_work_231 (fun r54 H locs fr54 h hI => ?_)
                replace h := h fr54
                have gr54 : InR r54 := kdP_R (k := 2) (by decide) fr54
                have f56 := h.1; replace h := h.2
                refine s_zast hx hb hK hI 7 (by decide) wM_7 rx5 f56 fr54 dX2_work_234 (fun S57 H locs eS57 hI => ?_)
                replace h := h S57 eS57
                have f58 := h.1; replace h := h.2
                refine nr_iinc (lv' := [(5, iV (x5 + 1)), (4, iV (x4 + (-2))), (8, iV v23), (7, iV v19), (0, .ref (ad 17)), (2, iV x2), (3, iV x3), (6, iV x6)]) hx hb dX2_work_235 hl (k := 6) rfl (by decide) rfl (fun ls hl => ?_)
                refine lv_goto (tgt := 353) hx hb dX2_work_238 (by decide) ?_
                exact J353 (x4 + (-2)) (x5 + 1) x6 S57 _ _ _ f48 f58 rx6 hI (lv_sub hl [4, 5, 6, 1, 0, 7] rfl) h
            · replace h := h.2 c26
              have f59 := h.1; replace h := h.2
              refine nr_iinc (lv' := [(4, iV (x4 + (-1))), (8, iV v23), (7, iV v19), (0, .ref (ad 17)), (2, iV x2), (3, iV x3), (5, iV x5), (6, iV x6)]) hx hb dX2_work_161 hl (k := 5) rfl (by decide) rfl (fun ls hl => ?_)
              refine lv_aload_n hx hb dX2_work_164 rfl (lv_at hl 3 rfl) ?_
              refine gMX2_35_17 hF hK hI dX2_work_165 ?_
              refine lv_iload hx hb dX2_work_168 (lv_at hl 0 rfl) ?_
              refine nr_iconst hx hb dX2_work_170 ?_
              have f60 := h.1; replace h := h.2
              refine nr_isub hx hb dX2_work_171 ?_
              refine lv_iload hx hb dX2_work_172 (lv_at hl 2 rfl) ?_
              refine lv_aload_n hx hb dX2_work_174 rfl (lv_at hl 3 rfl) ?_
              refine gMX2_35_17 hF hK hI dX2_work_175 ?_
              refine lv_iload hx hb dX2_work_178 (lv_at hl 0 rfl) ?_
              refine nr_iconst hx hb dX2_work_180 ?_
              refine nr_isub hx hb dX2_work_181 ?_
              have f61 := h.1; replace h := h.2
              refine s_lald hx hb hK hI 6 (by decide) wM_6 f60 f61 dX2_work_182 (fun f62 => ?_)
              replace h := h f62
              refine lv_aload_n hx hb dX2_work_183 rfl (lv_at hl 3 rfl) ?_
              refine gMX2_35_17 hF hK hI dX2_work_184 ?_
              refine lv_iload hx hb dX2_work_187 (lv_at hl 0 rfl) ?_
              have f63 := h.1; replace h := h.2
              refine s_lald hx hb hK hI 6 (by decide) wM_6 f59 f63 dX2_work_189 (fun f64 => ?_)
              replace h := h f64
              refine cMX2_295 hF hK hI hl.1 hR (by decide) (Nat.le_of_ble_eq_true rfl) ⟨Nat.zero_le _, Nat.zero_le _⟩ rv19 f62 f64 h dX2_work_190 (fun r65 H locs fr65 h hI => ?_)
              replace h := h fr65
              have f67 := h.1; replace h := h.2
              refine s_last hx hb hK hI 6 (by decide) wM_6 f60 f67 fr65 dX2_work_193 (fun S68 H locs eS68 hI => ?_)
              replace h := h S68 eS68
              refine lv_goto (tgt := 353) hx hb dX2_work_194 (by decide) ?_
              exact J353 (x4 + (-1)) x5 x6 S68 _ _ _ f59 rx5 rx6 hI (lv_sub hl [3, 4, 5, 0, 6, 7] rfl) h
          · replace h := h.2 c25
            refine lv_aload_n hx hb dX2_work_132 rfl (lv_at hl 2 rfl) ?_
            refine gMX2_35_17 hF hK hI dX2_work_133 ?_
            refine lv_iload hx hb dX2_work_136 (lv_at hl 5 rfl) ?_
            refine nr_iconst hx hb dX2_work_138 ?_
            have f69 := h.1; replace h := h.2
            refine nr_isub hx hb dX2_work_139 ?_
            refine lv_aload_n hx hb dX2_work_140 rfl (lv_at hl 2 rfl) ?_
            refine gMX2_35_17 hF hK hI dX2_work_141 ?_
            refine lv_iload hx hb dX2_work_144 (lv_at hl 5 rfl) ?_
            refine nr_iconst hx hb dX2_work_146 ?_
            refine nr_isub hx hb dX2_work_147 ?_
            have f70 := h.1; replace h := h.2
            refine s_lald hx hb hK hI 6 (by decide) wM_6 f69 f70 dX2_work_148 (fun f71 => ?_)
            replace h := h f71
            have f72 := h.1; replace h := h.2
            refine nr_lneg hx hb dX2_work_149 ?_
            have f73 := h.1; replace h := h.2
            refine s_last hx hb hK hI 6 (by decide) wM_6 f69 f73 f72 dX2_work_150 (fun S74 H locs eS74 hI => ?_)
            replace h := h S74 eS74
            refine lv_goto (tgt := 353) hx hb dX2_work_151 (by decide) ?_
            exact J353 x4 x5 x6 S74 _ _ _ rx4 rx5 rx6 hI (lv_sub hl [2, 3, 4, 5, 6, 7] rfl) h
        · replace h := h.2 c24
          refine lv_aload_n hx hb dX2_work_94 rfl (lv_at hl 2 rfl) ?_
          refine gMX2_35_17 hF hK hI dX2_work_95 ?_
          refine lv_iload hx hb dX2_work_98 (lv_at hl 5 rfl) ?_
          refine lv_iload hx hb dX2_work_100 (lv_at hl 1 rfl) ?_
          refine nr_if_ne hx hb rv19 dX2_work_102 (tgt := 111) (by decide) (fun c75 => ?_) (fun c75 => ?_)
          · replace h := h.1 c75
            refine lv_aload_n hx hb dX2_work_111 rfl (lv_at hl 2 rfl) ?_
            refine gMX2_32_17 hF hK hI dX2_work_112 ?_
            refine lv_iload hx hb dX2_work_115 (lv_at hl 0 rfl) ?_
            have f76 := h.1; replace h := h.2
            refine s_iald hx hb hK hI 5 (by decide) wM_5 rv23 f76 dX2_work_117 (fun f77 => ?_)
            replace h := h f77
            refine nr_i2l hx hb f77 dX2_work_118 ?_
            have f78 : InL (aI S 5 v23) := ni_L f77
            exact J119 x4 x5 x6 x4 (aI S 5 v23) S _ _ _ rx4 rx5 rx6 rx4 f78 hI (lv_sub hl [2, 3, 4, 5, 6, 7] rfl) h
          · replace h := h.2 c75
            refine lv_iload hx hb dX2_work_105 (lv_at hl 0 rfl) ?_
            refine nr_i2l hx hb rv23 dX2_work_107 ?_
            have f79 : InL (v23) := ni_L rv23
            refine lv_goto (tgt := 119) hx hb dX2_work_108 (by decide) ?_
            exact J119 x4 x5 x6 x4 v23 S _ _ _ rx4 rx5 rx6 rx4 f79 hI (lv_sub hl [2, 3, 4, 5, 6, 7] rfl) h
  unfold w_M_work at h
  refine nr_sipush hx hb dX2_work_0 (by decide) ?_
  refine lv_aload_n hx hb dX2_work_3 rfl (lv_at hl 0 rfl) ?_
  refine gMX2_7_17 hF hK hI dX2_work_4 ?_
  refine nr_iconst hx hb dX2_work_7 ?_
  refine s_iald hx hb hK hI 0 (by decide) wM_0 (by decide) (by decide) dX2_work_8 (fun f80 => ?_)
  replace h := h f80
  have f81 := h.1; replace h := h.2
  refine nr_imul hx hb dX2_work_9 ?_
  refine nr_iconst hx hb dX2_work_10 ?_
  have f82 := h.1; replace h := h.2
  refine nr_iadd hx hb dX2_work_11 ?_
  refine nr_iconst hx hb dX2_work_12 ?_
  refine lv_iload_n hx hb dX2_work_13 rfl (lv_at hl 1 rfl) ?_
  have f83 := h.1; replace h := h.2
  refine nr_imul hx hb dX2_work_14 ?_
  have f84 := h.1; replace h := h.2
  refine nr_iadd hx hb dX2_work_15 ?_
  refine nr_topi (fun v85 ev85 => ?_)
  have rv85 : InR v85 := by rw [ev85]; exact f84
  replace h := h v85 ev85 rv85
  refine lv_istore_n (lv' := [(2, iV v85), (0, .ref (ad 17)), (1, iV x1)]) hx hb dX2_work_16 rfl hl (by decide) rfl (fun ls hl => ?_)
  refine nr_sipush hx hb dX2_work_17 (by decide) ?_
  refine lv_aload_n hx hb dX2_work_20 rfl (lv_at hl 1 rfl) ?_
  refine gMX2_7_17 hF hK hI dX2_work_21 ?_
  refine nr_iconst hx hb dX2_work_24 ?_
  refine s_iald hx hb hK hI 0 (by decide) wM_0 (by decide) (by decide) dX2_work_25 (fun f86 => ?_)
  refine nr_imul hx hb dX2_work_26 ?_
  refine nr_bipush hx hb dX2_work_27 (by decide) ?_
  have f87 := h.1; replace h := h.2
  refine nr_iadd hx hb dX2_work_29 ?_
  refine nr_topi (fun v88 ev88 => ?_)
  have rv88 : InR v88 := by rw [ev88]; exact f87
  replace h := h v88 ev88 rv88
  refine lv_istore_n (lv' := [(3, iV v88), (2, iV v85), (0, .ref (ad 17)), (1, iV x1)]) hx hb dX2_work_30 rfl hl (by decide) rfl (fun ls hl => ?_)
  refine nr_iconst hx hb dX2_work_31 ?_
  refine lv_istore (lv' := [(4, iV 0), (3, iV v88), (2, iV v85), (0, .ref (ad 17)), (1, iV x1)]) hx hb dX2_work_32 hl (by decide) rfl (fun ls hl => ?_)
  refine nr_iconst hx hb dX2_work_34 ?_
  refine lv_istore (lv' := [(5, iV 0), (4, iV 0), (3, iV v88), (2, iV v85), (0, .ref (ad 17)), (1, iV x1)]) hx hb dX2_work_35 hl (by decide) rfl (fun ls hl => ?_)
  refine lv_aload_n hx hb dX2_work_37 rfl (lv_at hl 4 rfl) ?_
  refine gMX2_16_17 hF hK hI dX2_work_38 ?_
  refine lv_iload_n hx hb dX2_work_41 rfl (lv_at hl 3 rfl) ?_
  refine nr_iconst hx hb dX2_work_42 ?_
  have f89 := h.1; replace h := h.2
  refine nr_iadd hx hb dX2_work_43 ?_
  have f90 := h.1; replace h := h.2
  refine s_iald hx hb hK hI 2 (by decide) wM_2 f89 f90 dX2_work_44 (fun f91 => ?_)
  replace h := h f91
  refine nr_topi (fun v92 ev92 => ?_)
  have rv92 : InR v92 := by rw [ev92]; exact f91
  replace h := h v92 ev92 rv92
  refine lv_istore (lv' := [(6, iV v92), (5, iV 0), (4, iV 0), (3, iV v88), (2, iV v85), (0, .ref (ad 17)), (1, iV x1)]) hx hb dX2_work_45 hl (by decide) rfl (fun ls hl => ?_)
  obtain ⟨n0, h⟩ := h
  exact L47 v85 v88 rv85 rv88 n0 0 0 v92 S _ _ _ (by decide) (by decide) rv92 hI (lv_sub hl [5, 4, 3, 2, 1, 0] rfl) h
theorem cMX2_106 {p : Program} {l : Launch} {e : Env} {R : Room} {s : State} {m : MethodId} {args : Array Value} {below : List Frame} {meth : Method} {c : Code} {H : Heap} {locs : List Loc} {Q : State → Prop} {cc : ByteArray} {nL pc : Nat} {ls : Array Slot} {rest : List Value} {cells slots : Nat} {D : va_G} {dA : Nat → ClassId} {ad : Nat → Nat} {A : Nat → Prop} {H0 : Heap} {S : St} {dk : Nat} (hF : CallFix p m c cc nL s args lw_all RX2) (hK : gK D dA s) (hI : sI D dA wM ad A H0 S H locs) (hls : ls.size = nL) (hR : R.frames = dk + 1 ∧ R.locals = 64 * dk + 64) (hd : 1 + 1 ≤ dk) (hW : (rest.map fun v => v.category).sum ≤ 8) (hf : cells ≤ R.cells ∧ slots ≤ R.slots) {x1 : Int} {x2 : Int} {K : St → Prop} (r1 : InR x1) (r2 : InR x2) (h : w_M_name x1 x2 S K) (hdg : decode cc pc = .ok (.invokevirtual 106, 3)) (kk : ∀ (S1 : St) (H1 : Heap) (locs1 : List Loc), K S1 → sI D dA wM ad A H0 S1 H1 locs1 → W p l e R s m args below meth c H1 locs1 cells slots Q (F0 m (pc + 3) ls (rest))) : W p l e R s m args below meth c H locs cells slots Q (F0 m (pc) ls (iV x2 :: iV x1 :: .ref (ad 17) :: rest)) := s_callVv (As := [iV x1, iV x2]) (rest := rest) (K := K) hF (t_M_name l D dA ad S H.size x1 x2 K r1 r2 h) (s_recv hK hI 17 (by decide) wM_17 rfl) (cwV 2 hF.2.2.2.2 (lw_V q1336 q1338 qs55 q109 q1339) rfl rfl rfl (by decide +kernel) ⟨by have h1 := hR.1; have h2 : (rmD 1 0 0).frames = 1 + 1 := rfl; omega, by have h1 := hR.2; have h2 : (rmD 1 0 0).locals = 64 * 1 + 64 := rfl; omega⟩) hK hI rfl hls rfl hW hdg hf kk
theorem cMX2_110 {p : Program} {l : Launch} {e : Env} {R : Room} {s : State} {m : MethodId} {args : Array Value} {below : List Frame} {meth : Method} {c : Code} {H : Heap} {locs : List Loc} {Q : State → Prop} {cc : ByteArray} {nL pc : Nat} {ls : Array Slot} {rest : List Value} {cells slots : Nat} {D : va_G} {dA : Nat → ClassId} {ad : Nat → Nat} {A : Nat → Prop} {H0 : Heap} {S : St} {dk : Nat} (hF : CallFix p m c cc nL s args lw_all RX2) (hK : gK D dA s) (hI : sI D dA wM ad A H0 S H locs) (hls : ls.size = nL) (hR : R.frames = dk + 1 ∧ R.locals = 64 * dk + 64) (hd : 2 + 1 ≤ dk) (hW : (rest.map fun v => v.category).sum ≤ 8) (hf : cells ≤ R.cells ∧ slots ≤ R.slots) {x1 : Int} {K : St → Prop} (r1 : InR x1) (h : w_M_work x1 S K) (hdg : decode cc pc = .ok (.invokevirtual 110, 3)) (kk : ∀ (S1 : St) (H1 : Heap) (locs1 : List Loc), K S1 → sI D dA wM ad A H0 S1 H1 locs1 → W p l e R s m args below meth c H1 locs1 cells slots Q (F0 m (pc + 3) ls (rest))) : W p l e R s m args below meth c H locs cells slots Q (F0 m (pc) ls (iV x1 :: .ref (ad 17) :: rest)) := s_callVv (As := [iV x1]) (rest := rest) (K := K) hF (t_M_work l D dA ad S H.size x1 K r1 h) (s_recv hK hI 17 (by decide) wM_17 rfl) (cwV 1 hF.2.2.2.2 (lw_V q1343 q1345 qs56 q109 q1346) rfl rfl rfl (by decide +kernel) ⟨by have h1 := hR.1; have h2 : (rmD 2 0 0).frames = 2 + 1 := rfl; omega, by have h1 := hR.2; have h2 : (rmD 2 0 0).locals = 64 * 2 + 64 := rfl; omega⟩) hK hI rfl hls rfl hW hdg hf kk
theorem cMX2_103 {p : Program} {l : Launch} {e : Env} {R : Room} {s : State} {m : MethodId} {args : Array Value} {below : List Frame} {meth : Method} {c : Code} {H : Heap} {locs : List Loc} {Q : State → Prop} {cc : ByteArray} {nL pc : Nat} {ls : Array Slot} {rest : List Value} {cells slots : Nat} {D : va_G} {dA : Nat → ClassId} {ad : Nat → Nat} {A : Nat → Prop} {H0 : Heap} {S : St} {dk : Nat} (hF : CallFix p m c cc nL s args lw_all RX2) (hK : gK D dA s) (hI : sI D dA wM ad A H0 S H locs) (hls : ls.size = nL) (hR : R.frames = dk + 1 ∧ R.locals = 64 * dk + 64) (hd : 0 + 1 ≤ dk) (hW : (rest.map fun v => v.category).sum ≤ 8) (hf : cells ≤ R.cells ∧ slots ≤ R.slots) {x1 : Int} {K : Int → Prop} (r1 : InR x1) (h : w_M_clauseOf x1 S K) (hdg : decode cc pc = .ok (.invokevirtual 103, 3)) (kk : ∀ (r : Int) (H1 : Heap) (locs1 : List Loc), InR r → K r → sI D dA wM ad A H0 S H1 locs1 → W p l e R s m args below meth c H1 locs1 cells slots Q (F0 m (pc + 3) ls (iV r :: rest))) : W p l e R s m args below meth c H locs cells slots Q (F0 m (pc) ls (iV x1 :: .ref (ad 17) :: rest)) := s_callVi (As := [iV x1]) (rest := rest) (K := fun r S' => S' = S ∧ K r) hF (t_M_clauseOf l D dA ad S H.size x1 K r1 h) (s_recv hK hI 17 (by decide) wM_17 rfl) (cwV 1 hF.2.2.2.2 (lw_V q1332 q1334 qs54 q109 q1335) rfl rfl rfl (by decide +kernel) ⟨by have h1 := hR.1; have h2 : (rmD 0 0 0).frames = 0 + 1 := rfl; omega, by have h1 := hR.2; have h2 : (rmD 0 0 0).locals = 64 * 0 + 64 := rfl; omega⟩) hK hI rfl hls rfl hW hdg hf (fun r S1 H1 locs1 f hk hI1 => by obtain ⟨rfl, hk⟩ := hk; exact kk r H1 locs1 f hk hI1)
set_option maxHeartbeats 4000000 in
theorem t_M_passOne (l : Launch) (D : va_G) (dA : Nat → ClassId) (ad : Nat → Nat) (S : St) (sz : Nat) (K : St → Prop) (h : w_M_passOne S K) : Met l yX2_passOne (ws_ yX2_passOne cX2_passOne 6 (Option.none : Option Jvm.ClassFile.FieldType)) (rmD 3 0 0) (va_Pc [.ref (ad 17)] (sPre D dA wM ad S sz)) (va_Qv (fun S' => K S') (sPost D dA wM ad (wA wM ad S sz)) (wA wM ad S sz)) 0 0 (wA wM ad S sz) := by
  refine Met.ofW (cc := cX2_passOne) (maxL := 6) (ret := (Option.none : Option Jvm.ClassFile.FieldType)) (by decide) rfl ?_
  intro p e s m args below meth c s₁ B hml hv
  obtain ⟨rfl, hsz, hK, hC⟩ := hv
  have hx := B.exec
  have hb := B.bytes
  have hr := B.returns
  have hlocks := B.notSynchronized
  have hts := atoms_spec (ws := (ws_ yX2_passOne cX2_passOne 6 (Option.none : Option Jvm.ClassFile.FieldType))) B.pre
  have hts : ∀ w ∈ lw_all, w.before _ s = true := fun w h => hts w (List.mem_cons_of_mem _ h)
  have hown : s.vm.findClass RX2 = some m.cls := findClass_of_methodNamed B.named
  clear B
  subst hsz
  have hI : sI D dA wM ad (wA wM ad S s.heap.size) s.heap S s.heap [] := hC.start
  clear hC
  generalize wA wM ad S s.heap.size = A at hI ⊢
  have hl := lv_entry ([.ref (ad 17)] : List Value) (n := 6) (Nat.le_of_ble_eq_true rfl)
  rw [lg_entry_eq]
  generalize (lg_sl ([.ref (ad 17)] : List Value) ++ List.replicate (6 - (lg_sl ([.ref (ad 17)] : List Value)).length) Slot.unset).toArray = ls at hl ⊢
  have hl : lv_has ls 6 [(0, .ref (ad 17))] := hl
  have hF : CallFix p m c cX2_passOne 6 s _ lw_all RX2 := ⟨hx, hb, hml, hown, hts⟩
  have hR : (headSpec (ws_ yX2_passOne cX2_passOne 6 (Option.none : Option Jvm.ClassFile.FieldType)) (rmD 3 0 0)).room.frames = 3 + 1 ∧ (headSpec (ws_ yX2_passOne cX2_passOne 6 (Option.none : Option Jvm.ClassFile.FieldType)) (rmD 3 0 0)).room.locals = 64 * 3 + 64 := ⟨rfl, rfl⟩
  generalize (headSpec (ws_ yX2_passOne cX2_passOne 6 (Option.none : Option Jvm.ClassFile.FieldType)) (rmD 3 0 0)).room = R at hR ⊢
  generalize ([.ref (ad 17)] : List Value).toArray = args at hts hF ⊢
  generalize hQ : MQ below _ _ _ _ _ _ = Q
  have L18 : ∀ (x1 : Int), InR x1 → ∀ (n18 : Nat) (x2 : Int) (S : St) (H : Heap) (locs : List Loc) (ls : Array Slot), InR x2 → sI D dA wM ad A s.heap S H locs → lv_has ls 6 [(0, .ref (ad 17)), (1, iV x1), (2, iV x2)] → l_M_passOne_18 x1 K n18 x2 S → W p l e R s m args below meth c H locs 0 0 Q (F0 m 18 ls []) := by
    intro x1 rx1 n18
    induction n18 with
    | zero => intro x2 S H locs ls rx2 hI hl h; exact False.elim h
    | succ n18 ih18 =>
      intro x2 S H locs ls rx2 hI hl h
      have J148 : ∀ (x2 : Int) (S : St) (H : Heap) (locs : List Loc) (ls : Array Slot), InR x2 → sI D dA wM ad A s.heap S H locs → lv_has ls 6 [(0, .ref (ad 17)), (1, iV x1), (2, iV x2)] → j_M_passOne_148 x1 x2 S K (l_M_passOne_18 x1 K n18) → W p l e R s m args below meth c H locs 0 0 Q (F0 m 148 ls []) := by
        intro x2 S H locs ls rx2 hI hl h
        unfold j_M_passOne_148 at h
        have f1 := h.1; replace h := h.2
        refine nr_iinc (lv' := [(2, iV (x2 + 1)), (0, .ref (ad 17)), (1, iV x1)]) hx hb dX2_passOne_148 hl (k := 2) rfl (by decide) rfl (fun ls hl => ?_)
        refine lv_goto (tgt := 18) hx hb dX2_passOne_151 (by decide) ?_
        exact ih18 (x2 + 1) S _ _ _ f1 hI (lv_sub hl [1, 2, 0] rfl) h
      have J103 : ∀ (x2 : Int) (x3 : Int) (S : St) (H : Heap) (locs : List Loc) (ls : Array Slot), InR x2 → InR x3 → sI D dA wM ad A s.heap S H locs → lv_has ls 6 [(0, .ref (ad 17)), (1, iV x1), (2, iV x2), (3, iV x3)] → j_M_passOne_103 x1 x2 x3 S K (l_M_passOne_18 x1 K n18) → W p l e R s m args below meth c H locs 0 0 Q (F0 m 103 ls []) := by
        intro x2 x3 S H locs ls rx2 rx3 hI hl h
        unfold j_M_passOne_103 at h
        refine lv_aload_n hx hb dX2_passOne_103 rfl (lv_at hl 0 rfl) ?_
        refine gMX2_7_17 hF hK hI dX2_passOne_104 ?_
        refine lv_iload_n hx hb dX2_passOne_107 rfl (lv_at hl 3 rfl) ?_
        refine nr_iconst hx hb dX2_passOne_108 ?_
        have f2 := h.1; replace h := h.2
        refine nr_iadd hx hb dX2_passOne_109 ?_
        have f3 := h.1; replace h := h.2
        refine s_iald hx hb hK hI 0 (by decide) wM_0 f2 f3 dX2_passOne_110 (fun f4 => ?_)
        replace h := h f4
        refine lv_aload_n hx hb dX2_passOne_111 rfl (lv_at hl 0 rfl) ?_
        refine gMX2_7_17 hF hK hI dX2_passOne_112 ?_
        refine nr_iconst hx hb dX2_passOne_115 ?_
        refine s_iald hx hb hK hI 0 (by decide) wM_0 (by decide) (by decide) dX2_passOne_116 (fun f5 => ?_)
        replace h := h f5
        refine nr_icmp_eq hx hb f4 f5 dX2_passOne_117 (tgt := 123) (by decide) (fun c6 => ?_) (fun c6 => ?_)
        · replace h := h.1 c6
          refine lv_aload_n hx hb dX2_passOne_123 rfl (lv_at hl 0 rfl) ?_
          refine gMX2_7_17 hF hK hI dX2_passOne_124 ?_
          refine lv_iload_n hx hb dX2_passOne_127 rfl (lv_at hl 3 rfl) ?_
          refine nr_iconst hx hb dX2_passOne_128 ?_
          have f7 := h.1; replace h := h.2
          refine nr_iadd hx hb dX2_passOne_129 ?_
          refine lv_aload_n hx hb dX2_passOne_130 rfl (lv_at hl 0 rfl) ?_
          refine gMX2_7_17 hF hK hI dX2_passOne_131 ?_
          refine lv_iload_n hx hb dX2_passOne_134 rfl (lv_at hl 3 rfl) ?_
          refine nr_iconst hx hb dX2_passOne_135 ?_
          have f8 := h.1; replace h := h.2
          refine nr_iadd hx hb dX2_passOne_136 ?_
          have f9 := h.1; replace h := h.2
          refine s_iald hx hb hK hI 0 (by decide) wM_0 f8 f9 dX2_passOne_137 (fun f10 => ?_)
          replace h := h f10
          have f11 := h.1; replace h := h.2
          refine s_iast hx hb hK hI 0 (by decide) wM_0 f7 f11 f10 dX2_passOne_138 (fun S12 H locs eS12 hI => ?_)
          replace h := h S12 eS12
          refine lv_aload_n hx hb dX2_passOne_139 rfl (lv_at hl 0 rfl) ?_
          refine gMX2_7_17 hF hK hI dX2_passOne_140 ?_
          refine lv_iload_n hx hb dX2_passOne_143 rfl (lv_at hl 3 rfl) ?_
          refine nr_iconst hx hb dX2_passOne_144 ?_
          refine nr_iadd hx hb dX2_passOne_145 ?_
          refine nr_iconst hx hb dX2_passOne_146 ?_
          have f13 := h.1; replace h := h.2
          refine s_iast hx hb hK hI 0 (by decide) wM_0 f2 f13 (show InR ((-1)) by decide) dX2_passOne_147 (fun S14 H locs eS14 hI => ?_)
          replace h := h S14 eS14
          exact J148 x2 S14 _ _ _ rx2 hI (lv_sub hl [0, 1, 2] rfl) h
        · replace h := h.2 c6
          refine lv_goto (tgt := 148) hx hb dX2_passOne_120 (by decide) ?_
          exact J148 x2 S _ _ _ rx2 hI (lv_sub hl [0, 1, 2] rfl) h
      have J102 : ∀ (x2 : Int) (x3 : Int) (y1 : Int) (y2 : Int) (S : St) (H : Heap) (locs : List Loc) (ls : Array Slot), InR x2 → InR x3 → InR y1 → InR y2 → sI D dA wM ad A s.heap S H locs → lv_has ls 6 [(0, .ref (ad 17)), (1, iV x1), (2, iV x2), (3, iV x3)] → j_M_passOne_102 x1 x2 x3 y1 y2 S K (l_M_passOne_18 x1 K n18) → W p l e R s m args below meth c H locs 0 0 Q (F0 m 102 ls [iV y2, iV y1, .ref (ad 0)]) := by
        intro x2 x3 y1 y2 S H locs ls rx2 rx3 ry1 ry2 hI hl h
        unfold j_M_passOne_102 at h
        have f15 := h.1; replace h := h.2
        refine s_iast hx hb hK hI 0 (by decide) wM_0 ry1 f15 ry2 dX2_passOne_102 (fun S16 H locs eS16 hI => ?_)
        replace h := h S16 eS16
        exact J103 x2 x3 S16 _ _ _ rx2 rx3 hI (lv_sub hl [0, 1, 2, 3] rfl) h
      have J78 : ∀ (x2 : Int) (x3 : Int) (y0 : Int) (y1 : Int) (S : St) (H : Heap) (locs : List Loc) (ls : Array Slot), InR x2 → InR x3 → InL y0 → InL y1 → sI D dA wM ad A s.heap S H locs → lv_has ls 6 [(0, .ref (ad 17)), (1, iV x1), (2, iV x2), (3, iV x3)] → j_M_passOne_78 x1 x2 x3 y0 y1 S K (l_M_passOne_18 x1 K n18) → W p l e R s m args below meth c H locs 0 0 Q (F0 m 78 ls [jV y1, jV y0]) := by
        intro x2 x3 y0 y1 S H locs ls rx2 rx3 ry0 ry1 hI hl h
        unfold j_M_passOne_78 at h
        have f17 := h.1; replace h := h.2
        refine nr_lsub hx hb dX2_passOne_78 ?_
        refine nr_topj (fun v18 ev18 => ?_)
        have rv18 : InL v18 := by rw [ev18]; exact f17
        replace h := h v18 ev18 rv18
        refine lv_lstore (lv' := [(4, jV v18), (0, .ref (ad 17)), (1, iV x1), (2, iV x2), (3, iV x3)]) hx hb dX2_passOne_79 hl (by decide) rfl (fun ls hl => ?_)
        refine lv_aload_n hx hb dX2_passOne_81 rfl (lv_at hl 1 rfl) ?_
        refine gMX2_7_17 hF hK hI dX2_passOne_82 ?_
        refine lv_iload_n hx hb dX2_passOne_85 rfl (lv_at hl 4 rfl) ?_
        refine nr_iconst hx hb dX2_passOne_86 ?_
        have f19 := h.1; replace h := h.2
        refine nr_iadd hx hb dX2_passOne_87 ?_
        refine lv_lload hx hb dX2_passOne_88 (lv_at hl 0 rfl) ?_
        refine nr_lconst (v := 1) hx hb dX2_passOne_90 rfl ?_
        refine nr_lcmp_ge hx hb rv18 (by decide) dX2_passOne_91 dX2_passOne_92 (tgt := 99) (by decide) (fun c20 => ?_) (fun c20 => ?_)
        · replace h := h.1 c20
          refine lv_lload hx hb dX2_passOne_99 (lv_at hl 0 rfl) ?_
          have f21 := h.1; replace h := h.2
          refine nr_l2i hx hb dX2_passOne_101 ?_
          exact J102 x2 x3 (x3 + 1) v18 S _ _ _ rx2 rx3 f19 f21 hI (lv_sub hl [1, 2, 3, 4] rfl) h
        · replace h := h.2 c20
          refine nr_iconst hx hb dX2_passOne_95 ?_
          refine lv_goto (tgt := 102) hx hb dX2_passOne_96 (by decide) ?_
          exact J102 x2 x3 (x3 + 1) 1 S _ _ _ rx2 rx3 f19 (by decide) hI (lv_sub hl [1, 2, 3, 4] rfl) h
      unfold l_M_passOne_18 at h
      refine lv_iload_n hx hb dX2_passOne_18 rfl (lv_at hl 2 rfl) ?_
      refine lv_aload_n hx hb dX2_passOne_19 rfl (lv_at hl 0 rfl) ?_
      refine gMX2_7_17 hF hK hI dX2_passOne_20 ?_
      refine nr_iconst hx hb dX2_passOne_23 ?_
      refine s_iald hx hb hK hI 0 (by decide) wM_0 (by decide) (by decide) dX2_passOne_24 (fun f22 => ?_)
      replace h := h f22
      refine nr_icmp_ge hx hb rx2 f22 dX2_passOne_25 (tgt := 154) (by decide) (fun c23 => ?_) (fun c23 => ?_)
      · replace h := h.1 c23
        rw [← hQ]; exact s_vret (K := K) hx hb hr hlocks hI  h dX2_passOne_154
      · replace h := h.2 c23
        refine lv_iload_n hx hb dX2_passOne_28 rfl (lv_at hl 2 rfl) ?_
        refine cMX2_87 hF hK hI hl.1 hR (by decide) (Nat.le_of_ble_eq_true rfl) ⟨Nat.zero_le _, Nat.zero_le _⟩ rx2 h dX2_passOne_29 (fun r24 H locs fr24 h hI => ?_)
        replace h := h fr24
        refine lv_istore_n (lv' := [(3, iV r24), (0, .ref (ad 17)), (1, iV x1), (2, iV x2)]) hx hb dX2_passOne_32 rfl hl (by decide) rfl (fun ls hl => ?_)
        refine lv_iload_n hx hb dX2_passOne_33 rfl (lv_at hl 2 rfl) ?_
        refine nr_if_lt hx hb rx1 dX2_passOne_34 (tgt := 103) (by decide) (fun c26 => ?_) (fun c26 => ?_)
        · replace h := h.1 c26
          exact J103 x2 r24 S _ _ _ rx2 fr24 hI (lv_sub hl [1, 2, 3, 0] rfl) h
        · replace h := h.2 c26
          refine lv_aload_n hx hb dX2_passOne_37 rfl (lv_at hl 1 rfl) ?_
          refine lv_iload_n hx hb dX2_passOne_38 rfl (lv_at hl 3 rfl) ?_
          refine nr_iconst hx hb dX2_passOne_39 ?_
          refine cMX2_106 hF hK hI hl.1 hR (by decide) (Nat.le_of_ble_eq_true rfl) ⟨Nat.zero_le _, Nat.zero_le _⟩ rx2 (by decide) h dX2_passOne_40 (fun S28 H locs h hI => ?_)
          refine lv_aload_n hx hb dX2_passOne_43 rfl (lv_at hl 1 rfl) ?_
          refine lv_iload_n hx hb dX2_passOne_44 rfl (lv_at hl 2 rfl) ?_
          refine cMX2_110 hF hK hI hl.1 hR (by decide) (Nat.le_of_ble_eq_true rfl) ⟨Nat.zero_le _, Nat.zero_le _⟩ rx1 h dX2_passOne_45 (fun S30 H locs h hI => ?_)
          refine lv_aload_n hx hb dX2_passOne_48 rfl (lv_at hl 1 rfl) ?_
          refine gMX2_7_17 hF hK hI dX2_passOne_49 ?_
          refine lv_iload_n hx hb dX2_passOne_52 rfl (lv_at hl 0 rfl) ?_
          refine nr_iconst hx hb dX2_passOne_53 ?_
          have f31 := h.1; replace h := h.2
          refine nr_iadd hx hb dX2_passOne_54 ?_
          have f32 := h.1; replace h := h.2
          refine s_iald hx hb hK hI 0 (by decide) wM_0 f31 f32 dX2_passOne_55 (fun f33 => ?_)
          replace h := h f33
          refine nr_i2l hx hb f33 dX2_passOne_56 ?_
          have f34 : InL (aI S30 0 (r24 + 1)) := ni_L f33
          refine lv_aload_n hx hb dX2_passOne_57 rfl (lv_at hl 1 rfl) ?_
          refine gMX2_35_17 hF hK hI dX2_passOne_58 ?_
          refine nr_iconst hx hb dX2_passOne_61 ?_
          refine s_lald hx hb hK hI 6 (by decide) wM_6 (by decide) (by decide) dX2_passOne_62 (fun f35 => ?_)
          replace h := h f35
          refine nr_lconst (v := 0) hx hb dX2_passOne_63 rfl ?_
          refine nr_lcmp_ge hx hb f35 (by decide) dX2_passOne_64 dX2_passOne_65 (tgt := 72) (by decide) (fun c36 => ?_) (fun c36 => ?_)
          · replace h := h.1 c36
            refine lv_aload_n hx hb dX2_passOne_72 rfl (lv_at hl 1 rfl) ?_
            refine gMX2_35_17 hF hK hI dX2_passOne_73 ?_
            refine nr_iconst hx hb dX2_passOne_76 ?_
            refine s_lald hx hb hK hI 6 (by decide) wM_6 (by decide) (by decide) dX2_passOne_77 (fun f37 => ?_)
            exact J78 x2 r24 (aI S30 0 (r24 + 1)) (aI S30 6 0) S30 _ _ _ rx2 fr24 f34 f35 hI (lv_sub hl [1, 2, 3, 0] rfl) h
          · replace h := h.2 c36
            refine nr_lconst (v := 0) hx hb dX2_passOne_68 rfl ?_
            refine lv_goto (tgt := 78) hx hb dX2_passOne_69 (by decide) ?_
            exact J78 x2 r24 (aI S30 0 (r24 + 1)) 0 S30 _ _ _ rx2 fr24 f34 (by decide) hI (lv_sub hl [1, 2, 3, 0] rfl) h
  unfold w_M_passOne at h
  refine lv_aload_n hx hb dX2_passOne_0 rfl (lv_at hl 0 rfl) ?_
  refine gMX2_7_17 hF hK hI dX2_passOne_1 ?_
  refine nr_iconst hx hb dX2_passOne_4 ?_
  refine lv_dup2_11 hx hb dX2_passOne_5 rfl rfl ?_
  refine s_iald hx hb hK hI 0 (by decide) wM_0 (by decide) (by decide) dX2_passOne_6 (fun f38 => ?_)
  replace h := h f38
  refine nr_iconst hx hb dX2_passOne_7 ?_
  have f39 := h.1; replace h := h.2
  refine nr_iadd hx hb dX2_passOne_8 ?_
  refine s_iast hx hb hK hI 0 (by decide) wM_0 (by decide) (by decide) f39 dX2_passOne_9 (fun S40 H locs eS40 hI => ?_)
  replace h := h S40 eS40
  refine lv_aload_n hx hb dX2_passOne_10 rfl (lv_at hl 0 rfl) ?_
  refine nr_iconst hx hb dX2_passOne_11 ?_
  refine cMX2_103 hF hK hI hl.1 hR (by decide) (Nat.le_of_ble_eq_true rfl) ⟨Nat.zero_le _, Nat.zero_le _⟩ (by decide) h dX2_passOne_12 (fun r41 H locs fr41 h hI => ?_)
  replace h := h fr41
  refine lv_istore_n (lv' := [(1, iV r41), (0, .ref (ad 17))]) hx hb dX2_passOne_15 rfl hl (by decide) rfl (fun ls hl => ?_)
  refine nr_iconst hx hb dX2_passOne_16 ?_
  refine lv_istore_n (lv' := [(2, iV 0), (1, iV r41), (0, .ref (ad 17))]) hx hb dX2_passOne_17 rfl hl (by decide) rfl (fun ls hl => ?_)
  obtain ⟨n0, h⟩ := h
  exact L18 r41 fr41 n0 0 S40 _ _ _ (by decide) hI (lv_sub hl [2, 1, 0] rfl) h
theorem cMX2_100 {p : Program} {l : Launch} {e : Env} {R : Room} {s : State} {m : MethodId} {args : Array Value} {below : List Frame} {meth : Method} {c : Code} {H : Heap} {locs : List Loc} {Q : State → Prop} {cc : ByteArray} {nL pc : Nat} {ls : Array Slot} {rest : List Value} {cells slots : Nat} {D : va_G} {dA : Nat → ClassId} {ad : Nat → Nat} {A : Nat → Prop} {H0 : Heap} {S : St} {dk : Nat} (hF : CallFix p m c cc nL s args lw_all RX2) (hK : gK D dA s) (hI : sI D dA wM ad A H0 S H locs) (hls : ls.size = nL) (hR : R.frames = dk + 1 ∧ R.locals = 64 * dk + 64) (hd : 3 + 1 ≤ dk) (hW : (rest.map fun v => v.category).sum ≤ 8) (hf : cells ≤ R.cells ∧ slots ≤ R.slots) {K : St → Prop} (h : w_M_passOne S K) (hdg : decode cc pc = .ok (.invokevirtual 100, 3)) (kk : ∀ (S1 : St) (H1 : Heap) (locs1 : List Loc), K S1 → sI D dA wM ad A H0 S1 H1 locs1 → W p l e R s m args below meth c H1 locs1 cells slots Q (F0 m (pc + 3) ls (rest))) : W p l e R s m args below meth c H locs cells slots Q (F0 m (pc) ls (.ref (ad 17) :: rest)) := s_callVv (As := []) (rest := rest) (K := K) hF (t_M_passOne l D dA ad S H.size K h) (s_recv hK hI 17 (by decide) wM_17 rfl) (cwV 0 hF.2.2.2.2 (lw_V q1328 q1330 qs53 q109 q1331) rfl rfl rfl (by decide +kernel) ⟨by have h1 := hR.1; have h2 : (rmD 3 0 0).frames = 3 + 1 := rfl; omega, by have h1 := hR.2; have h2 : (rmD 3 0 0).locals = 64 * 3 + 64 := rfl; omega⟩) hK hI rfl hls rfl hW hdg hf kk
set_option maxHeartbeats 4000000 in
theorem t_M_pass (l : Launch) (D : va_G) (dA : Nat → ClassId) (ad : Nat → Nat) (S : St) (sz : Nat) (x1 : Int) (K : Int → St → Prop) (rx1 : InR x1) (h : w_M_pass x1 S K) : Met l yX2_pass (ws_ yX2_pass cX2_pass 3 (Option.some Jvm.ClassFile.FieldType.int)) (rmD 4 0 0) (va_Pc [.ref (ad 17), iV x1] (sPre D dA wM ad S sz)) (va_Qi (fun r S' => K r.toInt S') (sPost D dA wM ad (wA wM ad S sz)) (wA wM ad S sz)) 0 0 (wA wM ad S sz) := by
  refine Met.ofW (cc := cX2_pass) (maxL := 3) (ret := (Option.some Jvm.ClassFile.FieldType.int)) (by decide) rfl ?_
  intro p e s m args below meth c s₁ B hml hv
  obtain ⟨rfl, hsz, hK, hC⟩ := hv
  have hx := B.exec
  have hb := B.bytes
  have hr := B.returns
  have hlocks := B.notSynchronized
  have hts := atoms_spec (ws := (ws_ yX2_pass cX2_pass 3 (Option.some Jvm.ClassFile.FieldType.int))) B.pre
  have hts : ∀ w ∈ lw_all, w.before _ s = true := fun w h => hts w (List.mem_cons_of_mem _ h)
  have hown : s.vm.findClass RX2 = some m.cls := findClass_of_methodNamed B.named
  clear B
  subst hsz
  have hI : sI D dA wM ad (wA wM ad S s.heap.size) s.heap S s.heap [] := hC.start
  clear hC
  generalize wA wM ad S s.heap.size = A at hI ⊢
  have hl := lv_entry ([.ref (ad 17), iV x1] : List Value) (n := 3) (Nat.le_of_ble_eq_true rfl)
  rw [lg_entry_eq]
  generalize (lg_sl ([.ref (ad 17), iV x1] : List Value) ++ List.replicate (3 - (lg_sl ([.ref (ad 17), iV x1] : List Value)).length) Slot.unset).toArray = ls at hl ⊢
  have hl : lv_has ls 3 [(0, .ref (ad 17)), (1, iV x1)] := hl
  have hF : CallFix p m c cX2_pass 3 s _ lw_all RX2 := ⟨hx, hb, hml, hown, hts⟩
  have hR : (headSpec (ws_ yX2_pass cX2_pass 3 (Option.some Jvm.ClassFile.FieldType.int)) (rmD 4 0 0)).room.frames = 4 + 1 ∧ (headSpec (ws_ yX2_pass cX2_pass 3 (Option.some Jvm.ClassFile.FieldType.int)) (rmD 4 0 0)).room.locals = 64 * 4 + 64 := ⟨rfl, rfl⟩
  generalize (headSpec (ws_ yX2_pass cX2_pass 3 (Option.some Jvm.ClassFile.FieldType.int)) (rmD 4 0 0)).room = R at hR ⊢
  generalize ([.ref (ad 17), iV x1] : List Value).toArray = args at hts hF ⊢
  generalize hQ : MQ below _ _ _ _ _ _ = Q
  have L32 : ∀ (x1 : Int), InR x1 → ∀ (n32 : Nat) (x2 : Int) (S : St) (H : Heap) (locs : List Loc) (ls : Array Slot), InR x2 → sI D dA wM ad A s.heap S H locs → lv_has ls 3 [(0, .ref (ad 17)), (1, iV x1), (2, iV x2)] → l_M_pass_32 x1 K n32 x2 S → W p l e R s m args below meth c H locs 0 0 Q (F0 m 32 ls []) := by
    intro x1 rx1 n32
    induction n32 with
    | zero => intro x2 S H locs ls rx2 hI hl h; exact False.elim h
    | succ n32 ih32 =>
      intro x2 S H locs ls rx2 hI hl h
      unfold l_M_pass_32 at h
      refine lv_iload_n hx hb dX2_pass_32 rfl (lv_at hl 2 rfl) ?_
      refine lv_iload_n hx hb dX2_pass_33 rfl (lv_at hl 1 rfl) ?_
      refine nr_icmp_ge hx hb rx2 rx1 dX2_pass_34 (tgt := 47) (by decide) (fun c1 => ?_) (fun c1 => ?_)
      · replace h := h.1 c1
        refine lv_aload_n hx hb dX2_pass_47 rfl (lv_at hl 0 rfl) ?_
        refine gMX2_7_17 hF hK hI dX2_pass_48 ?_
        refine nr_iconst hx hb dX2_pass_51 ?_
        refine s_iald hx hb hK hI 0 (by decide) wM_0 (by decide) (by decide) dX2_pass_52 (fun f2 => ?_)
        replace h := h f2
        rw [← hQ]; exact s_iret (K := K) hx hb hr hlocks hI f2 h dX2_pass_53
      · replace h := h.2 c1
        refine lv_aload_n hx hb dX2_pass_37 rfl (lv_at hl 0 rfl) ?_
        refine cMX2_100 hF hK hI hl.1 hR (by decide) (Nat.le_of_ble_eq_true rfl) ⟨Nat.zero_le _, Nat.zero_le _⟩ h dX2_pass_38 (fun S4 H locs h hI => ?_)
        have f5 := h.1; replace h := h.2
        refine nr_iinc (lv' := [(2, iV (x2 + 1)), (0, .ref (ad 17)), (1, iV x1)]) hx hb dX2_pass_41 hl (k := 2) rfl (by decide) rfl (fun ls hl => ?_)
        refine lv_goto (tgt := 32) hx hb dX2_pass_44 (by decide) ?_
        exact ih32 (x2 + 1) S4 _ _ _ f5 hI (lv_sub hl [1, 2, 0] rfl) h
  unfold w_M_pass at h
  refine lv_iload_n hx hb dX2_pass_0 rfl (lv_at hl 1 rfl) ?_
  refine nr_iconst hx hb dX2_pass_1 ?_
  refine nr_bipush hx hb dX2_pass_2 (by decide) ?_
  refine cMX2_75 hF hK hI hl.1 hR (by decide) (Nat.le_of_ble_eq_true rfl) ⟨Nat.zero_le _, Nat.zero_le _⟩ rx1 (by decide) (by decide) h dX2_pass_4 (fun r6 H locs fr6 h hI => ?_)
  replace h := h fr6
  have gr6 : InR r6 := kdP_R (k := 2) (by decide) fr6
  refine nr_if_eq hx hb gr6 dX2_pass_7 (tgt := 24) (by decide) (fun c8 => ?_) (fun c8 => ?_)
  · replace h := h.1 c8
    refine nr_iconst hx hb dX2_pass_24 ?_
    rw [← hQ]; exact s_iret (K := K) hx hb hr hlocks hI (by decide) h dX2_pass_25
  · replace h := h.2 c8
    refine lv_aload_n hx hb dX2_pass_10 rfl (lv_at hl 0 rfl) ?_
    refine gMX2_7_17 hF hK hI dX2_pass_11 ?_
    refine nr_iconst hx hb dX2_pass_14 ?_
    refine s_iald hx hb hK hI 0 (by decide) wM_0 (by decide) (by decide) dX2_pass_15 (fun f9 => ?_)
    replace h := h f9
    refine lv_iload_n hx hb dX2_pass_16 rfl (lv_at hl 1 rfl) ?_
    have f10 := h.1; replace h := h.2
    refine nr_iadd hx hb dX2_pass_17 ?_
    refine nr_sipush hx hb dX2_pass_18 (by decide) ?_
    refine nr_icmp_le hx hb f10 (by decide) dX2_pass_21 (tgt := 26) (by decide) (fun c11 => ?_) (fun c11 => ?_)
    · replace h := h.1 c11
      refine lv_aload_n hx hb dX2_pass_26 rfl (lv_at hl 0 rfl) ?_
      refine cMX2_94 hF hK hI hl.1 hR (by decide) (Nat.le_of_ble_eq_true rfl) ⟨Nat.zero_le _, Nat.zero_le _⟩ h dX2_pass_27 (fun S13 H locs h hI => ?_)
      refine nr_iconst hx hb dX2_pass_30 ?_
      refine lv_istore_n (lv' := [(2, iV 0), (0, .ref (ad 17)), (1, iV x1)]) hx hb dX2_pass_31 rfl hl (by decide) rfl (fun ls hl => ?_)
      obtain ⟨n0, h⟩ := h
      exact L32 x1 rx1 n0 0 S13 _ _ _ (by decide) hI (lv_sub hl [1, 2, 0] rfl) h
    · replace h := h.2 c11
      refine nr_iconst hx hb dX2_pass_24 ?_
      rw [← hQ]; exact s_iret (K := K) hx hb hr hlocks hI (by decide) h dX2_pass_25
theorem gMX2_19_17 {p : Program} {l : Launch} {e : Env} {R : Room} {s : State} {m : MethodId} {args : Array Value} {below : List Frame} {meth : Method} {c : Code} {H : Heap} {locs : List Loc} {Q : State → Prop} {cc : ByteArray} {nL pc : Nat} {ls : Array Slot} {rest : List Value} {cells slots : Nat} {D : va_G} {dA : Nat → ClassId} {ad : Nat → Nat} {A : Nat → Prop} {H0 : Heap} {S : St} (hF : CallFix p m c cc nL s args lw_all RX2) (hK : gK D dA s) (hI : sI D dA wM ad A H0 S H locs) (hdg : decode cc pc = .ok (.getfield 19, 3)) (kk : W p l e R s m args below meth c H locs cells slots Q (F0 m (pc + 3) ls (.ref (ad 3) :: rest))) : W p l e R s m args below meth c H locs cells slots Q (F0 m (pc) ls (.ref (ad 17) :: rest)) := s_getr hF.1 hF.2.1 hF.2.2.2.2 hF.2.2.2.1 hK hI 17 (by decide) wM_17 rfl in_X2 3 (by decide) q1166 rfl 3 rfl hdg kk
theorem gMX2_114_17 {p : Program} {l : Launch} {e : Env} {R : Room} {s : State} {m : MethodId} {args : Array Value} {below : List Frame} {meth : Method} {c : Code} {H : Heap} {locs : List Loc} {Q : State → Prop} {cc : ByteArray} {nL pc : Nat} {ls : Array Slot} {rest : List Value} {cells slots : Nat} {D : va_G} {dA : Nat → ClassId} {ad : Nat → Nat} {A : Nat → Prop} {H0 : Heap} {S : St} (hF : CallFix p m c cc nL s args lw_all RX2) (hK : gK D dA s) (hI : sI D dA wM ad A H0 S H locs) (hdg : decode cc pc = .ok (.getfield 114, 3)) (kk : InR (fI S 4) → W p l e R s m args below meth c H locs cells slots Q (F0 m (pc + 3) ls (iV (fI S 4) :: rest))) : W p l e R s m args below meth c H locs cells slots Q (F0 m (pc) ls (.ref (ad 17) :: rest)) := s_geti hF.1 hF.2.1 hF.2.2.2.2 hF.2.2.2.1 hK hI 17 (by decide) wM_17 rfl in_X2 4 (by decide) q1167 rfl 0 4 rfl (by decide) hdg (kk (kdP_R (k := 0) (by decide) (hI.1.2.2.2.1.1 4)))
theorem uMX2_114_17 {p : Program} {l : Launch} {e : Env} {R : Room} {s : State} {m : MethodId} {args : Array Value} {below : List Frame} {meth : Method} {c : Code} {H : Heap} {locs : List Loc} {Q : State → Prop} {cc : ByteArray} {nL pc : Nat} {ls : Array Slot} {rest : List Value} {cells slots : Nat} {D : va_G} {dA : Nat → ClassId} {ad : Nat → Nat} {A : Nat → Prop} {H0 : Heap} {S : St} (hF : CallFix p m c cc nL s args lw_all RX2) (hK : gK D dA s) (hI : sI D dA wM ad A H0 S H locs) {v : Int} (hv : InR v) (hdg : decode cc pc = .ok (.putfield 114, 3)) (kk : ∀ (S1 : St) (H1 : Heap) (locs1 : List Loc), S1 = fset S 4 v → sI D dA wM ad A H0 S1 H1 locs1 → W p l e R s m args below meth c H1 locs1 cells slots Q (F0 m (pc + 3) ls (rest))) : W p l e R s m args below meth c H locs cells slots Q (F0 m (pc) ls (iV v :: .ref (ad 17) :: rest)) := s_put hF.1 hF.2.1 wM_U tyX2 tyX2_ok nmX2 hF.2.2.2.2 hF.2.2.2.1 hK hI 17 (by decide) wM_17 rfl in_X2 4 (by decide) q1167 rfl 0 4 rfl hv rfl rfl rfl hdg (fun H1 locs1 h => kk _ H1 locs1 rfl h)
set_option maxHeartbeats 4000000 in
theorem t_M_four (l : Launch) (D : va_G) (dA : Nat → ClassId) (ad : Nat → Nat) (S : St) (sz : Nat) (x1 : Int) (K : St → Prop) (rx1 : InR x1) (h : w_M_four x1 S K) : Met l yX2_four (ws_ yX2_four cX2_four 3 (Option.none : Option Jvm.ClassFile.FieldType)) (rmD 0 0 0) (va_Pc [.ref (ad 17), iV x1] (sPre D dA wM ad S sz)) (va_Qv (fun S' => K S') (sPost D dA wM ad (wA wM ad S sz)) (wA wM ad S sz)) 0 0 (wA wM ad S sz) := by
  refine Met.ofW (cc := cX2_four) (maxL := 3) (ret := (Option.none : Option Jvm.ClassFile.FieldType)) (by decide) rfl ?_
  intro p e s m args below meth c s₁ B hml hv
  obtain ⟨rfl, hsz, hK, hC⟩ := hv
  have hx := B.exec
  have hb := B.bytes
  have hr := B.returns
  have hlocks := B.notSynchronized
  have hts := atoms_spec (ws := (ws_ yX2_four cX2_four 3 (Option.none : Option Jvm.ClassFile.FieldType))) B.pre
  have hts : ∀ w ∈ lw_all, w.before _ s = true := fun w h => hts w (List.mem_cons_of_mem _ h)
  have hown : s.vm.findClass RX2 = some m.cls := findClass_of_methodNamed B.named
  clear B
  subst hsz
  have hI : sI D dA wM ad (wA wM ad S s.heap.size) s.heap S s.heap [] := hC.start
  clear hC
  generalize wA wM ad S s.heap.size = A at hI ⊢
  have hl := lv_entry ([.ref (ad 17), iV x1] : List Value) (n := 3) (Nat.le_of_ble_eq_true rfl)
  rw [lg_entry_eq]
  generalize (lg_sl ([.ref (ad 17), iV x1] : List Value) ++ List.replicate (3 - (lg_sl ([.ref (ad 17), iV x1] : List Value)).length) Slot.unset).toArray = ls at hl ⊢
  have hl : lv_has ls 3 [(0, .ref (ad 17)), (1, iV x1)] := hl
  have hF : CallFix p m c cX2_four 3 s _ lw_all RX2 := ⟨hx, hb, hml, hown, hts⟩
  have hR : (headSpec (ws_ yX2_four cX2_four 3 (Option.none : Option Jvm.ClassFile.FieldType)) (rmD 0 0 0)).room.frames = 0 + 1 ∧ (headSpec (ws_ yX2_four cX2_four 3 (Option.none : Option Jvm.ClassFile.FieldType)) (rmD 0 0 0)).room.locals = 64 * 0 + 64 := ⟨rfl, rfl⟩
  generalize (headSpec (ws_ yX2_four cX2_four 3 (Option.none : Option Jvm.ClassFile.FieldType)) (rmD 0 0 0)).room = R at hR ⊢
  generalize ([.ref (ad 17), iV x1] : List Value).toArray = args at hts hF ⊢
  generalize hQ : MQ below _ _ _ _ _ _ = Q
  have L3 : ∀ (x1 : Int), InR x1 → ∀ (n3 : Nat) (x2 : Int) (S : St) (H : Heap) (locs : List Loc) (ls : Array Slot), InR x2 → sI D dA wM ad A s.heap S H locs → lv_has ls 3 [(0, .ref (ad 17)), (1, iV x1), (2, iV x2)] → l_M_four_3 x1 K n3 x2 S → W p l e R s m args below meth c H locs 0 0 Q (F0 m 3 ls []) := by
    intro x1 rx1 n3
    induction n3 with
    | zero => intro x2 S H locs ls rx2 hI hl h; exact False.elim h
    | succ n3 ih3 =>
      intro x2 S H locs ls rx2 hI hl h
      unfold l_M_four_3 at h
      refine lv_iload_n hx hb dX2_four_3 rfl (lv_at hl 2 rfl) ?_
      refine nr_if_lt hx hb rx2 dX2_four_4 (tgt := 39) (by decide) (fun c1 => ?_) (fun c1 => ?_)
      · replace h := h.1 c1
        rw [← hQ]; exact s_vret (K := K) hx hb hr hlocks hI  h dX2_four_39
      · replace h := h.2 c1
        refine lv_aload_n hx hb dX2_four_7 rfl (lv_at hl 0 rfl) ?_
        refine gMX2_19_17 hF hK hI dX2_four_8 ?_
        refine lv_aload_n hx hb dX2_four_11 rfl (lv_at hl 0 rfl) ?_
        refine gMX2_114_17 hF hK hI dX2_four_12 (fun f2 => ?_)
        replace h := h f2
        refine lv_iload_n hx hb dX2_four_15 rfl (lv_at hl 1 rfl) ?_
        refine lv_iload_n hx hb dX2_four_16 rfl (lv_at hl 2 rfl) ?_
        have f3 := h.1; replace h := h.2
        refine nr_ishr hx hb f3 rx1 dX2_four_17 ?_
        have f4 : InR (x1 / 2 ^ (Int.toNat x2)) := ni_shrR rx1
        refine nr_sipush hx hb dX2_four_18 (by decide) ?_
        refine nr_mask hx hb 8 (by decide) (by decide) dX2_four_21 ?_
        have f5 : InR ((x1 / 2 ^ (Int.toNat x2)) % 256) := by omega
        have f6 := h.1; replace h := h.2
        refine s_iast hx hb hK hI 3 (by decide) wM_3 f2 f6 f5 dX2_four_22 (fun S7 H locs eS7 hI => ?_)
        replace h := h S7 eS7
        refine lv_aload_n hx hb dX2_four_23 rfl (lv_at hl 0 rfl) ?_
        refine lv_dup hx hb dX2_four_24 rfl ?_
        refine gMX2_114_17 hF hK hI dX2_four_25 (fun f8 => ?_)
        replace h := h f8
        refine nr_iconst hx hb dX2_four_28 ?_
        have f9 := h.1; replace h := h.2
        refine nr_iadd hx hb dX2_four_29 ?_
        refine uMX2_114_17 hF hK hI f9 dX2_four_30 (fun S10 H locs eS10 hI => ?_)
        replace h := h S10 eS10
        have f11 := h.1; replace h := h.2
        refine nr_iinc (lv' := [(2, iV (x2 + (-8))), (0, .ref (ad 17)), (1, iV x1)]) hx hb dX2_four_33 hl (k := 2) rfl (by decide) rfl (fun ls hl => ?_)
        refine lv_goto (tgt := 3) hx hb dX2_four_36 (by decide) ?_
        exact ih3 (x2 + (-8)) S10 _ _ _ f11 hI (lv_sub hl [1, 2, 0] rfl) h
  unfold w_M_four at h
  refine nr_bipush hx hb dX2_four_0 (by decide) ?_
  refine lv_istore_n (lv' := [(2, iV 24), (0, .ref (ad 17)), (1, iV x1)]) hx hb dX2_four_2 rfl hl (by decide) rfl (fun ls hl => ?_)
  obtain ⟨n0, h⟩ := h
  exact L3 x1 rx1 n0 24 S _ _ _ (by decide) hI (lv_sub hl [1, 2, 0] rfl) h
theorem cMX2_117 {p : Program} {l : Launch} {e : Env} {R : Room} {s : State} {m : MethodId} {args : Array Value} {below : List Frame} {meth : Method} {c : Code} {H : Heap} {locs : List Loc} {Q : State → Prop} {cc : ByteArray} {nL pc : Nat} {ls : Array Slot} {rest : List Value} {cells slots : Nat} {D : va_G} {dA : Nat → ClassId} {ad : Nat → Nat} {A : Nat → Prop} {H0 : Heap} {S : St} {dk : Nat} (hF : CallFix p m c cc nL s args lw_all RX2) (hK : gK D dA s) (hI : sI D dA wM ad A H0 S H locs) (hls : ls.size = nL) (hR : R.frames = dk + 1 ∧ R.locals = 64 * dk + 64) (hd : 0 + 1 ≤ dk) (hW : (rest.map fun v => v.category).sum ≤ 8) (hf : cells ≤ R.cells ∧ slots ≤ R.slots) {x1 : Int} {K : St → Prop} (r1 : InR x1) (h : w_M_four x1 S K) (hdg : decode cc pc = .ok (.invokevirtual 117, 3)) (kk : ∀ (S1 : St) (H1 : Heap) (locs1 : List Loc), K S1 → sI D dA wM ad A H0 S1 H1 locs1 → W p l e R s m args below meth c H1 locs1 cells slots Q (F0 m (pc + 3) ls (rest))) : W p l e R s m args below meth c H locs cells slots Q (F0 m (pc) ls (iV x1 :: .ref (ad 17) :: rest)) := s_callVv (As := [iV x1]) (rest := rest) (K := K) hF (t_M_four l D dA ad S H.size x1 K r1 h) (s_recv hK hI 17 (by decide) wM_17 rfl) (cwV 1 hF.2.2.2.2 (lw_V q1362 q1364 qs57 q109 q1365) rfl rfl rfl (by decide +kernel) ⟨by have h1 := hR.1; have h2 : (rmD 0 0 0).frames = 0 + 1 := rfl; omega, by have h1 := hR.2; have h2 : (rmD 0 0 0).locals = 64 * 0 + 64 := rfl; omega⟩) hK hI rfl hls rfl hW hdg hf kk
set_option maxHeartbeats 4000000 in
theorem t_M_feed (l : Launch) (D : va_G) (dA : Nat → ClassId) (ad : Nat → Nat) (S : St) (sz : Nat) (x1 : Int) (x2 : Int) (x3 : Int) (x4 : Int) (x5 : Int) (K : Int → St → Prop) (rx1 : InR x1) (rx2 : InR x2) (rx3 : InR x3) (rx4 : InR x4) (rx5 : InR x5) (h : w_M_feed x1 x2 x3 x4 x5 S K) : Met l yX2_feed (ws_ yX2_feed cX2_feed 6 (Option.some Jvm.ClassFile.FieldType.int)) (rmD 1 0 0) (va_Pc [.ref (ad 17), iV x1, iV x2, iV x3, iV x4, iV x5] (sPre D dA wM ad S sz)) (va_Qi (fun r S' => K r.toInt S') (sPost D dA wM ad (wA wM ad S sz)) (wA wM ad S sz)) 0 0 (wA wM ad S sz) := by
  refine Met.ofW (cc := cX2_feed) (maxL := 6) (ret := (Option.some Jvm.ClassFile.FieldType.int)) (by decide) rfl ?_
  intro p e s m args below meth c s₁ B hml hv
  obtain ⟨rfl, hsz, hK, hC⟩ := hv
  have hx := B.exec
  have hb := B.bytes
  have hr := B.returns
  have hlocks := B.notSynchronized
  have hts := atoms_spec (ws := (ws_ yX2_feed cX2_feed 6 (Option.some Jvm.ClassFile.FieldType.int))) B.pre
  have hts : ∀ w ∈ lw_all, w.before _ s = true := fun w h => hts w (List.mem_cons_of_mem _ h)
  have hown : s.vm.findClass RX2 = some m.cls := findClass_of_methodNamed B.named
  clear B
  subst hsz
  have hI : sI D dA wM ad (wA wM ad S s.heap.size) s.heap S s.heap [] := hC.start
  clear hC
  generalize wA wM ad S s.heap.size = A at hI ⊢
  have hl := lv_entry ([.ref (ad 17), iV x1, iV x2, iV x3, iV x4, iV x5] : List Value) (n := 6) (Nat.le_of_ble_eq_true rfl)
  rw [lg_entry_eq]
  generalize (lg_sl ([.ref (ad 17), iV x1, iV x2, iV x3, iV x4, iV x5] : List Value) ++ List.replicate (6 - (lg_sl ([.ref (ad 17), iV x1, iV x2, iV x3, iV x4, iV x5] : List Value)).length) Slot.unset).toArray = ls at hl ⊢
  have hl : lv_has ls 6 [(0, .ref (ad 17)), (1, iV x1), (2, iV x2), (3, iV x3), (4, iV x4), (5, iV x5)] := hl
  have hF : CallFix p m c cX2_feed 6 s _ lw_all RX2 := ⟨hx, hb, hml, hown, hts⟩
  have hR : (headSpec (ws_ yX2_feed cX2_feed 6 (Option.some Jvm.ClassFile.FieldType.int)) (rmD 1 0 0)).room.frames = 1 + 1 ∧ (headSpec (ws_ yX2_feed cX2_feed 6 (Option.some Jvm.ClassFile.FieldType.int)) (rmD 1 0 0)).room.locals = 64 * 1 + 64 := ⟨rfl, rfl⟩
  generalize (headSpec (ws_ yX2_feed cX2_feed 6 (Option.some Jvm.ClassFile.FieldType.int)) (rmD 1 0 0)).room = R at hR ⊢
  generalize ([.ref (ad 17), iV x1, iV x2, iV x3, iV x4, iV x5] : List Value).toArray = args at hts hF ⊢
  generalize hQ : MQ below _ _ _ _ _ _ = Q
  unfold w_M_feed at h
  refine lv_aload_n hx hb dX2_feed_0 rfl (lv_at hl 0 rfl) ?_
  refine gMX2_114_17 hF hK hI dX2_feed_1 (fun f1 => ?_)
  replace h := h f1
  refine nr_bipush hx hb dX2_feed_4 (by decide) ?_
  have f2 := h.1; replace h := h.2
  refine nr_iadd hx hb dX2_feed_6 ?_
  refine nr_sipush hx hb dX2_feed_7 (by decide) ?_
  refine nr_icmp_le hx hb f2 (by decide) dX2_feed_10 (tgt := 15) (by decide) (fun c3 => ?_) (fun c3 => ?_)
  · replace h := h.1 c3
    refine lv_aload_n hx hb dX2_feed_15 rfl (lv_at hl 0 rfl) ?_
    refine lv_iload_n hx hb dX2_feed_16 rfl (lv_at hl 1 rfl) ?_
    refine cMX2_117 hF hK hI hl.1 hR (by decide) (Nat.le_of_ble_eq_true rfl) ⟨Nat.zero_le _, Nat.zero_le _⟩ rx1 h dX2_feed_17 (fun S5 H locs h hI => ?_)
    refine lv_aload_n hx hb dX2_feed_20 rfl (lv_at hl 0 rfl) ?_
    refine lv_iload_n hx hb dX2_feed_21 rfl (lv_at hl 2 rfl) ?_
    refine cMX2_117 hF hK hI hl.1 hR (by decide) (Nat.le_of_ble_eq_true rfl) ⟨Nat.zero_le _, Nat.zero_le _⟩ rx2 h dX2_feed_22 (fun S7 H locs h hI => ?_)
    refine lv_aload_n hx hb dX2_feed_25 rfl (lv_at hl 0 rfl) ?_
    refine lv_iload_n hx hb dX2_feed_26 rfl (lv_at hl 3 rfl) ?_
    refine cMX2_117 hF hK hI hl.1 hR (by decide) (Nat.le_of_ble_eq_true rfl) ⟨Nat.zero_le _, Nat.zero_le _⟩ rx3 h dX2_feed_27 (fun S9 H locs h hI => ?_)
    refine lv_aload_n hx hb dX2_feed_30 rfl (lv_at hl 0 rfl) ?_
    refine lv_iload hx hb dX2_feed_31 (lv_at hl 4 rfl) ?_
    refine cMX2_117 hF hK hI hl.1 hR (by decide) (Nat.le_of_ble_eq_true rfl) ⟨Nat.zero_le _, Nat.zero_le _⟩ rx4 h dX2_feed_33 (fun S11 H locs h hI => ?_)
    refine lv_aload_n hx hb dX2_feed_36 rfl (lv_at hl 0 rfl) ?_
    refine lv_iload hx hb dX2_feed_37 (lv_at hl 5 rfl) ?_
    refine cMX2_117 hF hK hI hl.1 hR (by decide) (Nat.le_of_ble_eq_true rfl) ⟨Nat.zero_le _, Nat.zero_le _⟩ rx5 h dX2_feed_39 (fun S13 H locs h hI => ?_)
    refine lv_aload_n hx hb dX2_feed_42 rfl (lv_at hl 0 rfl) ?_
    refine gMX2_114_17 hF hK hI dX2_feed_43 (fun f14 => ?_)
    replace h := h f14
    rw [← hQ]; exact s_iret (K := K) hx hb hr hlocks hI f14 h dX2_feed_46
  · replace h := h.2 c3
    refine nr_iconst hx hb dX2_feed_13 ?_
    rw [← hQ]; exact s_iret (K := K) hx hb hr hlocks hI (by decide) h dX2_feed_14
set_option maxHeartbeats 4000000 in
theorem t_M_end (l : Launch) (D : va_G) (dA : Nat → ClassId) (ad : Nat → Nat) (S : St) (sz : Nat) (x1 : Int) (K : Int → St → Prop) (rx1 : InR x1) (h : w_M_end x1 S K) : Met l yX2_end (ws_ yX2_end cX2_end 2 (Option.some Jvm.ClassFile.FieldType.int)) (rmD 1 0 0) (va_Pc [.ref (ad 17), iV x1] (sPre D dA wM ad S sz)) (va_Qi (fun r S' => K r.toInt S') (sPost D dA wM ad (wA wM ad S sz)) (wA wM ad S sz)) 0 0 (wA wM ad S sz) := by
  refine Met.ofW (cc := cX2_end) (maxL := 2) (ret := (Option.some Jvm.ClassFile.FieldType.int)) (by decide) rfl ?_
  intro p e s m args below meth c s₁ B hml hv
  obtain ⟨rfl, hsz, hK, hC⟩ := hv
  have hx := B.exec
  have hb := B.bytes
  have hr := B.returns
  have hlocks := B.notSynchronized
  have hts := atoms_spec (ws := (ws_ yX2_end cX2_end 2 (Option.some Jvm.ClassFile.FieldType.int))) B.pre
  have hts : ∀ w ∈ lw_all, w.before _ s = true := fun w h => hts w (List.mem_cons_of_mem _ h)
  have hown : s.vm.findClass RX2 = some m.cls := findClass_of_methodNamed B.named
  clear B
  subst hsz
  have hI : sI D dA wM ad (wA wM ad S s.heap.size) s.heap S s.heap [] := hC.start
  clear hC
  generalize wA wM ad S s.heap.size = A at hI ⊢
  have hl := lv_entry ([.ref (ad 17), iV x1] : List Value) (n := 2) (Nat.le_of_ble_eq_true rfl)
  rw [lg_entry_eq]
  generalize (lg_sl ([.ref (ad 17), iV x1] : List Value) ++ List.replicate (2 - (lg_sl ([.ref (ad 17), iV x1] : List Value)).length) Slot.unset).toArray = ls at hl ⊢
  have hl : lv_has ls 2 [(0, .ref (ad 17)), (1, iV x1)] := hl
  have hF : CallFix p m c cX2_end 2 s _ lw_all RX2 := ⟨hx, hb, hml, hown, hts⟩
  have hR : (headSpec (ws_ yX2_end cX2_end 2 (Option.some Jvm.ClassFile.FieldType.int)) (rmD 1 0 0)).room.frames = 1 + 1 ∧ (headSpec (ws_ yX2_end cX2_end 2 (Option.some Jvm.ClassFile.FieldType.int)) (rmD 1 0 0)).room.locals = 64 * 1 + 64 := ⟨rfl, rfl⟩
  generalize (headSpec (ws_ yX2_end cX2_end 2 (Option.some Jvm.ClassFile.FieldType.int)) (rmD 1 0 0)).room = R at hR ⊢
  generalize ([.ref (ad 17), iV x1] : List Value).toArray = args at hts hF ⊢
  generalize hQ : MQ below _ _ _ _ _ _ = Q
  unfold w_M_end at h
  refine lv_iload_n hx hb dX2_end_0 rfl (lv_at hl 1 rfl) ?_
  refine nr_iconst hx hb dX2_end_1 ?_
  refine lv_aload_n hx hb dX2_end_2 rfl (lv_at hl 0 rfl) ?_
  refine gMX2_114_17 hF hK hI dX2_end_3 (fun f1 => ?_)
  replace h := h f1
  refine cMX2_75 hF hK hI hl.1 hR (by decide) (Nat.le_of_ble_eq_true rfl) ⟨Nat.zero_le _, Nat.zero_le _⟩ rx1 (by decide) f1 h dX2_end_6 (fun r2 H locs fr2 h hI => ?_)
  replace h := h fr2
  have gr2 : InR r2 := kdP_R (k := 2) (by decide) fr2
  refine nr_if_ne hx hb gr2 dX2_end_9 (tgt := 14) (by decide) (fun c4 => ?_) (fun c4 => ?_)
  · replace h := h.1 c4
    refine lv_aload_n hx hb dX2_end_14 rfl (lv_at hl 0 rfl) ?_
    refine lv_iload_n hx hb dX2_end_15 rfl (lv_at hl 1 rfl) ?_
    refine uMX2_114_17 hF hK hI rx1 dX2_end_16 (fun S5 H locs eS5 hI => ?_)
    replace h := h S5 eS5
    refine lv_iload_n hx hb dX2_end_19 rfl (lv_at hl 1 rfl) ?_
    rw [← hQ]; exact s_iret (K := K) hx hb hr hlocks hI rx1 h dX2_end_20
  · replace h := h.2 c4
    refine nr_iconst hx hb dX2_end_12 ?_
    rw [← hQ]; exact s_iret (K := K) hx hb hr hlocks hI (by decide) h dX2_end_13
set_option maxHeartbeats 4000000 in
theorem t_M_byteAt (l : Launch) (D : va_G) (dA : Nat → ClassId) (ad : Nat → Nat) (S : St) (sz : Nat) (x1 : Int) (K : Int → Prop) (rx1 : InR x1) (h : w_M_byteAt x1 S K) : Met l yX2_byteAt (ws_ yX2_byteAt cX2_byteAt 2 (Option.some Jvm.ClassFile.FieldType.int)) (rmD 0 0 0) (va_Pc [.ref (ad 17), iV x1] (sPre D dA wM ad S sz)) (va_Qi (fun r S' => S' = S ∧ K r.toInt) (sPost D dA wM ad (wA wM ad S sz)) (wA wM ad S sz)) 0 0 (wA wM ad S sz) := by
  refine Met.ofW (cc := cX2_byteAt) (maxL := 2) (ret := (Option.some Jvm.ClassFile.FieldType.int)) (by decide) rfl ?_
  intro p e s m args below meth c s₁ B hml hv
  obtain ⟨rfl, hsz, hK, hC⟩ := hv
  have hx := B.exec
  have hb := B.bytes
  have hr := B.returns
  have hlocks := B.notSynchronized
  have hts := atoms_spec (ws := (ws_ yX2_byteAt cX2_byteAt 2 (Option.some Jvm.ClassFile.FieldType.int))) B.pre
  have hts : ∀ w ∈ lw_all, w.before _ s = true := fun w h => hts w (List.mem_cons_of_mem _ h)
  have hown : s.vm.findClass RX2 = some m.cls := findClass_of_methodNamed B.named
  clear B
  subst hsz
  have hI : sI D dA wM ad (wA wM ad S s.heap.size) s.heap S s.heap [] := hC.start
  clear hC
  generalize wA wM ad S s.heap.size = A at hI ⊢
  have hl := lv_entry ([.ref (ad 17), iV x1] : List Value) (n := 2) (Nat.le_of_ble_eq_true rfl)
  rw [lg_entry_eq]
  generalize (lg_sl ([.ref (ad 17), iV x1] : List Value) ++ List.replicate (2 - (lg_sl ([.ref (ad 17), iV x1] : List Value)).length) Slot.unset).toArray = ls at hl ⊢
  have hl : lv_has ls 2 [(0, .ref (ad 17)), (1, iV x1)] := hl
  have hF : CallFix p m c cX2_byteAt 2 s _ lw_all RX2 := ⟨hx, hb, hml, hown, hts⟩
  have hR : (headSpec (ws_ yX2_byteAt cX2_byteAt 2 (Option.some Jvm.ClassFile.FieldType.int)) (rmD 0 0 0)).room.frames = 0 + 1 ∧ (headSpec (ws_ yX2_byteAt cX2_byteAt 2 (Option.some Jvm.ClassFile.FieldType.int)) (rmD 0 0 0)).room.locals = 64 * 0 + 64 := ⟨rfl, rfl⟩
  generalize (headSpec (ws_ yX2_byteAt cX2_byteAt 2 (Option.some Jvm.ClassFile.FieldType.int)) (rmD 0 0 0)).room = R at hR ⊢
  generalize ([.ref (ad 17), iV x1] : List Value).toArray = args at hts hF ⊢
  generalize hQ : MQ below _ _ _ _ _ _ = Q
  unfold w_M_byteAt at h
  refine lv_iload_n hx hb dX2_byteAt_0 rfl (lv_at hl 1 rfl) ?_
  refine lv_aload_n hx hb dX2_byteAt_1 rfl (lv_at hl 0 rfl) ?_
  refine gMX2_114_17 hF hK hI dX2_byteAt_2 (fun f1 => ?_)
  replace h := h f1
  refine nr_icmp_ge hx hb rx1 f1 dX2_byteAt_5 (tgt := 17) (by decide) (fun c2 => ?_) (fun c2 => ?_)
  · replace h := h.1 c2
    refine nr_iconst hx hb dX2_byteAt_17 ?_
    rw [← hQ]; exact s_iret (K := fun r S' => S' = S ∧ K r) hx hb hr hlocks hI (by decide) ⟨rfl, h⟩ dX2_byteAt_18
  · replace h := h.2 c2
    refine lv_aload_n hx hb dX2_byteAt_8 rfl (lv_at hl 0 rfl) ?_
    refine gMX2_19_17 hF hK hI dX2_byteAt_9 ?_
    refine lv_iload_n hx hb dX2_byteAt_12 rfl (lv_at hl 1 rfl) ?_
    have f3 := h.1; replace h := h.2
    refine s_iald hx hb hK hI 3 (by decide) wM_3 rx1 f3 dX2_byteAt_13 (fun f4 => ?_)
    replace h := h f4
    refine lv_goto (tgt := 18) hx hb dX2_byteAt_14 (by decide) ?_
    rw [← hQ]; exact s_iret (K := fun r S' => S' = S ∧ K r) hx hb hr hlocks hI f4 ⟨rfl, h⟩ dX2_byteAt_18
theorem cqMX2_75 {p : Program} {l : Launch} {e : Env} {R : Room} {s : State} {m : MethodId} {args : Array Value} {below : List Frame} {meth : Method} {c : Code} {H : Heap} {locs : List Loc} {Q : State → Prop} {cc : ByteArray} {nL pc : Nat} {ls : Array Slot} {rest : List Value} {cells slots : Nat} {A : Nat → Prop} {H0 : Heap} {dk : Nat} (hF : CallFix p m c cc nL s args lw_all RX2) (hI : va_S A H0 H locs) (hls : ls.size = nL) (hR : R.frames = dk + 1 ∧ R.locals = 64 * dk + 64) (hd : 0 + 1 ≤ dk) (hW : (rest.map fun v => v.category).sum ≤ 8) (hf : cells ≤ R.cells ∧ slots ≤ R.slots) {x0 : Int} {x1 : Int} {x2 : Int} {K : Int → Prop} (r0 : InR x0) (r1 : InR x1) (r2 : InR x2) (h : w_M_isIn x0 x1 x2 K) (hdg : decode cc pc = .ok (.invokestatic 75, 3)) (kk : ∀ (r : Int) (H1 : Heap) (locs1 : List Loc), (r = 0 ∨ r = 1) → K r → va_S A H0 H1 locs1 → W p l e R s m args below meth c H1 locs1 cells slots Q (F0 m (pc + 3) ls (iV r :: rest))) : W p l e R s m args below meth c H locs cells slots Q (F0 m (pc) ls (iV x2 :: iV x1 :: iV x0 :: rest)) := p_callPz (As := [iV x0, iV x1, iV x2]) (rest := rest) hF (t_M_isIn l x0 x1 x2 K r0 r1 r2 h) (va_cwS 3 hF.2.2.2.2 (lw_S q1274 q1275 q109 q1276) rfl rfl rfl (by decide +kernel) ⟨by have h1 := hR.1; have h2 : (rmD 0 0 0).frames = 0 + 1 := rfl; omega, by have h1 := hR.2; have h2 : (rmD 0 0 0).locals = 64 * 0 + 64 := rfl; omega⟩) hI rfl hls rfl hW hdg hf kk
set_option maxHeartbeats 4000000 in
theorem t_M_isDigit (l : Launch) (x0 : Int) (K : Int → Prop) (rx0 : InR x0) (h : w_M_isDigit x0 K) : Met l yX2_isDigit (ws_ yX2_isDigit cX2_isDigit 1 (Option.some Jvm.ClassFile.FieldType.boolean)) (rmD 1 0 0) (va_Pc [iV x0] (fun _ => True)) (va_Qi (fun r (_ : Unit) => (r.toInt = 0 ∨ r.toInt = 1) ∧ K r.toInt) (fun _ _ => True) (fun _ => False)) 0 0 (fun _ => False) := by
  refine Met.ofW (cc := cX2_isDigit) (maxL := 1) (ret := (Option.some Jvm.ClassFile.FieldType.boolean)) (by decide) rfl ?_
  intro p e s m args below meth c s₁ B hml hv
  obtain ⟨rfl, -⟩ := hv
  have hx := B.exec
  have hb := B.bytes
  have hr := B.returns
  have hlocks := B.notSynchronized
  have hts := atoms_spec (ws := (ws_ yX2_isDigit cX2_isDigit 1 (Option.some Jvm.ClassFile.FieldType.boolean))) B.pre
  have hts : ∀ w ∈ lw_all, w.before _ s = true := fun w h => hts w (List.mem_cons_of_mem _ h)
  have hown : s.vm.findClass RX2 = some m.cls := findClass_of_methodNamed B.named
  clear B
  have hI : va_S (fun _ => False) s.heap s.heap [] := va_S.rf
  have hl := lv_entry ([iV x0] : List Value) (n := 1) (Nat.le_of_ble_eq_true rfl)
  rw [lg_entry_eq]
  generalize (lg_sl ([iV x0] : List Value) ++ List.replicate (1 - (lg_sl ([iV x0] : List Value)).length) Slot.unset).toArray = ls at hl ⊢
  have hl : lv_has ls 1 [(0, iV x0)] := hl
  have hF : CallFix p m c cX2_isDigit 1 s _ lw_all RX2 := ⟨hx, hb, hml, hown, hts⟩
  have hR : (headSpec (ws_ yX2_isDigit cX2_isDigit 1 (Option.some Jvm.ClassFile.FieldType.boolean)) (rmD 1 0 0)).room.frames = 1 + 1 ∧ (headSpec (ws_ yX2_isDigit cX2_isDigit 1 (Option.some Jvm.ClassFile.FieldType.boolean)) (rmD 1 0 0)).room.locals = 64 * 1 + 64 := ⟨rfl, rfl⟩
  generalize (headSpec (ws_ yX2_isDigit cX2_isDigit 1 (Option.some Jvm.ClassFile.FieldType.boolean)) (rmD 1 0 0)).room = R at hR ⊢
  generalize ([iV x0] : List Value).toArray = args at hts hF ⊢
  generalize hQ : MQ below _ _ _ _ _ _ = Q
  unfold w_M_isDigit at h
  refine lv_iload_n hx hb dX2_isDigit_0 rfl (lv_at hl 0 rfl) ?_
  refine nr_bipush hx hb dX2_isDigit_1 (by decide) ?_
  refine nr_bipush hx hb dX2_isDigit_3 (by decide) ?_
  refine cqMX2_75 hF hI hl.1 hR (by decide) (Nat.le_of_ble_eq_true rfl) ⟨Nat.zero_le _, Nat.zero_le _⟩ rx0 (by decide) (by decide) h dX2_isDigit_5 (fun r1 H locs fr1 h hI => ?_)
  replace h := h fr1
  have gr1 : InR r1 := kdP_R (k := 2) (by decide) fr1
  rw [← hQ]; exact p_zret (K := K) hx hb hr hlocks hI fr1 h dX2_isDigit_8
set_option maxHeartbeats 4000000 in
theorem t_M_isLetter (l : Launch) (x0 : Int) (K : Int → Prop) (rx0 : InR x0) (h : w_M_isLetter x0 K) : Met l yX2_isLetter (ws_ yX2_isLetter cX2_isLetter 1 (Option.some Jvm.ClassFile.FieldType.boolean)) (rmD 1 0 0) (va_Pc [iV x0] (fun _ => True)) (va_Qi (fun r (_ : Unit) => (r.toInt = 0 ∨ r.toInt = 1) ∧ K r.toInt) (fun _ _ => True) (fun _ => False)) 0 0 (fun _ => False) := by
  refine Met.ofW (cc := cX2_isLetter) (maxL := 1) (ret := (Option.some Jvm.ClassFile.FieldType.boolean)) (by decide) rfl ?_
  intro p e s m args below meth c s₁ B hml hv
  obtain ⟨rfl, -⟩ := hv
  have hx := B.exec
  have hb := B.bytes
  have hr := B.returns
  have hlocks := B.notSynchronized
  have hts := atoms_spec (ws := (ws_ yX2_isLetter cX2_isLetter 1 (Option.some Jvm.ClassFile.FieldType.boolean))) B.pre
  have hts : ∀ w ∈ lw_all, w.before _ s = true := fun w h => hts w (List.mem_cons_of_mem _ h)
  have hown : s.vm.findClass RX2 = some m.cls := findClass_of_methodNamed B.named
  clear B
  have hI : va_S (fun _ => False) s.heap s.heap [] := va_S.rf
  have hl := lv_entry ([iV x0] : List Value) (n := 1) (Nat.le_of_ble_eq_true rfl)
  rw [lg_entry_eq]
  generalize (lg_sl ([iV x0] : List Value) ++ List.replicate (1 - (lg_sl ([iV x0] : List Value)).length) Slot.unset).toArray = ls at hl ⊢
  have hl : lv_has ls 1 [(0, iV x0)] := hl
  have hF : CallFix p m c cX2_isLetter 1 s _ lw_all RX2 := ⟨hx, hb, hml, hown, hts⟩
  have hR : (headSpec (ws_ yX2_isLetter cX2_isLetter 1 (Option.some Jvm.ClassFile.FieldType.boolean)) (rmD 1 0 0)).room.frames = 1 + 1 ∧ (headSpec (ws_ yX2_isLetter cX2_isLetter 1 (Option.some Jvm.ClassFile.FieldType.boolean)) (rmD 1 0 0)).room.locals = 64 * 1 + 64 := ⟨rfl, rfl⟩
  generalize (headSpec (ws_ yX2_isLetter cX2_isLetter 1 (Option.some Jvm.ClassFile.FieldType.boolean)) (rmD 1 0 0)).room = R at hR ⊢
  generalize ([iV x0] : List Value).toArray = args at hts hF ⊢
  generalize hQ : MQ below _ _ _ _ _ _ = Q
  unfold w_M_isLetter at h
  refine lv_iload_n hx hb dX2_isLetter_0 rfl (lv_at hl 0 rfl) ?_
  refine nr_bipush hx hb dX2_isLetter_1 (by decide) ?_
  refine nr_bipush hx hb dX2_isLetter_3 (by decide) ?_
  refine cqMX2_75 hF hI hl.1 hR (by decide) (Nat.le_of_ble_eq_true rfl) ⟨Nat.zero_le _, Nat.zero_le _⟩ rx0 (by decide) (by decide) h dX2_isLetter_5 (fun r1 H locs fr1 h hI => ?_)
  replace h := h fr1
  have gr1 : InR r1 := kdP_R (k := 2) (by decide) fr1
  refine nr_if_ne hx hb gr1 dX2_isLetter_8 (tgt := 22) (by decide) (fun c3 => ?_) (fun c3 => ?_)
  · replace h := h.1 c3
    refine nr_iconst hx hb dX2_isLetter_22 ?_
    refine lv_goto (tgt := 27) hx hb dX2_isLetter_23 (by decide) ?_
    rw [← hQ]; exact p_zret (K := K) hx hb hr hlocks hI (by decide) h dX2_isLetter_27
  · replace h := h.2 c3
    refine lv_iload_n hx hb dX2_isLetter_11 rfl (lv_at hl 0 rfl) ?_
    refine nr_bipush hx hb dX2_isLetter_12 (by decide) ?_
    refine nr_bipush hx hb dX2_isLetter_14 (by decide) ?_
    refine cqMX2_75 hF hI hl.1 hR (by decide) (Nat.le_of_ble_eq_true rfl) ⟨Nat.zero_le _, Nat.zero_le _⟩ rx0 (by decide) (by decide) h dX2_isLetter_16 (fun r4 H locs fr4 h hI => ?_)
    replace h := h fr4
    have gr4 : InR r4 := kdP_R (k := 2) (by decide) fr4
    refine nr_if_eq hx hb gr4 dX2_isLetter_19 (tgt := 26) (by decide) (fun c6 => ?_) (fun c6 => ?_)
    · replace h := h.1 c6
      refine nr_iconst hx hb dX2_isLetter_26 ?_
      rw [← hQ]; exact p_zret (K := K) hx hb hr hlocks hI (by decide) h dX2_isLetter_27
    · replace h := h.2 c6
      refine nr_iconst hx hb dX2_isLetter_22 ?_
      refine lv_goto (tgt := 27) hx hb dX2_isLetter_23 (by decide) ?_
      rw [← hQ]; exact p_zret (K := K) hx hb hr hlocks hI (by decide) h dX2_isLetter_27
theorem gMX2_120_17 {p : Program} {l : Launch} {e : Env} {R : Room} {s : State} {m : MethodId} {args : Array Value} {below : List Frame} {meth : Method} {c : Code} {H : Heap} {locs : List Loc} {Q : State → Prop} {cc : ByteArray} {nL pc : Nat} {ls : Array Slot} {rest : List Value} {cells slots : Nat} {D : va_G} {dA : Nat → ClassId} {ad : Nat → Nat} {A : Nat → Prop} {H0 : Heap} {S : St} (hF : CallFix p m c cc nL s args lw_all RX2) (hK : gK D dA s) (hI : sI D dA wM ad A H0 S H locs) (hdg : decode cc pc = .ok (.getfield 120, 3)) (kk : InR (fI S 7) → W p l e R s m args below meth c H locs cells slots Q (F0 m (pc + 3) ls (iV (fI S 7) :: rest))) : W p l e R s m args below meth c H locs cells slots Q (F0 m (pc) ls (.ref (ad 17) :: rest)) := s_geti hF.1 hF.2.1 hF.2.2.2.2 hF.2.2.2.1 hK hI 17 (by decide) wM_17 rfl in_X2 7 (by decide) q1170 rfl 0 7 rfl (by decide) hdg (kk (kdP_R (k := 0) (by decide) (hI.1.2.2.2.1.1 7)))
theorem cMX2_123 {p : Program} {l : Launch} {e : Env} {R : Room} {s : State} {m : MethodId} {args : Array Value} {below : List Frame} {meth : Method} {c : Code} {H : Heap} {locs : List Loc} {Q : State → Prop} {cc : ByteArray} {nL pc : Nat} {ls : Array Slot} {rest : List Value} {cells slots : Nat} {D : va_G} {dA : Nat → ClassId} {ad : Nat → Nat} {A : Nat → Prop} {H0 : Heap} {S : St} {dk : Nat} (hF : CallFix p m c cc nL s args lw_all RX2) (hK : gK D dA s) (hI : sI D dA wM ad A H0 S H locs) (hls : ls.size = nL) (hR : R.frames = dk + 1 ∧ R.locals = 64 * dk + 64) (hd : 0 + 1 ≤ dk) (hW : (rest.map fun v => v.category).sum ≤ 8) (hf : cells ≤ R.cells ∧ slots ≤ R.slots) {x1 : Int} {K : Int → Prop} (r1 : InR x1) (h : w_M_byteAt x1 S K) (hdg : decode cc pc = .ok (.invokevirtual 123, 3)) (kk : ∀ (r : Int) (H1 : Heap) (locs1 : List Loc), InR r → K r → sI D dA wM ad A H0 S H1 locs1 → W p l e R s m args below meth c H1 locs1 cells slots Q (F0 m (pc + 3) ls (iV r :: rest))) : W p l e R s m args below meth c H locs cells slots Q (F0 m (pc) ls (iV x1 :: .ref (ad 17) :: rest)) := s_callVi (As := [iV x1]) (rest := rest) (K := fun r S' => S' = S ∧ K r) hF (t_M_byteAt l D dA ad S H.size x1 K r1 h) (s_recv hK hI 17 (by decide) wM_17 rfl) (cwV 1 hF.2.2.2.2 (lw_V q1382 q1384 qs60 q109 q1385) rfl rfl rfl (by decide +kernel) ⟨by have h1 := hR.1; have h2 : (rmD 0 0 0).frames = 0 + 1 := rfl; omega, by have h1 := hR.2; have h2 : (rmD 0 0 0).locals = 64 * 0 + 64 := rfl; omega⟩) hK hI rfl hls rfl hW hdg hf (fun r S1 H1 locs1 f hk hI1 => by obtain ⟨rfl, hk⟩ := hk; exact kk r H1 locs1 f hk hI1)
theorem uMX2_120_17 {p : Program} {l : Launch} {e : Env} {R : Room} {s : State} {m : MethodId} {args : Array Value} {below : List Frame} {meth : Method} {c : Code} {H : Heap} {locs : List Loc} {Q : State → Prop} {cc : ByteArray} {nL pc : Nat} {ls : Array Slot} {rest : List Value} {cells slots : Nat} {D : va_G} {dA : Nat → ClassId} {ad : Nat → Nat} {A : Nat → Prop} {H0 : Heap} {S : St} (hF : CallFix p m c cc nL s args lw_all RX2) (hK : gK D dA s) (hI : sI D dA wM ad A H0 S H locs) {v : Int} (hv : InR v) (hdg : decode cc pc = .ok (.putfield 120, 3)) (kk : ∀ (S1 : St) (H1 : Heap) (locs1 : List Loc), S1 = fset S 7 v → sI D dA wM ad A H0 S1 H1 locs1 → W p l e R s m args below meth c H1 locs1 cells slots Q (F0 m (pc + 3) ls (rest))) : W p l e R s m args below meth c H locs cells slots Q (F0 m (pc) ls (iV v :: .ref (ad 17) :: rest)) := s_put hF.1 hF.2.1 wM_U tyX2 tyX2_ok nmX2 hF.2.2.2.2 hF.2.2.2.1 hK hI 17 (by decide) wM_17 rfl in_X2 7 (by decide) q1170 rfl 0 7 rfl hv rfl rfl rfl hdg (fun H1 locs1 h => kk _ H1 locs1 rfl h)
theorem uMX2_129_17 {p : Program} {l : Launch} {e : Env} {R : Room} {s : State} {m : MethodId} {args : Array Value} {below : List Frame} {meth : Method} {c : Code} {H : Heap} {locs : List Loc} {Q : State → Prop} {cc : ByteArray} {nL pc : Nat} {ls : Array Slot} {rest : List Value} {cells slots : Nat} {D : va_G} {dA : Nat → ClassId} {ad : Nat → Nat} {A : Nat → Prop} {H0 : Heap} {S : St} (hF : CallFix p m c cc nL s args lw_all RX2) (hK : gK D dA s) (hI : sI D dA wM ad A H0 S H locs) {v : Int} (hv : InR v) (hdg : decode cc pc = .ok (.putfield 129, 3)) (kk : ∀ (S1 : St) (H1 : Heap) (locs1 : List Loc), S1 = fset S 9 v → sI D dA wM ad A H0 S1 H1 locs1 → W p l e R s m args below meth c H1 locs1 cells slots Q (F0 m (pc + 3) ls (rest))) : W p l e R s m args below meth c H locs cells slots Q (F0 m (pc) ls (iV v :: .ref (ad 17) :: rest)) := s_put hF.1 hF.2.1 wM_U tyX2 tyX2_ok nmX2 hF.2.2.2.2 hF.2.2.2.1 hK hI 17 (by decide) wM_17 rfl in_X2 9 (by decide) q1172 rfl 0 9 rfl hv rfl rfl rfl hdg (fun H1 locs1 h => kk _ H1 locs1 rfl h)
theorem gMX2_126_17 {p : Program} {l : Launch} {e : Env} {R : Room} {s : State} {m : MethodId} {args : Array Value} {below : List Frame} {meth : Method} {c : Code} {H : Heap} {locs : List Loc} {Q : State → Prop} {cc : ByteArray} {nL pc : Nat} {ls : Array Slot} {rest : List Value} {cells slots : Nat} {D : va_G} {dA : Nat → ClassId} {ad : Nat → Nat} {A : Nat → Prop} {H0 : Heap} {S : St} (hF : CallFix p m c cc nL s args lw_all RX2) (hK : gK D dA s) (hI : sI D dA wM ad A H0 S H locs) (hdg : decode cc pc = .ok (.getfield 126, 3)) (kk : InR (fI S 8) → W p l e R s m args below meth c H locs cells slots Q (F0 m (pc + 3) ls (iV (fI S 8) :: rest))) : W p l e R s m args below meth c H locs cells slots Q (F0 m (pc) ls (.ref (ad 17) :: rest)) := s_geti hF.1 hF.2.1 hF.2.2.2.2 hF.2.2.2.1 hK hI 17 (by decide) wM_17 rfl in_X2 8 (by decide) q1171 rfl 0 8 rfl (by decide) hdg (kk (kdP_R (k := 0) (by decide) (hI.1.2.2.2.1.1 8)))
theorem uMX2_142_17 {p : Program} {l : Launch} {e : Env} {R : Room} {s : State} {m : MethodId} {args : Array Value} {below : List Frame} {meth : Method} {c : Code} {H : Heap} {locs : List Loc} {Q : State → Prop} {cc : ByteArray} {nL pc : Nat} {ls : Array Slot} {rest : List Value} {cells slots : Nat} {D : va_G} {dA : Nat → ClassId} {ad : Nat → Nat} {A : Nat → Prop} {H0 : Heap} {S : St} (hF : CallFix p m c cc nL s args lw_all RX2) (hK : gK D dA s) (hI : sI D dA wM ad A H0 S H locs) {v : Int} (hv : InL v) (hdg : decode cc pc = .ok (.putfield 142, 3)) (kk : ∀ (S1 : St) (H1 : Heap) (locs1 : List Loc), S1 = fset S 11 v → sI D dA wM ad A H0 S1 H1 locs1 → W p l e R s m args below meth c H1 locs1 cells slots Q (F0 m (pc + 3) ls (rest))) : W p l e R s m args below meth c H locs cells slots Q (F0 m (pc) ls (jV v :: .ref (ad 17) :: rest)) := s_put hF.1 hF.2.1 wM_U tyX2 tyX2_ok nmX2 hF.2.2.2.2 hF.2.2.2.1 hK hI 17 (by decide) wM_17 rfl in_X2 11 (by decide) q1174 rfl 1 11 rfl hv rfl rfl rfl hdg (fun H1 locs1 h => kk _ H1 locs1 rfl h)
theorem cMX2_139 {p : Program} {l : Launch} {e : Env} {R : Room} {s : State} {m : MethodId} {args : Array Value} {below : List Frame} {meth : Method} {c : Code} {H : Heap} {locs : List Loc} {Q : State → Prop} {cc : ByteArray} {nL pc : Nat} {ls : Array Slot} {rest : List Value} {cells slots : Nat} {D : va_G} {dA : Nat → ClassId} {ad : Nat → Nat} {A : Nat → Prop} {H0 : Heap} {S : St} {dk : Nat} (hF : CallFix p m c cc nL s args lw_all RX2) (hK : gK D dA s) (hI : sI D dA wM ad A H0 S H locs) (hls : ls.size = nL) (hR : R.frames = dk + 1 ∧ R.locals = 64 * dk + 64) (hd : 1 + 1 ≤ dk) (hW : (rest.map fun v => v.category).sum ≤ 8) (hf : cells ≤ R.cells ∧ slots ≤ R.slots) {x0 : Int} {K : Int → Prop} (r0 : InR x0) (h : w_M_isLetter x0 K) (hdg : decode cc pc = .ok (.invokestatic 139, 3)) (kk : ∀ (r : Int) (H1 : Heap) (locs1 : List Loc), (r = 0 ∨ r = 1) → K r → sI D dA wM ad A H0 S H1 locs1 → W p l e R s m args below meth c H1 locs1 cells slots Q (F0 m (pc + 3) ls (iV r :: rest))) : W p l e R s m args below meth c H locs cells slots Q (F0 m (pc) ls (iV x0 :: rest)) := s_callPz (As := [iV x0]) (rest := rest) hF (t_M_isLetter l x0 K r0 h) (va_cwS 1 hF.2.2.2.2 (lw_S q1390 q1391 q109 q1392) rfl rfl rfl (by decide +kernel) ⟨by have h1 := hR.1; have h2 : (rmD 1 0 0).frames = 1 + 1 := rfl; omega, by have h1 := hR.2; have h2 : (rmD 1 0 0).locals = 64 * 1 + 64 := rfl; omega⟩) hI rfl hls rfl hW hdg hf kk
theorem gMX2_142_17 {p : Program} {l : Launch} {e : Env} {R : Room} {s : State} {m : MethodId} {args : Array Value} {below : List Frame} {meth : Method} {c : Code} {H : Heap} {locs : List Loc} {Q : State → Prop} {cc : ByteArray} {nL pc : Nat} {ls : Array Slot} {rest : List Value} {cells slots : Nat} {D : va_G} {dA : Nat → ClassId} {ad : Nat → Nat} {A : Nat → Prop} {H0 : Heap} {S : St} (hF : CallFix p m c cc nL s args lw_all RX2) (hK : gK D dA s) (hI : sI D dA wM ad A H0 S H locs) (hdg : decode cc pc = .ok (.getfield 142, 3)) (kk : InL (fI S 11) → W p l e R s m args below meth c H locs cells slots Q (F0 m (pc + 3) ls (jV (fI S 11) :: rest))) : W p l e R s m args below meth c H locs cells slots Q (F0 m (pc) ls (.ref (ad 17) :: rest)) := s_getj hF.1 hF.2.1 hF.2.2.2.2 hF.2.2.2.1 hK hI 17 (by decide) wM_17 rfl in_X2 11 (by decide) q1174 rfl 11 rfl hdg (kk (hI.1.2.2.2.1.1 11))
theorem cMX2_132 {p : Program} {l : Launch} {e : Env} {R : Room} {s : State} {m : MethodId} {args : Array Value} {below : List Frame} {meth : Method} {c : Code} {H : Heap} {locs : List Loc} {Q : State → Prop} {cc : ByteArray} {nL pc : Nat} {ls : Array Slot} {rest : List Value} {cells slots : Nat} {D : va_G} {dA : Nat → ClassId} {ad : Nat → Nat} {A : Nat → Prop} {H0 : Heap} {S : St} {dk : Nat} (hF : CallFix p m c cc nL s args lw_all RX2) (hK : gK D dA s) (hI : sI D dA wM ad A H0 S H locs) (hls : ls.size = nL) (hR : R.frames = dk + 1 ∧ R.locals = 64 * dk + 64) (hd : 1 + 1 ≤ dk) (hW : (rest.map fun v => v.category).sum ≤ 8) (hf : cells ≤ R.cells ∧ slots ≤ R.slots) {x0 : Int} {K : Int → Prop} (r0 : InR x0) (h : w_M_isDigit x0 K) (hdg : decode cc pc = .ok (.invokestatic 132, 3)) (kk : ∀ (r : Int) (H1 : Heap) (locs1 : List Loc), (r = 0 ∨ r = 1) → K r → sI D dA wM ad A H0 S H1 locs1 → W p l e R s m args below meth c H1 locs1 cells slots Q (F0 m (pc + 3) ls (iV r :: rest))) : W p l e R s m args below meth c H locs cells slots Q (F0 m (pc) ls (iV x0 :: rest)) := s_callPz (As := [iV x0]) (rest := rest) hF (t_M_isDigit l x0 K r0 h) (va_cwS 1 hF.2.2.2.2 (lw_S q1386 q1387 q109 q1388) rfl rfl rfl (by decide +kernel) ⟨by have h1 := hR.1; have h2 : (rmD 1 0 0).frames = 1 + 1 := rfl; omega, by have h1 := hR.2; have h2 : (rmD 1 0 0).locals = 64 * 1 + 64 := rfl; omega⟩) hI rfl hls rfl hW hdg hf kk
theorem gMX2_135_17 {p : Program} {l : Launch} {e : Env} {R : Room} {s : State} {m : MethodId} {args : Array Value} {below : List Frame} {meth : Method} {c : Code} {H : Heap} {locs : List Loc} {Q : State → Prop} {cc : ByteArray} {nL pc : Nat} {ls : Array Slot} {rest : List Value} {cells slots : Nat} {D : va_G} {dA : Nat → ClassId} {ad : Nat → Nat} {A : Nat → Prop} {H0 : Heap} {S : St} (hF : CallFix p m c cc nL s args lw_all RX2) (hK : gK D dA s) (hI : sI D dA wM ad A H0 S H locs) (hdg : decode cc pc = .ok (.getfield 135, 3)) (kk : InR (fI S 10) → W p l e R s m args below meth c H locs cells slots Q (F0 m (pc + 3) ls (iV (fI S 10) :: rest))) : W p l e R s m args below meth c H locs cells slots Q (F0 m (pc) ls (.ref (ad 17) :: rest)) := s_geti hF.1 hF.2.1 hF.2.2.2.2 hF.2.2.2.1 hK hI 17 (by decide) wM_17 rfl in_X2 10 (by decide) q1173 rfl 0 10 rfl (by decide) hdg (kk (kdP_R (k := 0) (by decide) (hI.1.2.2.2.1.1 10)))
theorem uMX2_135_17 {p : Program} {l : Launch} {e : Env} {R : Room} {s : State} {m : MethodId} {args : Array Value} {below : List Frame} {meth : Method} {c : Code} {H : Heap} {locs : List Loc} {Q : State → Prop} {cc : ByteArray} {nL pc : Nat} {ls : Array Slot} {rest : List Value} {cells slots : Nat} {D : va_G} {dA : Nat → ClassId} {ad : Nat → Nat} {A : Nat → Prop} {H0 : Heap} {S : St} (hF : CallFix p m c cc nL s args lw_all RX2) (hK : gK D dA s) (hI : sI D dA wM ad A H0 S H locs) {v : Int} (hv : InR v) (hdg : decode cc pc = .ok (.putfield 135, 3)) (kk : ∀ (S1 : St) (H1 : Heap) (locs1 : List Loc), S1 = fset S 10 v → sI D dA wM ad A H0 S1 H1 locs1 → W p l e R s m args below meth c H1 locs1 cells slots Q (F0 m (pc + 3) ls (rest))) : W p l e R s m args below meth c H locs cells slots Q (F0 m (pc) ls (iV v :: .ref (ad 17) :: rest)) := s_put hF.1 hF.2.1 wM_U tyX2 tyX2_ok nmX2 hF.2.2.2.2 hF.2.2.2.1 hK hI 17 (by decide) wM_17 rfl in_X2 10 (by decide) q1173 rfl 0 10 rfl hv rfl rfl rfl hdg (fun H1 locs1 h => kk _ H1 locs1 rfl h)
theorem uMX2_126_17 {p : Program} {l : Launch} {e : Env} {R : Room} {s : State} {m : MethodId} {args : Array Value} {below : List Frame} {meth : Method} {c : Code} {H : Heap} {locs : List Loc} {Q : State → Prop} {cc : ByteArray} {nL pc : Nat} {ls : Array Slot} {rest : List Value} {cells slots : Nat} {D : va_G} {dA : Nat → ClassId} {ad : Nat → Nat} {A : Nat → Prop} {H0 : Heap} {S : St} (hF : CallFix p m c cc nL s args lw_all RX2) (hK : gK D dA s) (hI : sI D dA wM ad A H0 S H locs) {v : Int} (hv : InR v) (hdg : decode cc pc = .ok (.putfield 126, 3)) (kk : ∀ (S1 : St) (H1 : Heap) (locs1 : List Loc), S1 = fset S 8 v → sI D dA wM ad A H0 S1 H1 locs1 → W p l e R s m args below meth c H1 locs1 cells slots Q (F0 m (pc + 3) ls (rest))) : W p l e R s m args below meth c H locs cells slots Q (F0 m (pc) ls (iV v :: .ref (ad 17) :: rest)) := s_put hF.1 hF.2.1 wM_U tyX2 tyX2_ok nmX2 hF.2.2.2.2 hF.2.2.2.1 hK hI 17 (by decide) wM_17 rfl in_X2 8 (by decide) q1171 rfl 0 8 rfl hv rfl rfl rfl hdg (fun H1 locs1 h => kk _ H1 locs1 rfl h)
set_option maxHeartbeats 4000000 in
theorem t_M_nextToken (l : Launch) (D : va_G) (dA : Nat → ClassId) (ad : Nat → Nat) (S : St) (sz : Nat) (K : St → Prop) (h : w_M_nextToken S K) : Met l yX2_nextToken (ws_ yX2_nextToken cX2_nextToken 3 (Option.none : Option Jvm.ClassFile.FieldType)) (rmD 2 0 0) (va_Pc [.ref (ad 17)] (sPre D dA wM ad S sz)) (va_Qv (fun S' => K S') (sPost D dA wM ad (wA wM ad S sz)) (wA wM ad S sz)) 0 0 (wA wM ad S sz) := by
  refine Met.ofW (cc := cX2_nextToken) (maxL := 3) (ret := (Option.none : Option Jvm.ClassFile.FieldType)) (by decide) rfl ?_
  intro p e s m args below meth c s₁ B hml hv
  obtain ⟨rfl, hsz, hK, hC⟩ := hv
  have hx := B.exec
  have hb := B.bytes
  have hr := B.returns
  have hlocks := B.notSynchronized
  have hts := atoms_spec (ws := (ws_ yX2_nextToken cX2_nextToken 3 (Option.none : Option Jvm.ClassFile.FieldType))) B.pre
  have hts : ∀ w ∈ lw_all, w.before _ s = true := fun w h => hts w (List.mem_cons_of_mem _ h)
  have hown : s.vm.findClass RX2 = some m.cls := findClass_of_methodNamed B.named
  clear B
  subst hsz
  have hI : sI D dA wM ad (wA wM ad S s.heap.size) s.heap S s.heap [] := hC.start
  clear hC
  generalize wA wM ad S s.heap.size = A at hI ⊢
  have hl := lv_entry ([.ref (ad 17)] : List Value) (n := 3) (Nat.le_of_ble_eq_true rfl)
  rw [lg_entry_eq]
  generalize (lg_sl ([.ref (ad 17)] : List Value) ++ List.replicate (3 - (lg_sl ([.ref (ad 17)] : List Value)).length) Slot.unset).toArray = ls at hl ⊢
  have hl : lv_has ls 3 [(0, .ref (ad 17))] := hl
  have hF : CallFix p m c cX2_nextToken 3 s _ lw_all RX2 := ⟨hx, hb, hml, hown, hts⟩
  have hR : (headSpec (ws_ yX2_nextToken cX2_nextToken 3 (Option.none : Option Jvm.ClassFile.FieldType)) (rmD 2 0 0)).room.frames = 2 + 1 ∧ (headSpec (ws_ yX2_nextToken cX2_nextToken 3 (Option.none : Option Jvm.ClassFile.FieldType)) (rmD 2 0 0)).room.locals = 64 * 2 + 64 := ⟨rfl, rfl⟩
  generalize (headSpec (ws_ yX2_nextToken cX2_nextToken 3 (Option.none : Option Jvm.ClassFile.FieldType)) (rmD 2 0 0)).room = R at hR ⊢
  generalize ([.ref (ad 17)] : List Value).toArray = args at hts hF ⊢
  generalize hQ : MQ below _ _ _ _ _ _ = Q
  have J352 : ∀ (x1 : Int) (S : St) (H : Heap) (locs : List Loc) (ls : Array Slot), InR x1 → sI D dA wM ad A s.heap S H locs → lv_has ls 3 [(0, .ref (ad 17)), (1, iV x1)] → j_M_nextToken_352 x1 S K → W p l e R s m args below meth c H locs 0 0 Q (F0 m 352 ls []) := by
    intro x1 S H locs ls rx1 hI hl h
    unfold j_M_nextToken_352 at h
    refine lv_aload_n hx hb dX2_nextToken_352 rfl (lv_at hl 0 rfl) ?_
    refine lv_aload_n hx hb dX2_nextToken_353 rfl (lv_at hl 0 rfl) ?_
    refine gMX2_120_17 hF hK hI dX2_nextToken_354 (fun f1 => ?_)
    replace h := h f1
    refine cMX2_123 hF hK hI hl.1 hR (by decide) (Nat.le_of_ble_eq_true rfl) ⟨Nat.zero_le _, Nat.zero_le _⟩ f1 h dX2_nextToken_357 (fun r2 H locs fr2 h hI => ?_)
    replace h := h fr2
    refine nr_bipush hx hb dX2_nextToken_360 (by decide) ?_
    refine nr_icmp_ne hx hb fr2 (by decide) dX2_nextToken_362 (tgt := 390) (by decide) (fun c4 => ?_) (fun c4 => ?_)
    · replace h := h.1 c4
      rw [← hQ]; exact s_vret (K := K) hx hb hr hlocks hI  h dX2_nextToken_390
    · replace h := h.2 c4
      refine lv_aload_n hx hb dX2_nextToken_365 rfl (lv_at hl 0 rfl) ?_
      refine lv_dup hx hb dX2_nextToken_366 rfl ?_
      refine gMX2_120_17 hF hK hI dX2_nextToken_367 (fun f5 => ?_)
      refine nr_iconst hx hb dX2_nextToken_370 ?_
      have f6 := h.1; replace h := h.2
      refine nr_iadd hx hb dX2_nextToken_371 ?_
      refine uMX2_120_17 hF hK hI f6 dX2_nextToken_372 (fun S7 H locs eS7 hI => ?_)
      replace h := h S7 eS7
      refine lv_aload_n hx hb dX2_nextToken_375 rfl (lv_at hl 0 rfl) ?_
      refine lv_iload_n hx hb dX2_nextToken_376 rfl (lv_at hl 1 rfl) ?_
      refine nr_bipush hx hb dX2_nextToken_377 (by decide) ?_
      refine nr_icmp_ne hx hb rx1 (by decide) dX2_nextToken_379 (tgt := 386) (by decide) (fun c8 => ?_) (fun c8 => ?_)
      · replace h := h.1 c8
        refine nr_iconst hx hb dX2_nextToken_386 ?_
        refine uMX2_129_17 hF hK hI (by decide) dX2_nextToken_387 (fun S9 H locs eS9 hI => ?_)
        replace h := h S9 eS9
        rw [← hQ]; exact s_vret (K := K) hx hb hr hlocks hI  h dX2_nextToken_390
      · replace h := h.2 c8
        refine nr_iconst hx hb dX2_nextToken_382 ?_
        refine lv_goto (tgt := 387) hx hb dX2_nextToken_383 (by decide) ?_
        refine uMX2_129_17 hF hK hI (by decide) dX2_nextToken_387 (fun S10 H locs eS10 hI => ?_)
        replace h := h S10 eS10
        rw [← hQ]; exact s_vret (K := K) hx hb hr hlocks hI  h dX2_nextToken_390
  have J337 : ∀ (x1 : Int) (y1 : Int) (S : St) (H : Heap) (locs : List Loc) (ls : Array Slot), InR x1 → InR y1 → sI D dA wM ad A s.heap S H locs → lv_has ls 3 [(0, .ref (ad 17)), (1, iV x1)] → j_M_nextToken_337 x1 y1 S K → W p l e R s m args below meth c H locs 0 0 Q (F0 m 337 ls [iV y1, .ref (ad 17)]) := by
    intro x1 y1 S H locs ls rx1 ry1 hI hl h
    unfold j_M_nextToken_337 at h
    refine uMX2_129_17 hF hK hI ry1 dX2_nextToken_337 (fun S11 H locs eS11 hI => ?_)
    replace h := h S11 eS11
    refine lv_iload_n hx hb dX2_nextToken_340 rfl (lv_at hl 1 rfl) ?_
    refine nr_bipush hx hb dX2_nextToken_341 (by decide) ?_
    refine nr_icmp_eq hx hb rx1 (by decide) dX2_nextToken_343 (tgt := 352) (by decide) (fun c12 => ?_) (fun c12 => ?_)
    · replace h := h.1 c12
      exact J352 x1 S11 _ _ _ rx1 hI (lv_sub hl [0, 1] rfl) h
    · replace h := h.2 c12
      refine lv_iload_n hx hb dX2_nextToken_346 rfl (lv_at hl 1 rfl) ?_
      refine nr_bipush hx hb dX2_nextToken_347 (by decide) ?_
      refine nr_icmp_ne hx hb rx1 (by decide) dX2_nextToken_349 (tgt := 390) (by decide) (fun c13 => ?_) (fun c13 => ?_)
      · replace h := h.1 c13
        rw [← hQ]; exact s_vret (K := K) hx hb hr hlocks hI  h dX2_nextToken_390
      · replace h := h.2 c13
        exact J352 x1 S11 _ _ _ rx1 hI (lv_sub hl [0, 1] rfl) h
  have J326 : ∀ (x1 : Int) (y0 : Int) (S : St) (H : Heap) (locs : List Loc) (ls : Array Slot), InR x1 → InR y0 → sI D dA wM ad A s.heap S H locs → lv_has ls 3 [(0, .ref (ad 17)), (1, iV x1)] → j_M_nextToken_326 x1 y0 S K → W p l e R s m args below meth c H locs 0 0 Q (F0 m 326 ls [iV y0]) := by
    intro x1 y0 S H locs ls rx1 ry0 hI hl h
    unfold j_M_nextToken_326 at h
    refine lv_istore_n (lv' := [(2, iV y0), (0, .ref (ad 17)), (1, iV x1)]) hx hb dX2_nextToken_326 rfl hl (by decide) rfl (fun ls hl => ?_)
    refine lv_aload_n hx hb dX2_nextToken_327 rfl (lv_at hl 1 rfl) ?_
    refine lv_iload_n hx hb dX2_nextToken_328 rfl (lv_at hl 0 rfl) ?_
    refine nr_if_eq hx hb ry0 dX2_nextToken_329 (tgt := 336) (by decide) (fun c14 => ?_) (fun c14 => ?_)
    · replace h := h.1 c14
      refine nr_iconst hx hb dX2_nextToken_336 ?_
      exact J337 x1 3 S _ _ _ rx1 (by decide) hI (lv_sub hl [1, 2] rfl) h
    · replace h := h.2 c14
      refine lv_iload_n hx hb dX2_nextToken_332 rfl (lv_at hl 2 rfl) ?_
      refine lv_goto (tgt := 337) hx hb dX2_nextToken_333 (by decide) ?_
      exact J337 x1 x1 S _ _ _ rx1 rx1 hI (lv_sub hl [1, 2] rfl) h
  have J321 : ∀ (x1 : Int) (S : St) (H : Heap) (locs : List Loc) (ls : Array Slot), InR x1 → sI D dA wM ad A s.heap S H locs → lv_has ls 3 [(0, .ref (ad 17)), (1, iV x1)] → j_M_nextToken_321 x1 S K → W p l e R s m args below meth c H locs 0 0 Q (F0 m 321 ls []) := by
    intro x1 S H locs ls rx1 hI hl h
    unfold j_M_nextToken_321 at h
    refine nr_iconst hx hb dX2_nextToken_321 ?_
    refine lv_goto (tgt := 326) hx hb dX2_nextToken_322 (by decide) ?_
    exact J326 x1 1 S _ _ _ rx1 (by decide) hI (lv_sub hl [0, 1] rfl) h
  have J223 : ∀ (S : St) (H : Heap) (locs : List Loc) (ls : Array Slot), sI D dA wM ad A s.heap S H locs → lv_has ls 3 [(0, .ref (ad 17))] → j_M_nextToken_223 S K → W p l e R s m args below meth c H locs 0 0 Q (F0 m 223 ls []) := by
    intro S H locs ls hI hl h
    unfold j_M_nextToken_223 at h
    refine lv_aload_n hx hb dX2_nextToken_223 rfl (lv_at hl 0 rfl) ?_
    refine gMX2_120_17 hF hK hI dX2_nextToken_224 (fun f15 => ?_)
    replace h := h f15
    refine lv_aload_n hx hb dX2_nextToken_227 rfl (lv_at hl 0 rfl) ?_
    refine gMX2_126_17 hF hK hI dX2_nextToken_228 (fun f16 => ?_)
    replace h := h f16
    have f17 := h.1; replace h := h.2
    refine nr_isub hx hb dX2_nextToken_231 ?_
    refine nr_bipush hx hb dX2_nextToken_232 (by decide) ?_
    refine nr_icmp_le hx hb f17 (by decide) dX2_nextToken_234 (tgt := 390) (by decide) (fun c18 => ?_) (fun c18 => ?_)
    · replace h := h.1 c18
      rw [← hQ]; exact s_vret (K := K) hx hb hr hlocks hI  h dX2_nextToken_390
    · replace h := h.2 c18
      refine lv_aload_n hx hb dX2_nextToken_237 rfl (lv_at hl 0 rfl) ?_
      refine nr_lconst (v := 0) hx hb dX2_nextToken_238 rfl ?_
      refine uMX2_142_17 hF hK hI (by decide) dX2_nextToken_239 (fun S19 H locs eS19 hI => ?_)
      replace h := h S19 eS19
      refine lv_goto (tgt := 390) hx hb dX2_nextToken_242 (by decide) ?_
      rw [← hQ]; exact s_vret (K := K) hx hb hr hlocks hI  h dX2_nextToken_390
  have L161 : ∀ (n161 : Nat) (S : St) (H : Heap) (locs : List Loc) (ls : Array Slot), sI D dA wM ad A s.heap S H locs → lv_has ls 3 [(0, .ref (ad 17))] → l_M_nextToken_161 K (fun (zS : St) => j_M_nextToken_223 zS K) n161 S → W p l e R s m args below meth c H locs 0 0 Q (F0 m 161 ls []) := by
    intro n161
    induction n161 with
    | zero => intro S H locs ls hI hl h; exact False.elim h
    | succ n161 ih161 =>
      intro S H locs ls hI hl h
      have J210 : ∀ (S : St) (H : Heap) (locs : List Loc) (ls : Array Slot), sI D dA wM ad A s.heap S H locs → lv_has ls 3 [(0, .ref (ad 17))] → j_M_nextToken_210 S K (fun (zS : St) => j_M_nextToken_223 zS K) (l_M_nextToken_161 K (fun (zS : St) => j_M_nextToken_223 zS K) n161) → W p l e R s m args below meth c H locs 0 0 Q (F0 m 210 ls []) := by
        intro S H locs ls hI hl h
        unfold j_M_nextToken_210 at h
        refine lv_aload_n hx hb dX2_nextToken_210 rfl (lv_at hl 0 rfl) ?_
        refine lv_dup hx hb dX2_nextToken_211 rfl ?_
        refine gMX2_120_17 hF hK hI dX2_nextToken_212 (fun f20 => ?_)
        replace h := h f20
        refine nr_iconst hx hb dX2_nextToken_215 ?_
        have f21 := h.1; replace h := h.2
        refine nr_iadd hx hb dX2_nextToken_216 ?_
        refine uMX2_120_17 hF hK hI f21 dX2_nextToken_217 (fun S22 H locs eS22 hI => ?_)
        replace h := h S22 eS22
        refine lv_goto (tgt := 161) hx hb dX2_nextToken_220 (by decide) ?_
        exact ih161 S22 _ _ _ hI (lv_sub hl [0] rfl) h
      unfold l_M_nextToken_161 at h
      refine lv_aload_n hx hb dX2_nextToken_161 rfl (lv_at hl 0 rfl) ?_
      refine lv_aload_n hx hb dX2_nextToken_162 rfl (lv_at hl 0 rfl) ?_
      refine gMX2_120_17 hF hK hI dX2_nextToken_163 (fun f23 => ?_)
      replace h := h f23
      refine cMX2_123 hF hK hI hl.1 hR (by decide) (Nat.le_of_ble_eq_true rfl) ⟨Nat.zero_le _, Nat.zero_le _⟩ f23 h dX2_nextToken_166 (fun r24 H locs fr24 h hI => ?_)
      replace h := h fr24
      refine cMX2_139 hF hK hI hl.1 hR (by decide) (Nat.le_of_ble_eq_true rfl) ⟨Nat.zero_le _, Nat.zero_le _⟩ fr24 h dX2_nextToken_169 (fun r26 H locs fr26 h hI => ?_)
      replace h := h fr26
      have gr26 : InR r26 := kdP_R (k := 2) (by decide) fr26
      refine nr_if_eq hx hb gr26 dX2_nextToken_172 (tgt := 223) (by decide) (fun c28 => ?_) (fun c28 => ?_)
      · replace h := h.1 c28
        exact J223 S _ _ _ hI (lv_sub hl [0] rfl) h
      · replace h := h.2 c28
        refine lv_aload_n hx hb dX2_nextToken_175 rfl (lv_at hl 0 rfl) ?_
        refine gMX2_120_17 hF hK hI dX2_nextToken_176 (fun f29 => ?_)
        refine lv_aload_n hx hb dX2_nextToken_179 rfl (lv_at hl 0 rfl) ?_
        refine gMX2_126_17 hF hK hI dX2_nextToken_180 (fun f30 => ?_)
        replace h := h f30
        have f31 := h.1; replace h := h.2
        refine nr_isub hx hb dX2_nextToken_183 ?_
        refine nr_bipush hx hb dX2_nextToken_184 (by decide) ?_
        refine nr_icmp_ge hx hb f31 (by decide) dX2_nextToken_186 (tgt := 210) (by decide) (fun c32 => ?_) (fun c32 => ?_)
        · replace h := h.1 c32
          exact J210 S _ _ _ hI (lv_sub hl [0] rfl) h
        · replace h := h.2 c32
          refine lv_aload_n hx hb dX2_nextToken_189 rfl (lv_at hl 0 rfl) ?_
          refine lv_aload_n hx hb dX2_nextToken_190 rfl (lv_at hl 0 rfl) ?_
          refine gMX2_142_17 hF hK hI dX2_nextToken_191 (fun f33 => ?_)
          replace h := h f33
          refine nr_bipush hx hb dX2_nextToken_194 (by decide) ?_
          have f34 := h.1; replace h := h.2
          refine nr_lshl hx hb (by decide) dX2_nextToken_196 ?_
          refine lv_aload_n hx hb dX2_nextToken_197 rfl (lv_at hl 0 rfl) ?_
          refine lv_aload_n hx hb dX2_nextToken_198 rfl (lv_at hl 0 rfl) ?_
          refine gMX2_120_17 hF hK hI dX2_nextToken_199 (fun f35 => ?_)
          refine cMX2_123 hF hK hI hl.1 hR (by decide) (Nat.le_of_ble_eq_true rfl) ⟨Nat.zero_le _, Nat.zero_le _⟩ f23 h dX2_nextToken_202 (fun r36 H locs fr36 h hI => ?_)
          replace h := h fr36
          refine nr_i2l hx hb fr36 dX2_nextToken_205 ?_
          have f38 : InL (r36) := ni_L fr36
          refine nr_lor hx hb dX2_nextToken_206 ?_
          refine uMX2_142_17 hF hK hI (jOr_R _ _) dX2_nextToken_207 (fun S39 H locs eS39 hI => ?_)
          replace h := h S39 eS39
          exact J210 S39 _ _ _ hI (lv_sub hl [0] rfl) h
  have L85 : ∀ (n85 : Nat) (S : St) (H : Heap) (locs : List Loc) (ls : Array Slot), sI D dA wM ad A s.heap S H locs → lv_has ls 3 [(0, .ref (ad 17))] → l_M_nextToken_85 K n85 S → W p l e R s m args below meth c H locs 0 0 Q (F0 m 85 ls []) := by
    intro n85
    induction n85 with
    | zero => intro S H locs ls hI hl h; exact False.elim h
    | succ n85 ih85 =>
      intro S H locs ls hI hl h
      have J131 : ∀ (S : St) (H : Heap) (locs : List Loc) (ls : Array Slot), sI D dA wM ad A s.heap S H locs → lv_has ls 3 [(0, .ref (ad 17))] → j_M_nextToken_131 S K (l_M_nextToken_85 K n85) → W p l e R s m args below meth c H locs 0 0 Q (F0 m 131 ls []) := by
        intro S H locs ls hI hl h
        unfold j_M_nextToken_131 at h
        refine lv_aload_n hx hb dX2_nextToken_131 rfl (lv_at hl 0 rfl) ?_
        refine lv_dup hx hb dX2_nextToken_132 rfl ?_
        refine gMX2_120_17 hF hK hI dX2_nextToken_133 (fun f40 => ?_)
        replace h := h f40
        refine nr_iconst hx hb dX2_nextToken_136 ?_
        have f41 := h.1; replace h := h.2
        refine nr_iadd hx hb dX2_nextToken_137 ?_
        refine uMX2_120_17 hF hK hI f41 dX2_nextToken_138 (fun S42 H locs eS42 hI => ?_)
        replace h := h S42 eS42
        refine lv_goto (tgt := 85) hx hb dX2_nextToken_141 (by decide) ?_
        exact ih85 S42 _ _ _ hI (lv_sub hl [0] rfl) h
      unfold l_M_nextToken_85 at h
      refine lv_aload_n hx hb dX2_nextToken_85 rfl (lv_at hl 0 rfl) ?_
      refine lv_aload_n hx hb dX2_nextToken_86 rfl (lv_at hl 0 rfl) ?_
      refine gMX2_120_17 hF hK hI dX2_nextToken_87 (fun f43 => ?_)
      replace h := h f43
      refine cMX2_123 hF hK hI hl.1 hR (by decide) (Nat.le_of_ble_eq_true rfl) ⟨Nat.zero_le _, Nat.zero_le _⟩ f43 h dX2_nextToken_90 (fun r44 H locs fr44 h hI => ?_)
      replace h := h fr44
      refine cMX2_132 hF hK hI hl.1 hR (by decide) (Nat.le_of_ble_eq_true rfl) ⟨Nat.zero_le _, Nat.zero_le _⟩ fr44 h dX2_nextToken_93 (fun r46 H locs fr46 h hI => ?_)
      replace h := h fr46
      have gr46 : InR r46 := kdP_R (k := 2) (by decide) fr46
      refine nr_if_eq hx hb gr46 dX2_nextToken_96 (tgt := 390) (by decide) (fun c48 => ?_) (fun c48 => ?_)
      · replace h := h.1 c48
        rw [← hQ]; exact s_vret (K := K) hx hb hr hlocks hI  h dX2_nextToken_390
      · replace h := h.2 c48
        refine lv_aload_n hx hb dX2_nextToken_99 rfl (lv_at hl 0 rfl) ?_
        refine gMX2_135_17 hF hK hI dX2_nextToken_100 (fun f49 => ?_)
        replace h := h f49
        refine nr_ldc (v := 100000) hx hb hown (by decide) (hts _ q1389) dX2_nextToken_103 ?_
        refine nr_icmp_ge hx hb f49 (by decide) dX2_nextToken_105 (tgt := 131) (by decide) (fun c50 => ?_) (fun c50 => ?_)
        · replace h := h.1 c50
          exact J131 S _ _ _ hI (lv_sub hl [0] rfl) h
        · replace h := h.2 c50
          refine lv_aload_n hx hb dX2_nextToken_108 rfl (lv_at hl 0 rfl) ?_
          refine nr_bipush hx hb dX2_nextToken_109 (by decide) ?_
          refine lv_aload_n hx hb dX2_nextToken_111 rfl (lv_at hl 0 rfl) ?_
          refine gMX2_135_17 hF hK hI dX2_nextToken_112 (fun f51 => ?_)
          have f52 := h.1; replace h := h.2
          refine nr_imul hx hb dX2_nextToken_115 ?_
          refine lv_aload_n hx hb dX2_nextToken_116 rfl (lv_at hl 0 rfl) ?_
          refine lv_aload_n hx hb dX2_nextToken_117 rfl (lv_at hl 0 rfl) ?_
          refine gMX2_120_17 hF hK hI dX2_nextToken_118 (fun f53 => ?_)
          refine cMX2_123 hF hK hI hl.1 hR (by decide) (Nat.le_of_ble_eq_true rfl) ⟨Nat.zero_le _, Nat.zero_le _⟩ f43 h dX2_nextToken_121 (fun r54 H locs fr54 h hI => ?_)
          replace h := h fr54
          have f56 := h.1; replace h := h.2
          refine nr_iadd hx hb dX2_nextToken_124 ?_
          refine nr_bipush hx hb dX2_nextToken_125 (by decide) ?_
          have f57 := h.1; replace h := h.2
          refine nr_isub hx hb dX2_nextToken_127 ?_
          refine uMX2_135_17 hF hK hI f57 dX2_nextToken_128 (fun S58 H locs eS58 hI => ?_)
          replace h := h S58 eS58
          exact J131 S58 _ _ _ hI (lv_sub hl [0] rfl) h
  have J39 : ∀ (S : St) (H : Heap) (locs : List Loc) (ls : Array Slot), sI D dA wM ad A s.heap S H locs → lv_has ls 3 [(0, .ref (ad 17))] → j_M_nextToken_39 S K → W p l e R s m args below meth c H locs 0 0 Q (F0 m 39 ls []) := by
    intro S H locs ls hI hl h
    unfold j_M_nextToken_39 at h
    refine lv_aload_n hx hb dX2_nextToken_39 rfl (lv_at hl 0 rfl) ?_
    refine lv_aload_n hx hb dX2_nextToken_40 rfl (lv_at hl 0 rfl) ?_
    refine gMX2_120_17 hF hK hI dX2_nextToken_41 (fun f59 => ?_)
    replace h := h f59
    refine uMX2_126_17 hF hK hI f59 dX2_nextToken_44 (fun S60 H locs eS60 hI => ?_)
    replace h := h S60 eS60
    refine lv_aload_n hx hb dX2_nextToken_47 rfl (lv_at hl 0 rfl) ?_
    refine lv_aload_n hx hb dX2_nextToken_48 rfl (lv_at hl 0 rfl) ?_
    refine gMX2_120_17 hF hK hI dX2_nextToken_49 (fun f61 => ?_)
    replace h := h f61
    refine cMX2_123 hF hK hI hl.1 hR (by decide) (Nat.le_of_ble_eq_true rfl) ⟨Nat.zero_le _, Nat.zero_le _⟩ f61 h dX2_nextToken_52 (fun r62 H locs fr62 h hI => ?_)
    replace h := h fr62
    refine lv_istore_n (lv' := [(1, iV r62), (0, .ref (ad 17))]) hx hb dX2_nextToken_55 rfl hl (by decide) rfl (fun ls hl => ?_)
    refine lv_iload_n hx hb dX2_nextToken_56 rfl (lv_at hl 0 rfl) ?_
    refine nr_if_ge hx hb fr62 dX2_nextToken_57 (tgt := 68) (by decide) (fun c64 => ?_) (fun c64 => ?_)
    · replace h := h.1 c64
      refine lv_iload_n hx hb dX2_nextToken_68 rfl (lv_at hl 0 rfl) ?_
      refine cMX2_132 hF hK hI hl.1 hR (by decide) (Nat.le_of_ble_eq_true rfl) ⟨Nat.zero_le _, Nat.zero_le _⟩ fr62 h dX2_nextToken_69 (fun r65 H locs fr65 h hI => ?_)
      replace h := h fr65
      have gr65 : InR r65 := kdP_R (k := 2) (by decide) fr65
      refine nr_if_eq hx hb gr65 dX2_nextToken_72 (tgt := 144) (by decide) (fun c67 => ?_) (fun c67 => ?_)
      · replace h := h.1 c67
        refine lv_iload_n hx hb dX2_nextToken_144 rfl (lv_at hl 0 rfl) ?_
        refine cMX2_139 hF hK hI hl.1 hR (by decide) (Nat.le_of_ble_eq_true rfl) ⟨Nat.zero_le _, Nat.zero_le _⟩ fr62 h dX2_nextToken_145 (fun r68 H locs fr68 h hI => ?_)
        replace h := h fr68
        have gr68 : InR r68 := kdP_R (k := 2) (by decide) fr68
        refine nr_if_eq hx hb gr68 dX2_nextToken_148 (tgt := 245) (by decide) (fun c70 => ?_) (fun c70 => ?_)
        · replace h := h.1 c70
          refine lv_aload_n hx hb dX2_nextToken_245 rfl (lv_at hl 1 rfl) ?_
          refine lv_dup hx hb dX2_nextToken_246 rfl ?_
          refine gMX2_120_17 hF hK hI dX2_nextToken_247 (fun f71 => ?_)
          refine nr_iconst hx hb dX2_nextToken_250 ?_
          have f72 := h.1; replace h := h.2
          refine nr_iadd hx hb dX2_nextToken_251 ?_
          refine uMX2_120_17 hF hK hI f72 dX2_nextToken_252 (fun S73 H locs eS73 hI => ?_)
          replace h := h S73 eS73
          refine lv_iload_n hx hb dX2_nextToken_255 rfl (lv_at hl 0 rfl) ?_
          refine nr_bipush hx hb dX2_nextToken_256 (by decide) ?_
          refine nr_icmp_eq hx hb fr62 (by decide) dX2_nextToken_258 (tgt := 321) (by decide) (fun c74 => ?_) (fun c74 => ?_)
          · replace h := h.1 c74
            exact J321 r62 S73 _ _ _ fr62 hI (lv_sub hl [1, 0] rfl) h
          · replace h := h.2 c74
            refine lv_iload_n hx hb dX2_nextToken_261 rfl (lv_at hl 0 rfl) ?_
            refine nr_bipush hx hb dX2_nextToken_262 (by decide) ?_
            refine nr_icmp_eq hx hb fr62 (by decide) dX2_nextToken_264 (tgt := 321) (by decide) (fun c75 => ?_) (fun c75 => ?_)
            · replace h := h.1 c75
              exact J321 r62 S73 _ _ _ fr62 hI (lv_sub hl [1, 0] rfl) h
            · replace h := h.2 c75
              refine lv_iload_n hx hb dX2_nextToken_267 rfl (lv_at hl 0 rfl) ?_
              refine nr_bipush hx hb dX2_nextToken_268 (by decide) ?_
              refine nr_icmp_eq hx hb fr62 (by decide) dX2_nextToken_270 (tgt := 321) (by decide) (fun c76 => ?_) (fun c76 => ?_)
              · replace h := h.1 c76
                exact J321 r62 S73 _ _ _ fr62 hI (lv_sub hl [1, 0] rfl) h
              · replace h := h.2 c76
                refine lv_iload_n hx hb dX2_nextToken_273 rfl (lv_at hl 0 rfl) ?_
                refine nr_bipush hx hb dX2_nextToken_274 (by decide) ?_
                refine nr_icmp_eq hx hb fr62 (by decide) dX2_nextToken_276 (tgt := 321) (by decide) (fun c77 => ?_) (fun c77 => ?_)
                · replace h := h.1 c77
                  exact J321 r62 S73 _ _ _ fr62 hI (lv_sub hl [1, 0] rfl) h
                · replace h := h.2 c77
                  refine lv_iload_n hx hb dX2_nextToken_279 rfl (lv_at hl 0 rfl) ?_
                  refine nr_bipush hx hb dX2_nextToken_280 (by decide) ?_
                  refine nr_icmp_eq hx hb fr62 (by decide) dX2_nextToken_282 (tgt := 321) (by decide) (fun c78 => ?_) (fun c78 => ?_)
                  · replace h := h.1 c78
                    exact J321 r62 S73 _ _ _ fr62 hI (lv_sub hl [1, 0] rfl) h
                  · replace h := h.2 c78
                    refine lv_iload_n hx hb dX2_nextToken_285 rfl (lv_at hl 0 rfl) ?_
                    refine nr_bipush hx hb dX2_nextToken_286 (by decide) ?_
                    refine nr_icmp_eq hx hb fr62 (by decide) dX2_nextToken_288 (tgt := 321) (by decide) (fun c79 => ?_) (fun c79 => ?_)
                    · replace h := h.1 c79
                      exact J321 r62 S73 _ _ _ fr62 hI (lv_sub hl [1, 0] rfl) h
                    · replace h := h.2 c79
                      refine lv_iload_n hx hb dX2_nextToken_291 rfl (lv_at hl 0 rfl) ?_
                      refine nr_bipush hx hb dX2_nextToken_292 (by decide) ?_
                      refine nr_icmp_eq hx hb fr62 (by decide) dX2_nextToken_294 (tgt := 321) (by decide) (fun c80 => ?_) (fun c80 => ?_)
                      · replace h := h.1 c80
                        exact J321 r62 S73 _ _ _ fr62 hI (lv_sub hl [1, 0] rfl) h
                      · replace h := h.2 c80
                        refine lv_iload_n hx hb dX2_nextToken_297 rfl (lv_at hl 0 rfl) ?_
                        refine nr_bipush hx hb dX2_nextToken_298 (by decide) ?_
                        refine nr_icmp_eq hx hb fr62 (by decide) dX2_nextToken_300 (tgt := 321) (by decide) (fun c81 => ?_) (fun c81 => ?_)
                        · replace h := h.1 c81
                          exact J321 r62 S73 _ _ _ fr62 hI (lv_sub hl [1, 0] rfl) h
                        · replace h := h.2 c81
                          refine lv_iload_n hx hb dX2_nextToken_303 rfl (lv_at hl 0 rfl) ?_
                          refine nr_bipush hx hb dX2_nextToken_304 (by decide) ?_
                          refine nr_icmp_eq hx hb fr62 (by decide) dX2_nextToken_306 (tgt := 321) (by decide) (fun c82 => ?_) (fun c82 => ?_)
                          · replace h := h.1 c82
                            exact J321 r62 S73 _ _ _ fr62 hI (lv_sub hl [1, 0] rfl) h
                          · replace h := h.2 c82
                            refine lv_iload_n hx hb dX2_nextToken_309 rfl (lv_at hl 0 rfl) ?_
                            refine nr_bipush hx hb dX2_nextToken_310 (by decide) ?_
                            refine nr_icmp_eq hx hb fr62 (by decide) dX2_nextToken_312 (tgt := 321) (by decide) (fun c83 => ?_) (fun c83 => ?_)
                            · replace h := h.1 c83
                              exact J321 r62 S73 _ _ _ fr62 hI (lv_sub hl [1, 0] rfl) h
                            · replace h := h.2 c83
                              refine lv_iload_n hx hb dX2_nextToken_315 rfl (lv_at hl 0 rfl) ?_
                              refine nr_bipush hx hb dX2_nextToken_316 (by decide) ?_
                              refine nr_icmp_ne hx hb fr62 (by decide) dX2_nextToken_318 (tgt := 325) (by decide) (fun c84 => ?_) (fun c84 => ?_)
                              · replace h := h.1 c84
                                refine nr_iconst hx hb dX2_nextToken_325 ?_
                                exact J326 r62 0 S73 _ _ _ fr62 (by decide) hI (lv_sub hl [1, 0] rfl) h
                              · replace h := h.2 c84
                                exact J321 r62 S73 _ _ _ fr62 hI (lv_sub hl [1, 0] rfl) h
        · replace h := h.2 c70
          refine lv_aload_n hx hb dX2_nextToken_151 rfl (lv_at hl 1 rfl) ?_
          refine nr_iconst hx hb dX2_nextToken_152 ?_
          refine uMX2_129_17 hF hK hI (by decide) dX2_nextToken_153 (fun S85 H locs eS85 hI => ?_)
          replace h := h S85 eS85
          refine lv_aload_n hx hb dX2_nextToken_156 rfl (lv_at hl 1 rfl) ?_
          refine nr_lconst (v := 0) hx hb dX2_nextToken_157 rfl ?_
          refine uMX2_142_17 hF hK hI (by decide) dX2_nextToken_158 (fun S86 H locs eS86 hI => ?_)
          replace h := h S86 eS86
          obtain ⟨n0, h⟩ := h
          exact L161 n0 S86 _ _ _ hI (lv_sub hl [1] rfl) h
      · replace h := h.2 c67
        refine lv_aload_n hx hb dX2_nextToken_75 rfl (lv_at hl 1 rfl) ?_
        refine nr_iconst hx hb dX2_nextToken_76 ?_
        refine uMX2_129_17 hF hK hI (by decide) dX2_nextToken_77 (fun S87 H locs eS87 hI => ?_)
        replace h := h S87 eS87
        refine lv_aload_n hx hb dX2_nextToken_80 rfl (lv_at hl 1 rfl) ?_
        refine nr_iconst hx hb dX2_nextToken_81 ?_
        refine uMX2_135_17 hF hK hI (by decide) dX2_nextToken_82 (fun S88 H locs eS88 hI => ?_)
        replace h := h S88 eS88
        obtain ⟨n0, h⟩ := h
        exact L85 n0 S88 _ _ _ hI (lv_sub hl [1] rfl) h
    · replace h := h.2 c64
      refine lv_aload_n hx hb dX2_nextToken_60 rfl (lv_at hl 1 rfl) ?_
      refine nr_iconst hx hb dX2_nextToken_61 ?_
      refine uMX2_129_17 hF hK hI (by decide) dX2_nextToken_62 (fun S89 H locs eS89 hI => ?_)
      replace h := h S89 eS89
      refine lv_goto (tgt := 390) hx hb dX2_nextToken_65 (by decide) ?_
      rw [← hQ]; exact s_vret (K := K) hx hb hr hlocks hI  h dX2_nextToken_390
  have L0 : ∀ (n0 : Nat) (S : St) (H : Heap) (locs : List Loc) (ls : Array Slot), sI D dA wM ad A s.heap S H locs → lv_has ls 3 [(0, .ref (ad 17))] → l_M_nextToken_0 K (fun (zS : St) => j_M_nextToken_39 zS K) n0 S → W p l e R s m args below meth c H locs 0 0 Q (F0 m 0 ls []) := by
    intro n0
    induction n0 with
    | zero => intro S H locs ls hI hl h; exact False.elim h
    | succ n0 ih0 =>
      intro S H locs ls hI hl h
      have J26 : ∀ (S : St) (H : Heap) (locs : List Loc) (ls : Array Slot), sI D dA wM ad A s.heap S H locs → lv_has ls 3 [(0, .ref (ad 17))] → j_M_nextToken_26 S K (fun (zS : St) => j_M_nextToken_39 zS K) (l_M_nextToken_0 K (fun (zS : St) => j_M_nextToken_39 zS K) n0) → W p l e R s m args below meth c H locs 0 0 Q (F0 m 26 ls []) := by
        intro S H locs ls hI hl h
        unfold j_M_nextToken_26 at h
        refine lv_aload_n hx hb dX2_nextToken_26 rfl (lv_at hl 0 rfl) ?_
        refine lv_dup hx hb dX2_nextToken_27 rfl ?_
        refine gMX2_120_17 hF hK hI dX2_nextToken_28 (fun f90 => ?_)
        replace h := h f90
        refine nr_iconst hx hb dX2_nextToken_31 ?_
        have f91 := h.1; replace h := h.2
        refine nr_iadd hx hb dX2_nextToken_32 ?_
        refine uMX2_120_17 hF hK hI f91 dX2_nextToken_33 (fun S92 H locs eS92 hI => ?_)
        replace h := h S92 eS92
        refine lv_goto (tgt := 0) hx hb dX2_nextToken_36 (by decide) ?_
        exact ih0 S92 _ _ _ hI (lv_sub hl [0] rfl) h
      unfold l_M_nextToken_0 at h
      refine lv_aload_n hx hb dX2_nextToken_0 rfl (lv_at hl 0 rfl) ?_
      refine lv_aload_n hx hb dX2_nextToken_1 rfl (lv_at hl 0 rfl) ?_
      refine gMX2_120_17 hF hK hI dX2_nextToken_2 (fun f93 => ?_)
      replace h := h f93
      refine cMX2_123 hF hK hI hl.1 hR (by decide) (Nat.le_of_ble_eq_true rfl) ⟨Nat.zero_le _, Nat.zero_le _⟩ f93 h dX2_nextToken_5 (fun r94 H locs fr94 h hI => ?_)
      replace h := h fr94
      refine nr_bipush hx hb dX2_nextToken_8 (by decide) ?_
      refine nr_icmp_eq hx hb fr94 (by decide) dX2_nextToken_10 (tgt := 26) (by decide) (fun c96 => ?_) (fun c96 => ?_)
      · replace h := h.1 c96
        exact J26 S _ _ _ hI (lv_sub hl [0] rfl) h
      · replace h := h.2 c96
        refine lv_aload_n hx hb dX2_nextToken_13 rfl (lv_at hl 0 rfl) ?_
        refine lv_aload_n hx hb dX2_nextToken_14 rfl (lv_at hl 0 rfl) ?_
        refine gMX2_120_17 hF hK hI dX2_nextToken_15 (fun f97 => ?_)
        refine cMX2_123 hF hK hI hl.1 hR (by decide) (Nat.le_of_ble_eq_true rfl) ⟨Nat.zero_le _, Nat.zero_le _⟩ f93 h dX2_nextToken_18 (fun r98 H locs fr98 h hI => ?_)
        replace h := h fr98
        refine nr_bipush hx hb dX2_nextToken_21 (by decide) ?_
        refine nr_icmp_ne hx hb fr98 (by decide) dX2_nextToken_23 (tgt := 39) (by decide) (fun c100 => ?_) (fun c100 => ?_)
        · replace h := h.1 c100
          exact J39 S _ _ _ hI (lv_sub hl [0] rfl) h
        · replace h := h.2 c100
          exact J26 S _ _ _ hI (lv_sub hl [0] rfl) h
  unfold w_M_nextToken at h
  obtain ⟨n0, h⟩ := h
  exact L0 n0 S _ _ _ hI (lv_sub hl [0] rfl) h
