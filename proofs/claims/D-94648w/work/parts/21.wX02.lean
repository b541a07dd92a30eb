set_option maxRecDepth 100000
theorem gXX0_30_129 {p : Program} {l : Launch} {e : Env} {R : Room} {s : State} {m : MethodId} {args : Array Value} {below : List Frame} {meth : Method} {c : Code} {H : Heap} {locs : List Loc} {Q : State → Prop} {cc : ByteArray} {nL pc : Nat} {ls : Array Slot} {rest : List Value} {cells slots : Nat} {D : va_G} {dA : Nat → ClassId} {ad : Nat → Nat} {A : Nat → Prop} {H0 : Heap} {S : St} (hF : CallFix p m c cc nL s args lw_all RX0) (hK : gK D dA s) (hI : sI D dA wX ad A H0 S H locs) (hdg : decode cc pc = .ok (.getfield 30, 3)) (kk : W p l e R s m args below meth c H locs cells slots Q (F0 m (pc + 3) ls (.ref (ad 9) :: rest))) : W p l e R s m args below meth c H locs cells slots Q (F0 m (pc) ls (.ref (ad 129) :: rest)) := s_getr hF.1 hF.2.1 hF.2.2.2.2 hF.2.2.2.1 hK hI 129 (by decide) wX_129 rfl in_X0 6 (by decide) q210 rfl 9 rfl hdg kk
theorem cXX0_153 {p : Program} {l : Launch} {e : Env} {R : Room} {s : State} {m : MethodId} {args : Array Value} {below : List Frame} {meth : Method} {c : Code} {H : Heap} {locs : List Loc} {Q : State → Prop} {cc : ByteArray} {nL pc : Nat} {ls : Array Slot} {rest : List Value} {cells slots : Nat} {D : va_G} {dA : Nat → ClassId} {ad : Nat → Nat} {A : Nat → Prop} {H0 : Heap} {S : St} {dk : Nat} (hF : CallFix p m c cc nL s args lw_all RX0) (hK : gK D dA s) (hI : sI D dA wX ad A H0 S H locs) (hls : ls.size = nL) (hR : R.frames = dk + 1 ∧ R.locals = 64 * dk + 64) (hd : 1 + 1 ≤ dk) (hW : (rest.map fun v => v.category).sum ≤ 8) (hf : cells ≤ R.cells ∧ slots ≤ R.slots) {x1 : Int} {K : Int → Prop} (r1 : InR x1) (h : w_X_proofsOf x1 S K) (hdg : decode cc pc = .ok (.invokevirtual 153, 3)) (kk : ∀ (r : Int) (H1 : Heap) (locs1 : List Loc), InR r → K r → sI D dA wX ad A H0 S H1 locs1 → W p l e R s m args below meth c H1 locs1 cells slots Q (F0 m (pc + 3) ls (iV r :: rest))) : W p l e R s m args below meth c H locs cells slots Q (F0 m (pc) ls (iV x1 :: .ref (ad 129) :: rest)) := s_callVi (As := [iV x1]) (rest := rest) (K := fun r S' => S' = S ∧ K r) hF (t_X_proofsOf l D dA ad S H.size x1 K r1 h) (s_recv hK hI 129 (by decide) wX_129 rfl) (cwV 1 hF.2.2.2.2 (lw_V q891 q893 qs32 q106 q894) rfl rfl rfl (by decide +kernel) ⟨by have h1 := hR.1; have h2 : (rmD 1 0 0).frames = 1 + 1 := rfl; omega, by have h1 := hR.2; have h2 : (rmD 1 0 0).locals = 64 * 1 + 64 := rfl; omega⟩) hK hI rfl hls rfl hW hdg hf (fun r S1 H1 locs1 f hk hI1 => by obtain ⟨rfl, hk⟩ := hk; exact kk r H1 locs1 f hk hI1)
set_option maxHeartbeats 4000000 in
theorem t_X_names (l : Launch) (D : va_G) (dA : Nat → ClassId) (ad : Nat → Nat) (S : St) (sz : Nat) (x1 : Int) (K : St → Prop) (rx1 : InR x1) (h : w_X_names x1 S K) : Met l yX0_names (ws_ yX0_names cX0_names 2 (Option.none : Option Jvm.ClassFile.FieldType)) (rmD 2 0 0) (va_Pc [.ref (ad 129), iV x1] (sPre D dA wX ad S sz)) (va_Qv (fun S' => K S') (sPost D dA wX ad (wA wX ad S sz)) (wA wX ad S sz)) 0 0 (wA wX ad S sz) := by
  refine Met.ofW (cc := cX0_names) (maxL := 2) (ret := (Option.none : Option Jvm.ClassFile.FieldType)) (by decide) rfl ?_
  intro p e s m args below meth c s₁ B hml hv
  obtain ⟨rfl, hsz, hK, hC⟩ := hv
  have hx := B.exec
  have hb := B.bytes
  have hr := B.returns
  have hlocks := B.notSynchronized
  have hts := atoms_spec (ws := (ws_ yX0_names cX0_names 2 (Option.none : Option Jvm.ClassFile.FieldType))) B.pre
  have hts : ∀ w ∈ lw_all, w.before _ s = true := fun w h => hts w (List.mem_cons_of_mem _ h)
  have hown : s.vm.findClass RX0 = some m.cls := findClass_of_methodNamed B.named
  clear B
  subst hsz
  have hI : sI D dA wX ad (wA wX ad S s.heap.size) s.heap S s.heap [] := hC.start
  clear hC
  generalize wA wX ad S s.heap.size = A at hI ⊢
  have hl := lv_entry ([.ref (ad 129), iV x1] : List Value) (n := 2) (Nat.le_of_ble_eq_true rfl)
  rw [lg_entry_eq]
  generalize (lg_sl ([.ref (ad 129), iV x1] : List Value) ++ List.replicate (2 - (lg_sl ([.ref (ad 129), iV x1] : List Value)).length) Slot.unset).toArray = ls at hl ⊢
  have hl : lv_has ls 2 [(0, .ref (ad 129)), (1, iV x1)] := hl
  have hF : CallFix p m c cX0_names 2 s _ lw_all RX0 := ⟨hx, hb, hml, hown, hts⟩
  have hR : (headSpec (ws_ yX0_names cX0_names 2 (Option.none : Option Jvm.ClassFile.FieldType)) (rmD 2 0 0)).room.frames = 2 + 1 ∧ (headSpec (ws_ yX0_names cX0_names 2 (Option.none : Option Jvm.ClassFile.FieldType)) (rmD 2 0 0)).room.locals = 64 * 2 + 64 := ⟨rfl, rfl⟩
  generalize (headSpec (ws_ yX0_names cX0_names 2 (Option.none : Option Jvm.ClassFile.FieldType)) (rmD 2 0 0)).room = R at hR ⊢
  generalize ([.ref (ad 129), iV x1] : List Value).toArray = args at hts hF ⊢
  generalize hQ : MQ below _ _ _ _ _ _ = Q
  unfold w_X_names at h
  refine lv_aload_n hx hb dX0_names_0 rfl (lv_at hl 0 rfl) ?_
  refine gXX0_30_129 hF hK hI dX0_names_1 ?_
  refine nr_iconst hx hb dX0_names_4 ?_
  refine lv_aload_n hx hb dX0_names_5 rfl (lv_at hl 0 rfl) ?_
  refine lv_iload_n hx hb dX0_names_6 rfl (lv_at hl 1 rfl) ?_
  refine nr_iconst hx hb dX0_names_7 ?_
  refine cXX0_149 hF hK hI hl.1 hR (by decide) (Nat.le_of_ble_eq_true rfl) ⟨Nat.zero_le _, Nat.zero_le _⟩ rx1 (by decide) h dX0_names_8 (fun r1 H locs fr1 h hI => ?_)
  replace h := h fr1
  refine s_iast hx hb hK hI 9 (by decide) wX_9 (by decide) (by decide) fr1 dX0_names_11 (fun S3 H locs eS3 hI => ?_)
  replace h := h S3 eS3
  refine lv_aload_n hx hb dX0_names_12 rfl (lv_at hl 0 rfl) ?_
  refine gXX0_30_129 hF hK hI dX0_names_13 ?_
  refine nr_iconst hx hb dX0_names_16 ?_
  refine lv_aload_n hx hb dX0_names_17 rfl (lv_at hl 0 rfl) ?_
  refine lv_iload_n hx hb dX0_names_18 rfl (lv_at hl 1 rfl) ?_
  refine nr_iconst hx hb dX0_names_19 ?_
  refine cXX0_149 hF hK hI hl.1 hR (by decide) (Nat.le_of_ble_eq_true rfl) ⟨Nat.zero_le _, Nat.zero_le _⟩ rx1 (by decide) h dX0_names_20 (fun r4 H locs fr4 h hI => ?_)
  replace h := h fr4
  refine s_iast hx hb hK hI 9 (by decide) wX_9 (by decide) (by decide) fr4 dX0_names_23 (fun S6 H locs eS6 hI => ?_)
  replace h := h S6 eS6
  refine lv_aload_n hx hb dX0_names_24 rfl (lv_at hl 0 rfl) ?_
  refine gXX0_30_129 hF hK hI dX0_names_25 ?_
  refine nr_iconst hx hb dX0_names_28 ?_
  refine lv_aload_n hx hb dX0_names_29 rfl (lv_at hl 0 rfl) ?_
  refine lv_iload_n hx hb dX0_names_30 rfl (lv_at hl 1 rfl) ?_
  refine nr_iconst hx hb dX0_names_31 ?_
  refine cXX0_149 hF hK hI hl.1 hR (by decide) (Nat.le_of_ble_eq_true rfl) ⟨Nat.zero_le _, Nat.zero_le _⟩ rx1 (by decide) h dX0_names_32 (fun r7 H locs fr7 h hI => ?_)
  replace h := h fr7
  refine s_iast hx hb hK hI 9 (by decide) wX_9 (by decide) (by decide) fr7 dX0_names_35 (fun S9 H locs eS9 hI => ?_)
  replace h := h S9 eS9
  refine lv_aload_n hx hb dX0_names_36 rfl (lv_at hl 0 rfl) ?_
  refine gXX0_30_129 hF hK hI dX0_names_37 ?_
  refine nr_iconst hx hb dX0_names_40 ?_
  refine lv_aload_n hx hb dX0_names_41 rfl (lv_at hl 0 rfl) ?_
  refine lv_iload_n hx hb dX0_names_42 rfl (lv_at hl 1 rfl) ?_
  refine cXX0_153 hF hK hI hl.1 hR (by decide) (Nat.le_of_ble_eq_true rfl) ⟨Nat.zero_le _, Nat.zero_le _⟩ rx1 h dX0_names_43 (fun r10 H locs fr10 h hI => ?_)
  replace h := h fr10
  refine s_iast hx hb hK hI 9 (by decide) wX_9 (by decide) (by decide) fr10 dX0_names_46 (fun S12 H locs eS12 hI => ?_)
  replace h := h S12 eS12
  refine lv_aload_n hx hb dX0_names_47 rfl (lv_at hl 0 rfl) ?_
  refine gXX0_30_129 hF hK hI dX0_names_48 ?_
  refine nr_iconst hx hb dX0_names_51 ?_
  refine lv_aload_n hx hb dX0_names_52 rfl (lv_at hl 0 rfl) ?_
  refine cXX0_156 hF hK hI hl.1 hR (by decide) (Nat.le_of_ble_eq_true rfl) ⟨Nat.zero_le _, Nat.zero_le _⟩ h dX0_names_53 (fun r13 H locs fr13 h hI => ?_)
  replace h := h fr13
  refine s_iast hx hb hK hI 9 (by decide) wX_9 (by decide) (by decide) fr13 dX0_names_56 (fun S15 H locs eS15 hI => ?_)
  replace h := h S15 eS15
  rw [← hQ]; exact s_vret (K := K) hx hb hr hlocks hI  h dX0_names_57
theorem cXX0_242 {p : Program} {l : Launch} {e : Env} {R : Room} {s : State} {m : MethodId} {args : Array Value} {below : List Frame} {meth : Method} {c : Code} {H : Heap} {locs : List Loc} {Q : State → Prop} {cc : ByteArray} {nL pc : Nat} {ls : Array Slot} {rest : List Value} {cells slots : Nat} {D : va_G} {dA : Nat → ClassId} {ad : Nat → Nat} {A : Nat → Prop} {H0 : Heap} {S : St} {dk : Nat} (hF : CallFix p m c cc nL s args lw_all RX0) (hK : gK D dA s) (hI : sI D dA wX ad A H0 S H locs) (hls : ls.size = nL) (hR : R.frames = dk + 1 ∧ R.locals = 64 * dk + 64) (hd : 1 + 1 ≤ dk) (hW : (rest.map fun v => v.category).sum ≤ 8) (hf : cells ≤ R.cells ∧ slots ≤ R.slots) {k0 n0 : Nat} {k1 n1 : Nat} {K : St → Prop} (hk0 : k0 < wX.1) (hd0 : wX.2.1 k0 = .inl (0, n0)) (hn0 : n0 ≤ 100000) (hk1 : k1 < wX.1) (hd1 : wX.2.1 k1 = .inl (0, n1)) (hn1 : n1 ≤ 100000) (h : w_X1_copy k0 n0 k1 n1 S K) (hdg : decode cc pc = .ok (.invokestatic 242, 3)) (kk : ∀ (S1 : St) (H1 : Heap) (locs1 : List Loc), K S1 → sI D dA wX ad A H0 S1 H1 locs1 → W p l e R s m args below meth c H1 locs1 cells slots Q (F0 m (pc + 3) ls (rest))) : W p l e R s m args below meth c H locs cells slots Q (F0 m (pc) ls (.ref (ad k1) :: .ref (ad k0) :: rest)) := s_callSNv (As := [.ref (ad k0), .ref (ad k1)]) (rest := rest) (K := K) hF (t_X1_copy l D dA ad S H.size k0 n0 k1 n1 K hk0 hd0 hn0 hk1 hd1 hn1 h) ⟨va_cnB 2 hF.2.2.2.2 (lw_meth q197) rfl rfl rfl (nMl_0 hK.2) (hF.2.2.2.2 _ q107) (by decide +kernel) ⟨by have h1 := hR.1; have h2 : (rmD 1 0 0).frames = 1 + 1 := rfl; omega, by have h1 := hR.2; have h2 : (rmD 1 0 0).locals = 64 * 1 + 64 := rfl; omega⟩, hF.2.2.2.2 _ q196, trivial⟩ hK hI rfl hls rfl hW hdg hf kk
set_option maxHeartbeats 4000000 in
theorem t_X_undo (l : Launch) (D : va_G) (dA : Nat → ClassId) (ad : Nat → Nat) (S : St) (sz : Nat) (K : Int → St → Prop) (h : w_X_undo S K) : Met l yX0_undo (ws_ yX0_undo cX0_undo 1 (Option.some Jvm.ClassFile.FieldType.int)) (rmD 2 0 0) (va_Pc [.ref (ad 129)] (sPre D dA wX ad S sz)) (va_Qi (fun r S' => K r.toInt S') (sPost D dA wX ad (wA wX ad S sz)) (wA wX ad S sz)) 0 0 (wA wX ad S sz) := by
  refine Met.ofW (cc := cX0_undo) (maxL := 1) (ret := (Option.some Jvm.ClassFile.FieldType.int)) (by decide) rfl ?_
  intro p e s m args below meth c s₁ B hml hv
  obtain ⟨rfl, hsz, hK, hC⟩ := hv
  have hx := B.exec
  have hb := B.bytes
  have hr := B.returns
  have hlocks := B.notSynchronized
  have hts := atoms_spec (ws := (ws_ yX0_undo cX0_undo 1 (Option.some Jvm.ClassFile.FieldType.int))) B.pre
  have hts : ∀ w ∈ lw_all, w.before _ s = true := fun w h => hts w (List.mem_cons_of_mem _ h)
  have hown : s.vm.findClass RX0 = some m.cls := findClass_of_methodNamed B.named
  clear B
  subst hsz
  have hI : sI D dA wX ad (wA wX ad S s.heap.size) s.heap S s.heap [] := hC.start
  clear hC
  generalize wA wX ad S s.heap.size = A at hI ⊢
  have hl := lv_entry ([.ref (ad 129)] : List Value) (n := 1) (Nat.le_of_ble_eq_true rfl)
  rw [lg_entry_eq]
  generalize (lg_sl ([.ref (ad 129)] : List Value) ++ List.replicate (1 - (lg_sl ([.ref (ad 129)] : List Value)).length) Slot.unset).toArray = ls at hl ⊢
  have hl : lv_has ls 1 [(0, .ref (ad 129))] := hl
  have hF : CallFix p m c cX0_undo 1 s _ lw_all RX0 := ⟨hx, hb, hml, hown, hts⟩
  have hR : (headSpec (ws_ yX0_undo cX0_undo 1 (Option.some Jvm.ClassFile.FieldType.int)) (rmD 2 0 0)).room.frames = 2 + 1 ∧ (headSpec (ws_ yX0_undo cX0_undo 1 (Option.some Jvm.ClassFile.FieldType.int)) (rmD 2 0 0)).room.locals = 64 * 2 + 64 := ⟨rfl, rfl⟩
  generalize (headSpec (ws_ yX0_undo cX0_undo 1 (Option.some Jvm.ClassFile.FieldType.int)) (rmD 2 0 0)).room = R at hR ⊢
  generalize ([.ref (ad 129)] : List Value).toArray = args at hts hF ⊢
  generalize hQ : MQ below _ _ _ _ _ _ = Q
  unfold w_X_undo at h
  refine lv_aload_n hx hb dX0_undo_0 rfl (lv_at hl 0 rfl) ?_
  refine gXX0_12_129 hF hK hI dX0_undo_1 ?_
  refine gXX0_71_130 hF hK hI dX0_undo_4 ?_
  refine nr_iconst hx hb dX0_undo_7 ?_
  refine s_iald hx hb hK hI 0 (by decide) wX_0 (by decide) (by decide) dX0_undo_8 (fun f1 => ?_)
  replace h := h f1
  refine nr_if_ne hx hb f1 dX0_undo_9 (tgt := 14) (by decide) (fun c2 => ?_) (fun c2 => ?_)
  · replace h := h.1 c2
    refine lv_aload_n hx hb dX0_undo_14 rfl (lv_at hl 0 rfl) ?_
    refine gXX0_12_129 hF hK hI dX0_undo_15 ?_
    refine gXX0_71_130 hF hK hI dX0_undo_18 ?_
    refine nr_iconst hx hb dX0_undo_21 ?_
    refine lv_dup2_11 hx hb dX0_undo_22 rfl rfl ?_
    refine s_iald hx hb hK hI 0 (by decide) wX_0 (by decide) (by decide) dX0_undo_23 (fun f3 => ?_)
    refine nr_iconst hx hb dX0_undo_24 ?_
    have f4 := h.1; replace h := h.2
    refine nr_isub hx hb dX0_undo_25 ?_
    refine s_iast hx hb hK hI 0 (by decide) wX_0 (by decide) (by decide) f4 dX0_undo_26 (fun S5 H locs eS5 hI => ?_)
    replace h := h S5 eS5
    refine lv_aload_n hx hb dX0_undo_27 rfl (lv_at hl 0 rfl) ?_
    refine gXX0_12_129 hF hK hI dX0_undo_28 ?_
    refine gXX0_101_130 hF hK hI dX0_undo_31 ?_
    refine lv_aload_n hx hb dX0_undo_34 rfl (lv_at hl 0 rfl) ?_
    refine gXX0_12_129 hF hK hI dX0_undo_35 ?_
    refine gXX0_71_130 hF hK hI dX0_undo_38 ?_
    refine nr_iconst hx hb dX0_undo_41 ?_
    refine s_iald hx hb hK hI 0 (by decide) wX_0 (by decide) (by decide) dX0_undo_42 (fun f6 => ?_)
    replace h := h f6
    have f7 := h.1; replace h := h.2
    refine s_aald hx hb hK hI 132 (by decide) wX_132 ⟨rfl, rfl⟩ f6 f7 dX0_undo_43 ?_
    refine lv_aload_n hx hb dX0_undo_44 rfl (lv_at hl 0 rfl) ?_
    refine gXX0_12_129 hF hK hI dX0_undo_45 ?_
    refine gXX0_78_130 hF hK hI dX0_undo_48 ?_
    refine cXX0_242 hF hK hI hl.1 hR (by decide) (Nat.le_of_ble_eq_true rfl) ⟨Nat.zero_le _, Nat.zero_le _⟩ (k0 := (15 + Int.toNat (aI S5 0 4))) (n0 := 91) (hk0 := (wX_rk132 f7)) (hd0 := (wX_rw132 f7)) (hn0 := (by decide)) (k1 := 3) (n1 := 91) (hk1 := (by decide)) (hd1 := wX_3) (hn1 := (by decide)) h dX0_undo_51 (fun S9 H locs h hI => ?_)
    refine lv_aload_n hx hb dX0_undo_54 rfl (lv_at hl 0 rfl) ?_
    refine gXX0_12_129 hF hK hI dX0_undo_55 ?_
    refine gXX0_71_130 hF hK hI dX0_undo_58 ?_
    refine nr_iconst hx hb dX0_undo_61 ?_
    refine s_iald hx hb hK hI 0 (by decide) wX_0 (by decide) (by decide) dX0_undo_62 (fun f10 => ?_)
    replace h := h f10
    rw [← hQ]; exact s_iret (K := K) hx hb hr hlocks hI f10 h dX0_undo_63
  · replace h := h.2 c2
    refine nr_iconst hx hb dX0_undo_12 ?_
    rw [← hQ]; exact s_iret (K := K) hx hb hr hlocks hI (by decide) h dX0_undo_13
set_option maxHeartbeats 4000000 in
theorem t_X_rules_2 (l : Launch) (D : va_G) (dA : Nat → ClassId) (ad : Nat → Nat) (S : St) (sz : Nat) (x1 : Int) (x2 : Int) (K : Int → St → Prop) (rx1 : InR x1) (rx2 : InR x2) (h : w_X_rules_2 x1 x2 S K) : Met l yX0_rules_2 (ws_ yX0_rules_2 cX0_rules_2 3 (Option.some Jvm.ClassFile.FieldType.boolean)) (rmD 1 0 0) (va_Pc [.ref (ad 129), iV x1, iV x2] (sPre D dA wX ad S sz)) (va_Qi (fun r S' => (r.toInt = 0 ∨ r.toInt = 1) ∧ (K r.toInt S')) (sPost D dA wX ad (wA wX ad S sz)) (wA wX ad S sz)) 0 0 (wA wX ad S sz) := by
  refine Met.ofW (cc := cX0_rules_2) (maxL := 3) (ret := (Option.some Jvm.ClassFile.FieldType.boolean)) (by decide) rfl ?_
  intro p e s m args below meth c s₁ B hml hv
  obtain ⟨rfl, hsz, hK, hC⟩ := hv
  have hx := B.exec
  have hb := B.bytes
  have hr := B.returns
  have hlocks := B.notSynchronized
  have hts := atoms_spec (ws := (ws_ yX0_rules_2 cX0_rules_2 3 (Option.some Jvm.ClassFile.FieldType.boolean))) B.pre
  have hts : ∀ w ∈ lw_all, w.before _ s = true := fun w h => hts w (List.mem_cons_of_mem _ h)
  have hown : s.vm.findClass RX0 = some m.cls := findClass_of_methodNamed B.named
  clear B
  subst hsz
  have hI : sI D dA wX ad (wA wX ad S s.heap.size) s.heap S s.heap [] := hC.start
  clear hC
  generalize wA wX ad S s.heap.size = A at hI ⊢
  have hl := lv_entry ([.ref (ad 129), iV x1, iV x2] : List Value) (n := 3) (Nat.le_of_ble_eq_true rfl)
  rw [lg_entry_eq]
  generalize (lg_sl ([.ref (ad 129), iV x1, iV x2] : List Value) ++ List.replicate (3 - (lg_sl ([.ref (ad 129), iV x1, iV x2] : List Value)).length) Slot.unset).toArray = ls at hl ⊢
  have hl : lv_has ls 3 [(0, .ref (ad 129)), (1, iV x1), (2, iV x2)] := hl
  have hF : CallFix p m c cX0_rules_2 3 s _ lw_all RX0 := ⟨hx, hb, hml, hown, hts⟩
  have hR : (headSpec (ws_ yX0_rules_2 cX0_rules_2 3 (Option.some Jvm.ClassFile.FieldType.boolean)) (rmD 1 0 0)).room.frames = 1 + 1 ∧ (headSpec (ws_ yX0_rules_2 cX0_rules_2 3 (Option.some Jvm.ClassFile.FieldType.boolean)) (rmD 1 0 0)).room.locals = 64 * 1 + 64 := ⟨rfl, rfl⟩
  generalize (headSpec (ws_ yX0_rules_2 cX0_rules_2 3 (Option.some Jvm.ClassFile.FieldType.boolean)) (rmD 1 0 0)).room = R at hR ⊢
  generalize ([.ref (ad 129), iV x1, iV x2] : List Value).toArray = args at hts hF ⊢
  generalize hQ : MQ below _ _ _ _ _ _ = Q
  unfold w_X_rules_2 at h
  refine lv_iload_n hx hb dX0_rules_2_0 rfl (lv_at hl 1 rfl) ?_
  refine nr_iconst hx hb dX0_rules_2_1 ?_
  refine nr_bipush hx hb dX0_rules_2_2 (by decide) ?_
  refine cXX0_74 hF hK hI hl.1 hR (by decide) (Nat.le_of_ble_eq_true rfl) ⟨Nat.zero_le _, Nat.zero_le _⟩ rx1 (by decide) (by decide) h dX0_rules_2_4 (fun r1 H locs fr1 h hI => ?_)
  replace h := h fr1
  have gr1 : InR r1 := kdP_R (k := 2) (by decide) fr1
  refine nr_if_eq hx hb gr1 dX0_rules_2_7 (tgt := 20) (by decide) (fun c3 => ?_) (fun c3 => ?_)
  · replace h := h.1 c3
    refine nr_iconst hx hb dX0_rules_2_20 ?_
    rw [← hQ]; exact s_zret (K := K) hx hb hr hlocks hI (by decide) h dX0_rules_2_21
  · replace h := h.2 c3
    refine lv_iload_n hx hb dX0_rules_2_10 rfl (lv_at hl 2 rfl) ?_
    refine nr_iconst hx hb dX0_rules_2_11 ?_
    refine nr_bipush hx hb dX0_rules_2_12 (by decide) ?_
    refine cXX0_74 hF hK hI hl.1 hR (by decide) (Nat.le_of_ble_eq_true rfl) ⟨Nat.zero_le _, Nat.zero_le _⟩ rx2 (by decide) (by decide) h dX0_rules_2_14 (fun r4 H locs fr4 h hI => ?_)
    replace h := h fr4
    have gr4 : InR r4 := kdP_R (k := 2) (by decide) fr4
    refine nr_if_ne hx hb gr4 dX0_rules_2_17 (tgt := 22) (by decide) (fun c6 => ?_) (fun c6 => ?_)
    · replace h := h.1 c6
      refine lv_aload_n hx hb dX0_rules_2_22 rfl (lv_at hl 0 rfl) ?_
      refine gXX0_12_129 hF hK hI dX0_rules_2_23 ?_
      refine gXX0_71_130 hF hK hI dX0_rules_2_26 ?_
      refine nr_bipush hx hb dX0_rules_2_29 (by decide) ?_
      refine lv_iload_n hx hb dX0_rules_2_31 rfl (lv_at hl 1 rfl) ?_
      refine s_iast hx hb hK hI 0 (by decide) wX_0 (by decide) (by decide) rx1 dX0_rules_2_32 (fun S7 H locs eS7 hI => ?_)
      replace h := h S7 eS7
      refine lv_aload_n hx hb dX0_rules_2_33 rfl (lv_at hl 0 rfl) ?_
      refine gXX0_12_129 hF hK hI dX0_rules_2_34 ?_
      refine gXX0_71_130 hF hK hI dX0_rules_2_37 ?_
      refine nr_bipush hx hb dX0_rules_2_40 (by decide) ?_
      refine lv_iload_n hx hb dX0_rules_2_42 rfl (lv_at hl 2 rfl) ?_
      refine s_iast hx hb hK hI 0 (by decide) wX_0 (by decide) (by decide) rx2 dX0_rules_2_43 (fun S8 H locs eS8 hI => ?_)
      replace h := h S8 eS8
      refine nr_iconst hx hb dX0_rules_2_44 ?_
      rw [← hQ]; exact s_zret (K := K) hx hb hr hlocks hI (by decide) h dX0_rules_2_45
    · replace h := h.2 c6
      refine nr_iconst hx hb dX0_rules_2_20 ?_
      rw [← hQ]; exact s_zret (K := K) hx hb hr hlocks hI (by decide) h dX0_rules_2_21
theorem gXX0_289_130 {p : Program} {l : Launch} {e : Env} {R : Room} {s : State} {m : MethodId} {args : Array Value} {below : List Frame} {meth : Method} {c : Code} {H : Heap} {locs : List Loc} {Q : State → Prop} {cc : ByteArray} {nL pc : Nat} {ls : Array Slot} {rest : List Value} {cells slots : Nat} {D : va_G} {dA : Nat → ClassId} {ad : Nat → Nat} {A : Nat → Prop} {H0 : Heap} {S : St} (hF : CallFix p m c cc nL s args lw_all RX0) (hK : gK D dA s) (hI : sI D dA wX ad A H0 S H locs) (hdg : decode cc pc = .ok (.getfield 289, 3)) (kk : W p l e R s m args below meth c H locs cells slots Q (F0 m (pc + 3) ls (.ref (ad 134) :: rest))) : W p l e R s m args below meth c H locs cells slots Q (F0 m (pc) ls (.ref (ad 130) :: rest)) := s_getrN hF.1 hF.2.1 hF.2.2.2.2 hF.2.2.2.1 hK hI 130 (by decide) wX_130 rfl in_X1 5 (by decide) (nFl_5 hK.2) rfl 134 rfl hdg kk
theorem cXX0_242_q {p : Program} {l : Launch} {e : Env} {R : Room} {s : State} {m : MethodId} {args : Array Value} {below : List Frame} {meth : Method} {c : Code} {H : Heap} {locs : List Loc} {Q : State → Prop} {cc : ByteArray} {nL pc : Nat} {ls : Array Slot} {rest : List Value} {cells slots : Nat} {D : va_G} {dA : Nat → ClassId} {ad : Nat → Nat} {A : Nat → Prop} {H0 : Heap} {S : St} {dk : Nat} (hF : CallFix p m c cc nL s args lw_all RX0) (hK : gK D dA s) (hI : sI D dA wX ad A H0 S H locs) (hls : ls.size = nL) (hR : R.frames = dk + 1 ∧ R.locals = 64 * dk + 64) (hd : 1 + 1 ≤ dk) (hW : (rest.map fun v => v.category).sum ≤ 8) (hf : cells ≤ R.cells ∧ slots ≤ R.slots) {x0 : Nat} {k1 n1 : Nat} {K : St → Prop} (hk1 : k1 < wX.1) (hd1 : wX.2.1 k1 = .inl (0, n1)) (hn1 : n1 ≤ 100000) (h : w_X1_copy_q k1 n1 x0 S K) (hdg : decode cc pc = .ok (.invokestatic 242, 3)) (kk : ∀ (S1 : St) (H1 : Heap) (locs1 : List Loc), K S1 → sI D dA wX ad A H0 S1 H1 locs1 → W p l e R s m args below meth c H1 locs1 cells slots Q (F0 m (pc + 3) ls (rest))) : W p l e R s m args below meth c H locs cells slots Q (F0 m (pc) ls (.ref (ad k1) :: .ref x0 :: rest)) := s_callSNv (As := [.ref x0, .ref (ad k1)]) (rest := rest) (K := K) hF (t_X1_copy_q l D dA ad S H.size k1 n1 x0 K hk1 hd1 hn1 h) ⟨va_cnB 2 hF.2.2.2.2 (lw_meth q197) rfl rfl rfl (nMl_0 hK.2) (hF.2.2.2.2 _ q107) (by decide +kernel) ⟨by have h1 := hR.1; have h2 : (rmD 1 0 0).frames = 1 + 1 := rfl; omega, by have h1 := hR.2; have h2 : (rmD 1 0 0).locals = 64 * 1 + 64 := rfl; omega⟩, hF.2.2.2.2 _ q196, trivial⟩ hK hI rfl hls rfl hW hdg hf kk
set_option maxHeartbeats 4000000 in
theorem t_X_seen (l : Launch) (D : va_G) (dA : Nat → ClassId) (ad : Nat → Nat) (S : St) (sz : Nat) (x1 : Int) (x2 : Int) (x3 : Int) (x4 : Int) (K : Int → St → Prop) (rx1 : InR x1) (rx2 : InR x2) (rx3 : InR x3) (rx4 : InR x4) (h : w_X_seen x1 x2 x3 x4 S K) : Met l yX0_seen (ws_ yX0_seen cX0_seen 6 (Option.some Jvm.ClassFile.FieldType.int)) (rmD 2 1 4) (va_Pc [.ref (ad 129), iV x1, iV x2, iV x3, iV x4] (sPre D dA wX ad S sz)) (va_Qi (fun r S' => K r.toInt S') (sPost D dA wX ad (wA wX ad S sz)) (wA wX ad S sz)) 1 4 (wA wX ad S sz) := by
  refine Met.ofW (cc := cX0_seen) (maxL := 6) (ret := (Option.some Jvm.ClassFile.FieldType.int)) (by decide) rfl ?_
  intro p e s m args below meth c s₁ B hml hv
  obtain ⟨rfl, hsz, hK, hC⟩ := hv
  have hx := B.exec
  have hb := B.bytes
  have hr := B.returns
  have hlocks := B.notSynchronized
  have hts := atoms_spec (ws := (ws_ yX0_seen cX0_seen 6 (Option.some Jvm.ClassFile.FieldType.int))) B.pre
  have hts : ∀ w ∈ lw_all, w.before _ s = true := fun w h => hts w (List.mem_cons_of_mem _ h)
  have hown : s.vm.findClass RX0 = some m.cls := findClass_of_methodNamed B.named
  clear B
  subst hsz
  have hI : sI D dA wX ad (wA wX ad S s.heap.size) s.heap S s.heap [] := hC.start
  clear hC
  generalize wA wX ad S s.heap.size = A at hI ⊢
  have hl := lv_entry ([.ref (ad 129), iV x1, iV x2, iV x3, iV x4] : List Value) (n := 6) (Nat.le_of_ble_eq_true rfl)
  rw [lg_entry_eq]
  generalize (lg_sl ([.ref (ad 129), iV x1, iV x2, iV x3, iV x4] : List Value) ++ List.replicate (6 - (lg_sl ([.ref (ad 129), iV x1, iV x2, iV x3, iV x4] : List Value)).length) Slot.unset).toArray = ls at hl ⊢
  have hl : lv_has ls 6 [(0, .ref (ad 129)), (1, iV x1), (2, iV x2), (3, iV x3), (4, iV x4)] := hl
  have hF : CallFix p m c cX0_seen 6 s _ lw_all RX0 := ⟨hx, hb, hml, hown, hts⟩
  have hR : (headSpec (ws_ yX0_seen cX0_seen 6 (Option.some Jvm.ClassFile.FieldType.int)) (rmD 2 1 4)).room.frames = 2 + 1 ∧ (headSpec (ws_ yX0_seen cX0_seen 6 (Option.some Jvm.ClassFile.FieldType.int)) (rmD 2 1 4)).room.locals = 64 * 2 + 64 := ⟨rfl, rfl⟩
  have hcs : 1 ≤ (headSpec (ws_ yX0_seen cX0_seen 6 (Option.some Jvm.ClassFile.FieldType.int)) (rmD 2 1 4)).room.cells ∧ 4 ≤ (headSpec (ws_ yX0_seen cX0_seen 6 (Option.some Jvm.ClassFile.FieldType.int)) (rmD 2 1 4)).room.slots := ⟨Nat.le_of_ble_eq_true rfl, Nat.le_of_ble_eq_true rfl⟩
  generalize (headSpec (ws_ yX0_seen cX0_seen 6 (Option.some Jvm.ClassFile.FieldType.int)) (rmD 2 1 4)).room = R at hR hcs ⊢
  generalize ([.ref (ad 129), iV x1, iV x2, iV x3, iV x4] : List Value).toArray = args at hts hF ⊢
  generalize hQ : MQ below _ _ _ _ _ _ = Q
  unfold w_X_seen at h
  refine lv_aload_n hx hb dX0_seen_0 rfl (lv_at hl 0 rfl) ?_
  refine lv_iload_n hx hb dX0_seen_1 rfl (lv_at hl 1 rfl) ?_
  refine cXX0_93 hF hK hI hl.1 hR (by decide) (Nat.le_of_ble_eq_true rfl) ⟨Nat.zero_le _, Nat.zero_le _⟩ rx1 h dX0_seen_2 (fun r1 H locs fr1 h hI => ?_)
  replace h := h fr1
  have gr1 : InR r1 := kdP_R (k := 2) (by decide) fr1
  refine nr_if_eq hx hb gr1 dX0_seen_5 (tgt := 55) (by decide) (fun c3 => ?_) (fun c3 => ?_)
  · replace h := h.1 c3
    refine nr_iconst hx hb dX0_seen_55 ?_
    refine W.widen (k := 1) (n := 4) (by decide) (by decide) ?_
    rw [← hQ]; exact s_iret (K := K) hx hb hr hlocks hI (by decide) h dX0_seen_56
  · replace h := h.2 c3
    refine lv_iload_n hx hb dX0_seen_8 rfl (lv_at hl 2 rfl) ?_
    refine nr_iconst hx hb dX0_seen_9 ?_
    refine nr_bipush hx hb dX0_seen_10 (by decide) ?_
    refine cXX0_74 hF hK hI hl.1 hR (by decide) (Nat.le_of_ble_eq_true rfl) ⟨Nat.zero_le _, Nat.zero_le _⟩ rx2 (by decide) (by decide) h dX0_seen_12 (fun r4 H locs fr4 h hI => ?_)
    replace h := h fr4
    have gr4 : InR r4 := kdP_R (k := 2) (by decide) fr4
    refine nr_if_eq hx hb gr4 dX0_seen_15 (tgt := 55) (by decide) (fun c6 => ?_) (fun c6 => ?_)
    · replace h := h.1 c6
      refine nr_iconst hx hb dX0_seen_55 ?_
      refine W.widen (k := 1) (n := 4) (by decide) (by decide) ?_
      rw [← hQ]; exact s_iret (K := K) hx hb hr hlocks hI (by decide) h dX0_seen_56
    · replace h := h.2 c6
      refine lv_iload_n hx hb dX0_seen_18 rfl (lv_at hl 3 rfl) ?_
      refine nr_iconst hx hb dX0_seen_19 ?_
      refine nr_sipush hx hb dX0_seen_20 (by decide) ?_
      refine cXX0_74 hF hK hI hl.1 hR (by decide) (Nat.le_of_ble_eq_true rfl) ⟨Nat.zero_le _, Nat.zero_le _⟩ rx3 (by decide) (by decide) h dX0_seen_23 (fun r7 H locs fr7 h hI => ?_)
      replace h := h fr7
      have gr7 : InR r7 := kdP_R (k := 2) (by decide) fr7
      refine nr_if_eq hx hb gr7 dX0_seen_26 (tgt := 55) (by decide) (fun c9 => ?_) (fun c9 => ?_)
      · replace h := h.1 c9
        refine nr_iconst hx hb dX0_seen_55 ?_
        refine W.widen (k := 1) (n := 4) (by decide) (by decide) ?_
        rw [← hQ]; exact s_iret (K := K) hx hb hr hlocks hI (by decide) h dX0_seen_56
      · replace h := h.2 c9
        refine lv_iload hx hb dX0_seen_29 (lv_at hl 4 rfl) ?_
        refine nr_iconst hx hb dX0_seen_31 ?_
        refine nr_sipush hx hb dX0_seen_32 (by decide) ?_
        refine cXX0_74 hF hK hI hl.1 hR (by decide) (Nat.le_of_ble_eq_true rfl) ⟨Nat.zero_le _, Nat.zero_le _⟩ rx4 (by decide) (by decide) h dX0_seen_35 (fun r10 H locs fr10 h hI => ?_)
        replace h := h fr10
        have gr10 : InR r10 := kdP_R (k := 2) (by decide) fr10
        refine nr_if_eq hx hb gr10 dX0_seen_38 (tgt := 55) (by decide) (fun c12 => ?_) (fun c12 => ?_)
        · replace h := h.1 c12
          refine nr_iconst hx hb dX0_seen_55 ?_
          refine W.widen (k := 1) (n := 4) (by decide) (by decide) ?_
          rw [← hQ]; exact s_iret (K := K) hx hb hr hlocks hI (by decide) h dX0_seen_56
        · replace h := h.2 c12
          refine lv_aload_n hx hb dX0_seen_41 rfl (lv_at hl 0 rfl) ?_
          refine gXX0_12_129 hF hK hI dX0_seen_42 ?_
          refine gXX0_71_130 hF hK hI dX0_seen_45 ?_
          refine nr_iconst hx hb dX0_seen_48 ?_
          refine s_iald hx hb hK hI 0 (by decide) wX_0 (by decide) (by decide) dX0_seen_49 (fun f13 => ?_)
          replace h := h f13
          refine nr_bipush hx hb dX0_seen_50 (by decide) ?_
          refine nr_icmp_ne hx hb f13 (by decide) dX0_seen_52 (tgt := 57) (by decide) (fun c14 => ?_) (fun c14 => ?_)
          · replace h := h.1 c14
            refine nr_iconst hx hb dX0_seen_57 ?_
            refine s_newi hx hb (hts _ q185) hK hI (v := 4) (by decide) (by decide) (by have h1 := hcs.1; omega) (by have h1 := hcs.2; omega) dX0_seen_58 (fun q15 S16 H hqq15 eS16 hI => ?_)
            replace h := h q15 S16 hqq15 eS16
            refine W.widen (k := 1) (n := 4) (by decide) (by decide) ?_
            refine lv_dup hx hb dX0_seen_60 rfl ?_
            refine nr_iconst hx hb dX0_seen_61 ?_
            refine lv_iload_n hx hb dX0_seen_62 rfl (lv_at hl 1 rfl) ?_
            obtain ⟨pn17, pf18, hp19, h⟩ := h
            have f20 := h.1; replace h := h.2
            refine s_past hx hb hK hI hp19 (by decide) f20 rx1 dX0_seen_63 (fun S21 H locs eS21 hI => ?_)
            replace h := h S21 eS21
            refine lv_dup hx hb dX0_seen_64 rfl ?_
            refine nr_iconst hx hb dX0_seen_65 ?_
            refine lv_iload_n hx hb dX0_seen_66 rfl (lv_at hl 2 rfl) ?_
            obtain ⟨pn22, pf23, hp24, h⟩ := h
            have f25 := h.1; replace h := h.2
            refine s_past hx hb hK hI hp24 (by decide) f25 rx2 dX0_seen_67 (fun S26 H locs eS26 hI => ?_)
            replace h := h S26 eS26
            refine lv_dup hx hb dX0_seen_68 rfl ?_
            refine nr_iconst hx hb dX0_seen_69 ?_
            refine lv_iload_n hx hb dX0_seen_70 rfl (lv_at hl 3 rfl) ?_
            obtain ⟨pn27, pf28, hp29, h⟩ := h
            have f30 := h.1; replace h := h.2
            refine s_past hx hb hK hI hp29 (by decide) f30 rx3 dX0_seen_71 (fun S31 H locs eS31 hI => ?_)
            replace h := h S31 eS31
            refine lv_dup hx hb dX0_seen_72 rfl ?_
            refine nr_iconst hx hb dX0_seen_73 ?_
            refine lv_iload hx hb dX0_seen_74 (lv_at hl 4 rfl) ?_
            obtain ⟨pn32, pf33, hp34, h⟩ := h
            have f35 := h.1; replace h := h.2
            refine s_past hx hb hK hI hp34 (by decide) f35 rx4 dX0_seen_76 (fun S36 H locs eS36 hI => ?_)
            replace h := h S36 eS36
            refine lv_astore (lv' := [(5, .ref q15), (0, .ref (ad 129)), (1, iV x1), (2, iV x2), (3, iV x3), (4, iV x4)]) hx hb dX0_seen_77 hl (by decide) rfl (fun ls hl => ?_)
            refine lv_aload hx hb dX0_seen_79 (lv_at hl 0 rfl) ?_
            refine lv_aload_n hx hb dX0_seen_81 rfl (lv_at hl 1 rfl) ?_
            refine gXX0_12_129 hF hK hI dX0_seen_82 ?_
            refine gXX0_289_130 hF hK hI dX0_seen_85 ?_
            refine lv_aload_n hx hb dX0_seen_88 rfl (lv_at hl 1 rfl) ?_
            refine gXX0_12_129 hF hK hI dX0_seen_89 ?_
            refine gXX0_71_130 hF hK hI dX0_seen_92 ?_
            refine nr_iconst hx hb dX0_seen_95 ?_
            refine s_iald hx hb hK hI 0 (by decide) wX_0 (by decide) (by decide) dX0_seen_96 (fun f37 => ?_)
            replace h := h f37
            have f38 := h.1; replace h := h.2
            refine s_aald hx hb hK hI 134 (by decide) wX_134 ⟨rfl, rfl⟩ f37 f38 dX0_seen_97 ?_
            refine cXX0_242_q hF hK hI hl.1 hR (by decide) (Nat.le_of_ble_eq_true rfl) hcs (k1 := (55 + Int.toNat (aI S36 0 5))) (n1 := 4) (hk1 := (wX_rk134 f38)) (hd1 := (wX_rw134 f38)) (hn1 := (by decide)) h dX0_seen_98 (fun S40 H locs h hI => ?_)
            refine lv_aload_n hx hb dX0_seen_101 rfl (lv_at hl 1 rfl) ?_
            refine gXX0_12_129 hF hK hI dX0_seen_102 ?_
            refine gXX0_71_130 hF hK hI dX0_seen_105 ?_
            refine nr_iconst hx hb dX0_seen_108 ?_
            refine lv_dup2_11 hx hb dX0_seen_109 rfl rfl ?_
            refine s_iald hx hb hK hI 0 (by decide) wX_0 (by decide) (by decide) dX0_seen_110 (fun f41 => ?_)
            replace h := h f41
            refine nr_iconst hx hb dX0_seen_111 ?_
            have f42 := h.1; replace h := h.2
            refine nr_iadd hx hb dX0_seen_112 ?_
            refine s_iast hx hb hK hI 0 (by decide) wX_0 (by decide) (by decide) f42 dX0_seen_113 (fun S43 H locs eS43 hI => ?_)
            replace h := h S43 eS43
            refine lv_aload_n hx hb dX0_seen_114 rfl (lv_at hl 1 rfl) ?_
            refine gXX0_12_129 hF hK hI dX0_seen_115 ?_
            refine gXX0_71_130 hF hK hI dX0_seen_118 ?_
            refine nr_iconst hx hb dX0_seen_121 ?_
            refine s_iald hx hb hK hI 0 (by decide) wX_0 (by decide) (by decide) dX0_seen_122 (fun f44 => ?_)
            replace h := h f44
            refine nr_iconst hx hb dX0_seen_123 ?_
            have f45 := h.1; replace h := h.2
            refine nr_isub hx hb dX0_seen_124 ?_
            rw [← hQ]; exact s_iret (K := K) hx hb hr hlocks hI f45 h dX0_seen_125
          · replace h := h.2 c14
            refine nr_iconst hx hb dX0_seen_55 ?_
            refine W.widen (k := 1) (n := 4) (by decide) (by decide) ?_
            rw [← hQ]; exact s_iret (K := K) hx hb hr hlocks hI (by decide) h dX0_seen_56
set_option maxHeartbeats 4000000 in
theorem t_X_forget (l : Launch) (D : va_G) (dA : Nat → ClassId) (ad : Nat → Nat) (S : St) (sz : Nat) (K : Int → St → Prop) (h : w_X_forget S K) : Met l yX0_forget (ws_ yX0_forget cX0_forget 2 (Option.some Jvm.ClassFile.FieldType.int)) (rmD 0 0 0) (va_Pc [.ref (ad 129)] (sPre D dA wX ad S sz)) (va_Qi (fun r S' => K r.toInt S') (sPost D dA wX ad (wA wX ad S sz)) (wA wX ad S sz)) 0 0 (wA wX ad S sz) := by
  refine Met.ofW (cc := cX0_forget) (maxL := 2) (ret := (Option.some Jvm.ClassFile.FieldType.int)) (by decide) rfl ?_
  intro p e s m args below meth c s₁ B hml hv
  obtain ⟨rfl, hsz, hK, hC⟩ := hv
  have hx := B.exec
  have hb := B.bytes
  have hr := B.returns
  have hlocks := B.notSynchronized
  have hts := atoms_spec (ws := (ws_ yX0_forget cX0_forget 2 (Option.some Jvm.ClassFile.FieldType.int))) B.pre
  have hts : ∀ w ∈ lw_all, w.before _ s = true := fun w h => hts w (List.mem_cons_of_mem _ h)
  have hown : s.vm.findClass RX0 = some m.cls := findClass_of_methodNamed B.named
  clear B
  subst hsz
  have hI : sI D dA wX ad (wA wX ad S s.heap.size) s.heap S s.heap [] := hC.start
  clear hC
  generalize wA wX ad S s.heap.size = A at hI ⊢
  have hl := lv_entry ([.ref (ad 129)] : List Value) (n := 2) (Nat.le_of_ble_eq_true rfl)
  rw [lg_entry_eq]
  generalize (lg_sl ([.ref (ad 129)] : List Value) ++ List.replicate (2 - (lg_sl ([.ref (ad 129)] : List Value)).length) Slot.unset).toArray = ls at hl ⊢
  have hl : lv_has ls 2 [(0, .ref (ad 129))] := hl
  have hF : CallFix p m c cX0_forget 2 s _ lw_all RX0 := ⟨hx, hb, hml, hown, hts⟩
  have hR : (headSpec (ws_ yX0_forget cX0_forget 2 (Option.some Jvm.ClassFile.FieldType.int)) (rmD 0 0 0)).room.frames = 0 + 1 ∧ (headSpec (ws_ yX0_forget cX0_forget 2 (Option.some Jvm.ClassFile.FieldType.int)) (rmD 0 0 0)).room.locals = 64 * 0 + 64 := ⟨rfl, rfl⟩
  generalize (headSpec (ws_ yX0_forget cX0_forget 2 (Option.some Jvm.ClassFile.FieldType.int)) (rmD 0 0 0)).room = R at hR ⊢
  generalize ([.ref (ad 129)] : List Value).toArray = args at hts hF ⊢
  generalize hQ : MQ below _ _ _ _ _ _ = Q
  unfold w_X_forget at h
  refine lv_aload_n hx hb dX0_forget_0 rfl (lv_at hl 0 rfl) ?_
  refine gXX0_12_129 hF hK hI dX0_forget_1 ?_
  refine gXX0_71_130 hF hK hI dX0_forget_4 ?_
  refine nr_iconst hx hb dX0_forget_7 ?_
  refine s_iald hx hb hK hI 0 (by decide) wX_0 (by decide) (by decide) dX0_forget_8 (fun f1 => ?_)
  replace h := h f1
  refine nr_topi (fun v2 ev2 => ?_)
  have rv2 : InR v2 := by rw [ev2]; exact f1
  replace h := h v2 ev2 rv2
  refine lv_istore_n (lv' := [(1, iV v2), (0, .ref (ad 129))]) hx hb dX0_forget_9 rfl hl (by decide) rfl (fun ls hl => ?_)
  refine lv_aload_n hx hb dX0_forget_10 rfl (lv_at hl 1 rfl) ?_
  refine gXX0_12_129 hF hK hI dX0_forget_11 ?_
  refine gXX0_71_130 hF hK hI dX0_forget_14 ?_
  refine nr_iconst hx hb dX0_forget_17 ?_
  refine nr_iconst hx hb dX0_forget_18 ?_
  refine s_iast hx hb hK hI 0 (by decide) wX_0 (by decide) (by decide) (show InR (0) by decide) dX0_forget_19 (fun S3 H locs eS3 hI => ?_)
  replace h := h S3 eS3
  refine lv_iload_n hx hb dX0_forget_20 rfl (lv_at hl 0 rfl) ?_
  rw [← hQ]; exact s_iret (K := K) hx hb hr hlocks hI rv2 h dX0_forget_21
set_option maxHeartbeats 4000000 in
theorem t_X_miles (l : Launch) (D : va_G) (dA : Nat → ClassId) (ad : Nat → Nat) (S : St) (sz : Nat) (x1 : Int) (x2 : Int) (K : Int → Prop) (rx1 : InR x1) (rx2 : InR x2) (h : w_X_miles x1 x2 S K) : Met l yX0_miles (ws_ yX0_miles cX0_miles 3 (Option.some Jvm.ClassFile.FieldType.int)) (rmD 1 0 0) (va_Pc [.ref (ad 129), iV x1, iV x2] (sPre D dA wX ad S sz)) (va_Qi (fun r S' => S' = S ∧ K r.toInt) (sPost D dA wX ad (wA wX ad S sz)) (wA wX ad S sz)) 0 0 (wA wX ad S sz) := by
  refine Met.ofW (cc := cX0_miles) (maxL := 3) (ret := (Option.some Jvm.ClassFile.FieldType.int)) (by decide) rfl ?_
  intro p e s m args below meth c s₁ B hml hv
  obtain ⟨rfl, hsz, hK, hC⟩ := hv
  have hx := B.exec
  have hb := B.bytes
  have hr := B.returns
  have hlocks := B.notSynchronized
  have hts := atoms_spec (ws := (ws_ yX0_miles cX0_miles 3 (Option.some Jvm.ClassFile.FieldType.int))) B.pre
  have hts : ∀ w ∈ lw_all, w.before _ s = true := fun w h => hts w (List.mem_cons_of_mem _ h)
  have hown : s.vm.findClass RX0 = some m.cls := findClass_of_methodNamed B.named
  clear B
  subst hsz
  have hI : sI D dA wX ad (wA wX ad S s.heap.size) s.heap S s.heap [] := hC.start
  clear hC
  generalize wA wX ad S s.heap.size = A at hI ⊢
  have hl := lv_entry ([.ref (ad 129), iV x1, iV x2] : List Value) (n := 3) (Nat.le_of_ble_eq_true rfl)
  rw [lg_entry_eq]
  generalize (lg_sl ([.ref (ad 129), iV x1, iV x2] : List Value) ++ List.replicate (3 - (lg_sl ([.ref (ad 129), iV x1, iV x2] : List Value)).length) Slot.unset).toArray = ls at hl ⊢
  have hl : lv_has ls 3 [(0, .ref (ad 129)), (1, iV x1), (2, iV x2)] := hl
  have hF : CallFix p m c cX0_miles 3 s _ lw_all RX0 := ⟨hx, hb, hml, hown, hts⟩
  have hR : (headSpec (ws_ yX0_miles cX0_miles 3 (Option.some Jvm.ClassFile.FieldType.int)) (rmD 1 0 0)).room.frames = 1 + 1 ∧ (headSpec (ws_ yX0_miles cX0_miles 3 (Option.some Jvm.ClassFile.FieldType.int)) (rmD 1 0 0)).room.locals = 64 * 1 + 64 := ⟨rfl, rfl⟩
  generalize (headSpec (ws_ yX0_miles cX0_miles 3 (Option.some Jvm.ClassFile.FieldType.int)) (rmD 1 0 0)).room = R at hR ⊢
  generalize ([.ref (ad 129), iV x1, iV x2] : List Value).toArray = args at hts hF ⊢
  generalize hQ : MQ below _ _ _ _ _ _ = Q
  unfold w_X_miles at h
  refine lv_aload_n hx hb dX0_miles_0 rfl (lv_at hl 0 rfl) ?_
  refine gXX0_12_129 hF hK hI dX0_miles_1 ?_
  refine gXX0_81_130 hF hK hI dX0_miles_4 ?_
  refine lv_iload_n hx hb dX0_miles_7 rfl (lv_at hl 1 rfl) ?_
  have f1 := h.1; replace h := h.2
  refine s_iald hx hb hK hI 1 (by decide) wX_1 rx1 f1 dX0_miles_8 (fun f2 => ?_)
  replace h := h f2
  refine lv_aload_n hx hb dX0_miles_9 rfl (lv_at hl 0 rfl) ?_
  refine gXX0_12_129 hF hK hI dX0_miles_10 ?_
  refine gXX0_81_130 hF hK hI dX0_miles_13 ?_
  refine lv_iload_n hx hb dX0_miles_16 rfl (lv_at hl 2 rfl) ?_
  have f3 := h.1; replace h := h.2
  refine s_iald hx hb hK hI 1 (by decide) wX_1 rx2 f3 dX0_miles_17 (fun f4 => ?_)
  replace h := h f4
  have f5 := h.1; replace h := h.2
  refine nr_isub hx hb dX0_miles_18 ?_
  have f6 := h.1; replace h := h.2
  refine s_abs hx hb (hl.1.trans hml.symm) hown hts q1075 q1076 q119 q1077 (by have h1 := hR.1; have h2 := hR.2; omega) ⟨Nat.zero_le _, Nat.zero_le _⟩ (Nat.le_of_ble_eq_true rfl) f5 f6 dX0_miles_19 ?_
  have f7 : InR (max ((aI S 1 x1) - (aI S 1 x2)) (-((aI S 1 x1) - (aI S 1 x2)))) := nr_mxR f5 f6
  refine lv_aload_n hx hb dX0_miles_22 rfl (lv_at hl 0 rfl) ?_
  refine gXX0_12_129 hF hK hI dX0_miles_23 ?_
  refine gXX0_90_130 hF hK hI dX0_miles_26 ?_
  refine lv_iload_n hx hb dX0_miles_29 rfl (lv_at hl 1 rfl) ?_
  have f8 := h.1; replace h := h.2
  refine s_iald hx hb hK hI 2 (by decide) wX_2 rx1 f8 dX0_miles_30 (fun f9 => ?_)
  replace h := h f9
  refine lv_aload_n hx hb dX0_miles_31 rfl (lv_at hl 0 rfl) ?_
  refine gXX0_12_129 hF hK hI dX0_miles_32 ?_
  refine gXX0_90_130 hF hK hI dX0_miles_35 ?_
  refine lv_iload_n hx hb dX0_miles_38 rfl (lv_at hl 2 rfl) ?_
  have f10 := h.1; replace h := h.2
  refine s_iald hx hb hK hI 2 (by decide) wX_2 rx2 f10 dX0_miles_39 (fun f11 => ?_)
  replace h := h f11
  have f12 := h.1; replace h := h.2
  refine nr_isub hx hb dX0_miles_40 ?_
  have f13 := h.1; replace h := h.2
  refine s_abs hx hb (hl.1.trans hml.symm) hown hts q1075 q1076 q119 q1077 (by have h1 := hR.1; have h2 := hR.2; omega) ⟨Nat.zero_le _, Nat.zero_le _⟩ (Nat.le_of_ble_eq_true rfl) f12 f13 dX0_miles_41 ?_
  have f14 : InR (max ((aI S 2 x1) - (aI S 2 x2)) (-((aI S 2 x1) - (aI S 2 x2)))) := nr_mxR f12 f13
  have f15 := h.1; replace h := h.2
  refine nr_iadd hx hb dX0_miles_44 ?_
  rw [← hQ]; exact s_iret (K := fun r S' => S' = S ∧ K r) hx hb hr hlocks hI f15 ⟨rfl, h⟩ dX0_miles_45
theorem cXX0_292 {p : Program} {l : Launch} {e : Env} {R : Room} {s : State} {m : MethodId} {args : Array Value} {below : List Frame} {meth : Method} {c : Code} {H : Heap} {locs : List Loc} {Q : State → Prop} {cc : ByteArray} {nL pc : Nat} {ls : Array Slot} {rest : List Value} {cells slots : Nat} {D : va_G} {dA : Nat → ClassId} {ad : Nat → Nat} {A : Nat → Prop} {H0 : Heap} {S : St} {dk : Nat} (hF : CallFix p m c cc nL s args lw_all RX0) (hK : gK D dA s) (hI : sI D dA wX ad A H0 S H locs) (hls : ls.size = nL) (hR : R.frames = dk + 1 ∧ R.locals = 64 * dk + 64) (hd : 1 + 1 ≤ dk) (hW : (rest.map fun v => v.category).sum ≤ 8) (hf : cells ≤ R.cells ∧ slots ≤ R.slots) {x1 : Int} {x2 : Int} {K : Int → Prop} (r1 : InR x1) (r2 : InR x2) (h : w_X_miles x1 x2 S K) (hdg : decode cc pc = .ok (.invokevirtual 292, 3)) (kk : ∀ (r : Int) (H1 : Heap) (locs1 : List Loc), InR r → K r → sI D dA wX ad A H0 S H1 locs1 → W p l e R s m args below meth c H1 locs1 cells slots Q (F0 m (pc + 3) ls (iV r :: rest))) : W p l e R s m args below meth c H locs cells slots Q (F0 m (pc) ls (iV x2 :: iV x1 :: .ref (ad 129) :: rest)) := s_callVi (As := [iV x1, iV x2]) (rest := rest) (K := fun r S' => S' = S ∧ K r) hF (t_X_miles l D dA ad S H.size x1 x2 K r1 r2 h) (s_recv hK hI 129 (by decide) wX_129 rfl) (cwV 2 hF.2.2.2.2 (lw_V q1071 q1073 qs41 q106 q1074) rfl rfl rfl (by decide +kernel) ⟨by have h1 := hR.1; have h2 : (rmD 1 0 0).frames = 1 + 1 := rfl; omega, by have h1 := hR.2; have h2 : (rmD 1 0 0).locals = 64 * 1 + 64 := rfl; omega⟩) hK hI rfl hls rfl hW hdg hf (fun r S1 H1 locs1 f hk hI1 => by obtain ⟨rfl, hk⟩ := hk; exact kk r H1 locs1 f hk hI1)
set_option maxHeartbeats 4000000 in
theorem t_X_isSame (l : Launch) (D : va_G) (dA : Nat → ClassId) (ad : Nat → Nat) (S : St) (sz : Nat) (x1 : Int) (x2 : Int) (K : Int → Prop) (rx1 : InR x1) (rx2 : InR x2) (h : w_X_isSame x1 x2 S K) : Met l yX0_isSame (ws_ yX0_isSame cX0_isSame 7 (Option.some Jvm.ClassFile.FieldType.boolean)) (rmD 2 0 0) (va_Pc [.ref (ad 129), iV x1, iV x2] (sPre D dA wX ad S sz)) (va_Qi (fun r S' => (r.toInt = 0 ∨ r.toInt = 1) ∧ (S' = S ∧ K r.toInt)) (sPost D dA wX ad (wA wX ad S sz)) (wA wX ad S sz)) 0 0 (wA wX ad S sz) := by
  refine Met.ofW (cc := cX0_isSame) (maxL := 7) (ret := (Option.some Jvm.ClassFile.FieldType.boolean)) (by decide) rfl ?_
  intro p e s m args below meth c s₁ B hml hv
  obtain ⟨rfl, hsz, hK, hC⟩ := hv
  have hx := B.exec
  have hb := B.bytes
  have hr := B.returns
  have hlocks := B.notSynchronized
  have hts := atoms_spec (ws := (ws_ yX0_isSame cX0_isSame 7 (Option.some Jvm.ClassFile.FieldType.boolean))) B.pre
  have hts : ∀ w ∈ lw_all, w.before _ s = true := fun w h => hts w (List.mem_cons_of_mem _ h)
  have hown : s.vm.findClass RX0 = some m.cls := findClass_of_methodNamed B.named
  clear B
  subst hsz
  have hI : sI D dA wX ad (wA wX ad S s.heap.size) s.heap S s.heap [] := hC.start
  clear hC
  generalize wA wX ad S s.heap.size = A at hI ⊢
  have hl := lv_entry ([.ref (ad 129), iV x1, iV x2] : List Value) (n := 7) (Nat.le_of_ble_eq_true rfl)
  rw [lg_entry_eq]
  generalize (lg_sl ([.ref (ad 129), iV x1, iV x2] : List Value) ++ List.replicate (7 - (lg_sl ([.ref (ad 129), iV x1, iV x2] : List Value)).length) Slot.unset).toArray = ls at hl ⊢
  have hl : lv_has ls 7 [(0, .ref (ad 129)), (1, iV x1), (2, iV x2)] := hl
  have hF : CallFix p m c cX0_isSame 7 s _ lw_all RX0 := ⟨hx, hb, hml, hown, hts⟩
  have hR : (headSpec (ws_ yX0_isSame cX0_isSame 7 (Option.some Jvm.ClassFile.FieldType.boolean)) (rmD 2 0 0)).room.frames = 2 + 1 ∧ (headSpec (ws_ yX0_isSame cX0_isSame 7 (Option.some Jvm.ClassFile.FieldType.boolean)) (rmD 2 0 0)).room.locals = 64 * 2 + 64 := ⟨rfl, rfl⟩
  generalize (headSpec (ws_ yX0_isSame cX0_isSame 7 (Option.some Jvm.ClassFile.FieldType.boolean)) (rmD 2 0 0)).room = R at hR ⊢
  generalize ([.ref (ad 129), iV x1, iV x2] : List Value).toArray = args at hts hF ⊢
  generalize hQ : MQ below _ _ _ _ _ _ = Q
  unfold w_X_isSame at h
  refine lv_aload_n hx hb dX0_isSame_0 rfl (lv_at hl 0 rfl) ?_
  refine gXX0_12_129 hF hK hI dX0_isSame_1 ?_
  refine gXX0_289_130 hF hK hI dX0_isSame_4 ?_
  refine lv_iload_n hx hb dX0_isSame_7 rfl (lv_at hl 1 rfl) ?_
  have f1 := h.1; replace h := h.2
  refine s_aald hx hb hK hI 134 (by decide) wX_134 ⟨rfl, rfl⟩ rx1 f1 dX0_isSame_8 ?_
  refine lv_astore_n (lv' := [(3, .ref (ad (55 + Int.toNat x1))), (0, .ref (ad 129)), (1, iV x1), (2, iV x2)]) hx hb dX0_isSame_9 rfl hl (by decide) rfl (fun ls hl => ?_)
  refine lv_aload_n hx hb dX0_isSame_10 rfl (lv_at hl 1 rfl) ?_
  refine gXX0_12_129 hF hK hI dX0_isSame_11 ?_
  refine gXX0_289_130 hF hK hI dX0_isSame_14 ?_
  refine lv_iload_n hx hb dX0_isSame_17 rfl (lv_at hl 3 rfl) ?_
  have f2 := h.1; replace h := h.2
  refine s_aald hx hb hK hI 134 (by decide) wX_134 ⟨rfl, rfl⟩ rx2 f2 dX0_isSame_18 ?_
  refine lv_astore (lv' := [(4, .ref (ad (55 + Int.toNat x2))), (3, .ref (ad (55 + Int.toNat x1))), (0, .ref (ad 129)), (1, iV x1), (2, iV x2)]) hx hb dX0_isSame_19 hl (by decide) rfl (fun ls hl => ?_)
  refine lv_aload hx hb dX0_isSame_21 (lv_at hl 0 rfl) ?_
  refine nr_iconst hx hb dX0_isSame_23 ?_
  refine s_iald hx hb hK hI (55 + Int.toNat x2) (wX_rk134 f2) (wX_rw134 f2) (by decide) (by decide) dX0_isSame_24 (fun f3 => ?_)
  replace h := h f3
  refine lv_aload_n hx hb dX0_isSame_25 rfl (lv_at hl 1 rfl) ?_
  refine nr_iconst hx hb dX0_isSame_26 ?_
  refine s_iald hx hb hK hI (55 + Int.toNat x1) (wX_rk134 f1) (wX_rw134 f1) (by decide) (by decide) dX0_isSame_27 (fun f4 => ?_)
  replace h := h f4
  have f5 := h.1; replace h := h.2
  refine nr_isub hx hb dX0_isSame_28 ?_
  refine nr_topi (fun v6 ev6 => ?_)
  have rv6 : InR v6 := by rw [ev6]; exact f5
  replace h := h v6 ev6 rv6
  refine lv_istore (lv' := [(5, iV v6), (4, .ref (ad (55 + Int.toNat x2))), (3, .ref (ad (55 + Int.toNat x1))), (0, .ref (ad 129)), (1, iV x1), (2, iV x2)]) hx hb dX0_isSame_29 hl (by decide) rfl (fun ls hl => ?_)
  refine lv_aload_n hx hb dX0_isSame_31 rfl (lv_at hl 2 rfl) ?_
  refine nr_iconst hx hb dX0_isSame_32 ?_
  refine s_iald hx hb hK hI (55 + Int.toNat x1) (wX_rk134 f1) (wX_rw134 f1) (by decide) (by decide) dX0_isSame_33 (fun f7 => ?_)
  replace h := h f7
  refine lv_aload hx hb dX0_isSame_34 (lv_at hl 1 rfl) ?_
  refine nr_iconst hx hb dX0_isSame_36 ?_
  refine s_iald hx hb hK hI (55 + Int.toNat x2) (wX_rk134 f2) (wX_rw134 f2) (by decide) (by decide) dX0_isSame_37 (fun f8 => ?_)
  replace h := h f8
  have f9 := h.1; replace h := h.2
  refine nr_isub hx hb dX0_isSame_38 ?_
  refine nr_topi (fun v10 ev10 => ?_)
  have rv10 : InR v10 := by rw [ev10]; exact f9
  replace h := h v10 ev10 rv10
  refine lv_istore (lv' := [(6, iV v10), (5, iV v6), (4, .ref (ad (55 + Int.toNat x2))), (3, .ref (ad (55 + Int.toNat x1))), (0, .ref (ad 129)), (1, iV x1), (2, iV x2)]) hx hb dX0_isSame_39 hl (by decide) rfl (fun ls hl => ?_)
  refine lv_aload_n hx hb dX0_isSame_41 rfl (lv_at hl 3 rfl) ?_
  refine nr_iconst hx hb dX0_isSame_42 ?_
  refine s_iald hx hb hK hI (55 + Int.toNat x1) (wX_rk134 f1) (wX_rw134 f1) (by decide) (by decide) dX0_isSame_43 (fun f11 => ?_)
  replace h := h f11
  refine lv_aload hx hb dX0_isSame_44 (lv_at hl 2 rfl) ?_
  refine nr_iconst hx hb dX0_isSame_46 ?_
  refine s_iald hx hb hK hI (55 + Int.toNat x2) (wX_rk134 f2) (wX_rw134 f2) (by decide) (by decide) dX0_isSame_47 (fun f12 => ?_)
  replace h := h f12
  refine nr_icmp_ne hx hb f11 f12 dX0_isSame_48 (tgt := 109) (by decide) (fun c13 => ?_) (fun c13 => ?_)
  · replace h := h.1 c13
    refine nr_iconst hx hb dX0_isSame_109 ?_
    rw [← hQ]; exact s_zret (K := fun r S' => S' = S ∧ K r) hx hb hr hlocks hI (by decide) ⟨rfl, h⟩ dX0_isSame_110
  · replace h := h.2 c13
    refine lv_iload hx hb dX0_isSame_51 (lv_at hl 1 rfl) ?_
    refine nr_if_le hx hb rv6 dX0_isSame_53 (tgt := 109) (by decide) (fun c14 => ?_) (fun c14 => ?_)
    · replace h := h.1 c14
      refine nr_iconst hx hb dX0_isSame_109 ?_
      rw [← hQ]; exact s_zret (K := fun r S' => S' = S ∧ K r) hx hb hr hlocks hI (by decide) ⟨rfl, h⟩ dX0_isSame_110
    · replace h := h.2 c14
      refine lv_iload hx hb dX0_isSame_56 (lv_at hl 0 rfl) ?_
      refine nr_iconst hx hb dX0_isSame_58 ?_
      refine lv_aload_n hx hb dX0_isSame_59 rfl (lv_at hl 4 rfl) ?_
      refine gXX0_12_129 hF hK hI dX0_isSame_60 ?_
      refine gXX0_71_130 hF hK hI dX0_isSame_63 ?_
      refine nr_bipush hx hb dX0_isSame_66 (by decide) ?_
      refine s_iald hx hb hK hI 0 (by decide) wX_0 (by decide) (by decide) dX0_isSame_68 (fun f15 => ?_)
      replace h := h f15
      refine lv_iload hx hb dX0_isSame_69 (lv_at hl 1 rfl) ?_
      have f16 := h.1; replace h := h.2
      refine nr_imul hx hb dX0_isSame_71 ?_
      refine cXX0_74 hF hK hI hl.1 hR (by decide) (Nat.le_of_ble_eq_true rfl) ⟨Nat.zero_le _, Nat.zero_le _⟩ rv10 (by decide) f16 h dX0_isSame_72 (fun r17 H locs fr17 h hI => ?_)
      replace h := h fr17
      have gr17 : InR r17 := kdP_R (k := 2) (by decide) fr17
      refine nr_if_eq hx hb gr17 dX0_isSame_75 (tgt := 109) (by decide) (fun c19 => ?_) (fun c19 => ?_)
      · replace h := h.1 c19
        refine nr_iconst hx hb dX0_isSame_109 ?_
        rw [← hQ]; exact s_zret (K := fun r S' => S' = S ∧ K r) hx hb hr hlocks hI (by decide) ⟨rfl, h⟩ dX0_isSame_110
      · replace h := h.2 c19
        refine lv_aload_n hx hb dX0_isSame_78 rfl (lv_at hl 4 rfl) ?_
        refine lv_aload_n hx hb dX0_isSame_79 rfl (lv_at hl 3 rfl) ?_
        refine nr_iconst hx hb dX0_isSame_80 ?_
        refine s_iald hx hb hK hI (55 + Int.toNat x1) (wX_rk134 f1) (wX_rw134 f1) (by decide) (by decide) dX0_isSame_81 (fun f20 => ?_)
        replace h := h f20
        refine lv_aload hx hb dX0_isSame_82 (lv_at hl 2 rfl) ?_
        refine nr_iconst hx hb dX0_isSame_84 ?_
        refine s_iald hx hb hK hI (55 + Int.toNat x2) (wX_rk134 f2) (wX_rw134 f2) (by decide) (by decide) dX0_isSame_85 (fun f21 => ?_)
        replace h := h f21
        refine cXX0_292 hF hK hI hl.1 hR (by decide) (Nat.le_of_ble_eq_true rfl) ⟨Nat.zero_le _, Nat.zero_le _⟩ f20 f21 h dX0_isSame_86 (fun r22 H locs fr22 h hI => ?_)
        replace h := h fr22
        refine lv_aload_n hx hb dX0_isSame_89 rfl (lv_at hl 4 rfl) ?_
        refine gXX0_12_129 hF hK hI dX0_isSame_90 ?_
        refine gXX0_71_130 hF hK hI dX0_isSame_93 ?_
        refine nr_bipush hx hb dX0_isSame_96 (by decide) ?_
        refine s_iald hx hb hK hI 0 (by decide) wX_0 (by decide) (by decide) dX0_isSame_98 (fun f24 => ?_)
        replace h := h f24
        have f25 := h.1; replace h := h.2
        have f26 := h.1; replace h := h.2
        refine nr_idiv hx hb fr22 f24 f25 dX0_isSame_99 ?_
        refine lv_iload hx hb dX0_isSame_100 (lv_at hl 1 rfl) ?_
        refine nr_icmp_gt hx hb f26 rv6 dX0_isSame_102 (tgt := 109) (by decide) (fun c27 => ?_) (fun c27 => ?_)
        · replace h := h.1 c27
          refine nr_iconst hx hb dX0_isSame_109 ?_
          rw [← hQ]; exact s_zret (K := fun r S' => S' = S ∧ K r) hx hb hr hlocks hI (by decide) ⟨rfl, h⟩ dX0_isSame_110
        · replace h := h.2 c27
          refine nr_iconst hx hb dX0_isSame_105 ?_
          refine lv_goto (tgt := 110) hx hb dX0_isSame_106 (by decide) ?_
          rw [← hQ]; exact s_zret (K := fun r S' => S' = S ∧ K r) hx hb hr hlocks hI (by decide) ⟨rfl, h⟩ dX0_isSame_110
set_option maxHeartbeats 4000000 in
theorem t_X_isSeen (l : Launch) (D : va_G) (dA : Nat → ClassId) (ad : Nat → Nat) (S : St) (sz : Nat) (x1 : Int) (K : Int → Prop) (rx1 : InR x1) (h : w_X_isSeen x1 S K) : Met l yX0_isSeen (ws_ yX0_isSeen cX0_isSeen 2 (Option.some Jvm.ClassFile.FieldType.boolean)) (rmD 1 0 0) (va_Pc [.ref (ad 129), iV x1] (sPre D dA wX ad S sz)) (va_Qi (fun r S' => (r.toInt = 0 ∨ r.toInt = 1) ∧ (S' = S ∧ K r.toInt)) (sPost D dA wX ad (wA wX ad S sz)) (wA wX ad S sz)) 0 0 (wA wX ad S sz) := by
  refine Met.ofW (cc := cX0_isSeen) (maxL := 2) (ret := (Option.some Jvm.ClassFile.FieldType.boolean)) (by decide) rfl ?_
  intro p e s m args below meth c s₁ B hml hv
  obtain ⟨rfl, hsz, hK, hC⟩ := hv
  have hx := B.exec
  have hb := B.bytes
  have hr := B.returns
  have hlocks := B.notSynchronized
  have hts := atoms_spec (ws := (ws_ yX0_isSeen cX0_isSeen 2 (Option.some Jvm.ClassFile.FieldType.boolean))) B.pre
  have hts : ∀ w ∈ lw_all, w.before _ s = true := fun w h => hts w (List.mem_cons_of_mem _ h)
  have hown : s.vm.findClass RX0 = some m.cls := findClass_of_methodNamed B.named
  clear B
  subst hsz
  have hI : sI D dA wX ad (wA wX ad S s.heap.size) s.heap S s.heap [] := hC.start
  clear hC
  generalize wA wX ad S s.heap.size = A at hI ⊢
  have hl := lv_entry ([.ref (ad 129), iV x1] : List Value) (n := 2) (Nat.le_of_ble_eq_true rfl)
  rw [lg_entry_eq]
  generalize (lg_sl ([.ref (ad 129), iV x1] : List Value) ++ List.replicate (2 - (lg_sl ([.ref (ad 129), iV x1] : List Value)).length) Slot.unset).toArray = ls at hl ⊢
  have hl : lv_has ls 2 [(0, .ref (ad 129)), (1, iV x1)] := hl
  have hF : CallFix p m c cX0_isSeen 2 s _ lw_all RX0 := ⟨hx, hb, hml, hown, hts⟩
  have hR : (headSpec (ws_ yX0_isSeen cX0_isSeen 2 (Option.some Jvm.ClassFile.FieldType.boolean)) (rmD 1 0 0)).room.frames = 1 + 1 ∧ (headSpec (ws_ yX0_isSeen cX0_isSeen 2 (Option.some Jvm.ClassFile.FieldType.boolean)) (rmD 1 0 0)).room.locals = 64 * 1 + 64 := ⟨rfl, rfl⟩
  generalize (headSpec (ws_ yX0_isSeen cX0_isSeen 2 (Option.some Jvm.ClassFile.FieldType.boolean)) (rmD 1 0 0)).room = R at hR ⊢
  generalize ([.ref (ad 129), iV x1] : List Value).toArray = args at hts hF ⊢
  generalize hQ : MQ below _ _ _ _ _ _ = Q
  unfold w_X_isSeen at h
  refine lv_iload_n hx hb dX0_isSeen_0 rfl (lv_at hl 1 rfl) ?_
  refine nr_iconst hx hb dX0_isSeen_1 ?_
  refine lv_aload_n hx hb dX0_isSeen_2 rfl (lv_at hl 0 rfl) ?_
  refine gXX0_12_129 hF hK hI dX0_isSeen_3 ?_
  refine gXX0_71_130 hF hK hI dX0_isSeen_6 ?_
  refine nr_iconst hx hb dX0_isSeen_9 ?_
  refine s_iald hx hb hK hI 0 (by decide) wX_0 (by decide) (by decide) dX0_isSeen_10 (fun f1 => ?_)
  replace h := h f1
  refine nr_iconst hx hb dX0_isSeen_11 ?_
  have f2 := h.1; replace h := h.2
  refine nr_isub hx hb dX0_isSeen_12 ?_
  refine cXX0_74 hF hK hI hl.1 hR (by decide) (Nat.le_of_ble_eq_true rfl) ⟨Nat.zero_le _, Nat.zero_le _⟩ rx1 (by decide) f2 h dX0_isSeen_13 (fun r3 H locs fr3 h hI => ?_)
  replace h := h fr3
  have gr3 : InR r3 := kdP_R (k := 2) (by decide) fr3
  rw [← hQ]; exact s_zret (K := fun r S' => S' = S ∧ K r) hx hb hr hlocks hI fr3 ⟨rfl, h⟩ dX0_isSeen_16
theorem cXX0_295 {p : Program} {l : Launch} {e : Env} {R : Room} {s : State} {m : MethodId} {args : Array Value} {below : List Frame} {meth : Method} {c : Code} {H : Heap} {locs : List Loc} {Q : State → Prop} {cc : ByteArray} {nL pc : Nat} {ls : Array Slot} {rest : List Value} {cells slots : Nat} {D : va_G} {dA : Nat → ClassId} {ad : Nat → Nat} {A : Nat → Prop} {H0 : Heap} {S : St} {dk : Nat} (hF : CallFix p m c cc nL s args lw_all RX0) (hK : gK D dA s) (hI : sI D dA wX ad A H0 S H locs) (hls : ls.size = nL) (hR : R.frames = dk + 1 ∧ R.locals = 64 * dk + 64) (hd : 1 + 1 ≤ dk) (hW : (rest.map fun v => v.category).sum ≤ 8) (hf : cells ≤ R.cells ∧ slots ≤ R.slots) {x1 : Int} {K : Int → Prop} (r1 : InR x1) (h : w_X_isSeen x1 S K) (hdg : decode cc pc = .ok (.invokevirtual 295, 3)) (kk : ∀ (r : Int) (H1 : Heap) (locs1 : List Loc), (r = 0 ∨ r = 1) → K r → sI D dA wX ad A H0 S H1 locs1 → W p l e R s m args below meth c H1 locs1 cells slots Q (F0 m (pc + 3) ls (iV r :: rest))) : W p l e R s m args below meth c H locs cells slots Q (F0 m (pc) ls (iV x1 :: .ref (ad 129) :: rest)) := s_callVz (As := [iV x1]) (rest := rest) (K := fun r S' => S' = S ∧ K r) hF (t_X_isSeen l D dA ad S H.size x1 K r1 h) (s_recv hK hI 129 (by decide) wX_129 rfl) (cwV 1 hF.2.2.2.2 (lw_V q1063 q1065 qs39 q106 q1066) rfl rfl rfl (by decide +kernel) ⟨by have h1 := hR.1; have h2 : (rmD 1 0 0).frames = 1 + 1 := rfl; omega, by have h1 := hR.2; have h2 : (rmD 1 0 0).locals = 64 * 1 + 64 := rfl; omega⟩) hK hI rfl hls rfl hW hdg hf (fun r S1 H1 locs1 f hk hI1 => by obtain ⟨rfl, hk⟩ := hk; exact kk r H1 locs1 f hk hI1)
theorem cXX0_298 {p : Program} {l : Launch} {e : Env} {R : Room} {s : State} {m : MethodId} {args : Array Value} {below : List Frame} {meth : Method} {c : Code} {H : Heap} {locs : List Loc} {Q : State → Prop} {cc : ByteArray} {nL pc : Nat} {ls : Array Slot} {rest : List Value} {cells slots : Nat} {D : va_G} {dA : Nat → ClassId} {ad : Nat → Nat} {A : Nat → Prop} {H0 : Heap} {S : St} {dk : Nat} (hF : CallFix p m c cc nL s args lw_all RX0) (hK : gK D dA s) (hI : sI D dA wX ad A H0 S H locs) (hls : ls.size = nL) (hR : R.frames = dk + 1 ∧ R.locals = 64 * dk + 64) (hd : 2 + 1 ≤ dk) (hW : (rest.map fun v => v.category).sum ≤ 8) (hf : cells ≤ R.cells ∧ slots ≤ R.slots) {x1 : Int} {x2 : Int} {K : Int → Prop} (r1 : InR x1) (r2 : InR x2) (h : w_X_isSame x1 x2 S K) (hdg : decode cc pc = .ok (.invokevirtual 298, 3)) (kk : ∀ (r : Int) (H1 : Heap) (locs1 : List Loc), (r = 0 ∨ r = 1) → K r → sI D dA wX ad A H0 S H1 locs1 → W p l e R s m args below meth c H1 locs1 cells slots Q (F0 m (pc + 3) ls (iV r :: rest))) : W p l e R s m args below meth c H locs cells slots Q (F0 m (pc) ls (iV x2 :: iV x1 :: .ref (ad 129) :: rest)) := s_callVz (As := [iV x1, iV x2]) (rest := rest) (K := fun r S' => S' = S ∧ K r) hF (t_X_isSame l D dA ad S H.size x1 x2 K r1 r2 h) (s_recv hK hI 129 (by decide) wX_129 rfl) (cwV 2 hF.2.2.2.2 (lw_V q1067 q1069 qs40 q106 q1070) rfl rfl rfl (by decide +kernel) ⟨by have h1 := hR.1; have h2 : (rmD 2 0 0).frames = 2 + 1 := rfl; omega, by have h1 := hR.2; have h2 : (rmD 2 0 0).locals = 64 * 2 + 64 := rfl; omega⟩) hK hI rfl hls rfl hW hdg hf (fun r S1 H1 locs1 f hk hI1 => by obtain ⟨rfl, hk⟩ := hk; exact kk r H1 locs1 f hk hI1)
set_option maxHeartbeats 4000000 in
theorem t_X_same (l : Launch) (D : va_G) (dA : Nat → ClassId) (ad : Nat → Nat) (S : St) (sz : Nat) (x1 : Int) (x2 : Int) (K : Int → Prop) (rx1 : InR x1) (rx2 : InR x2) (h : w_X_same x1 x2 S K) : Met l yX0_same (ws_ yX0_same cX0_same 3 (Option.some Jvm.ClassFile.FieldType.boolean)) (rmD 3 0 0) (va_Pc [.ref (ad 129), iV x1, iV x2] (sPre D dA wX ad S sz)) (va_Qi (fun r S' => (r.toInt = 0 ∨ r.toInt = 1) ∧ (S' = S ∧ K r.toInt)) (sPost D dA wX ad (wA wX ad S sz)) (wA wX ad S sz)) 0 0 (wA wX ad S sz) := by
  refine Met.ofW (cc := cX0_same) (maxL := 3) (ret := (Option.some Jvm.ClassFile.FieldType.boolean)) (by decide) rfl ?_
  intro p e s m args below meth c s₁ B hml hv
  obtain ⟨rfl, hsz, hK, hC⟩ := hv
  have hx := B.exec
  have hb := B.bytes
  have hr := B.returns
  have hlocks := B.notSynchronized
  have hts := atoms_spec (ws := (ws_ yX0_same cX0_same 3 (Option.some Jvm.ClassFile.FieldType.boolean))) B.pre
  have hts : ∀ w ∈ lw_all, w.before _ s = true := fun w h => hts w (List.mem_cons_of_mem _ h)
  have hown : s.vm.findClass RX0 = some m.cls := findClass_of_methodNamed B.named
  clear B
  subst hsz
  have hI : sI D dA wX ad (wA wX ad S s.heap.size) s.heap S s.heap [] := hC.start
  clear hC
  generalize wA wX ad S s.heap.size = A at hI ⊢
  have hl := lv_entry ([.ref (ad 129), iV x1, iV x2] : List Value) (n := 3) (Nat.le_of_ble_eq_true rfl)
  rw [lg_entry_eq]
  generalize (lg_sl ([.ref (ad 129), iV x1, iV x2] : List Value) ++ List.replicate (3 - (lg_sl ([.ref (ad 129), iV x1, iV x2] : List Value)).length) Slot.unset).toArray = ls at hl ⊢
  have hl : lv_has ls 3 [(0, .ref (ad 129)), (1, iV x1), (2, iV x2)] := hl
  have hF : CallFix p m c cX0_same 3 s _ lw_all RX0 := ⟨hx, hb, hml, hown, hts⟩
  have hR : (headSpec (ws_ yX0_same cX0_same 3 (Option.some Jvm.ClassFile.FieldType.boolean)) (rmD 3 0 0)).room.frames = 3 + 1 ∧ (headSpec (ws_ yX0_same cX0_same 3 (Option.some Jvm.ClassFile.FieldType.boolean)) (rmD 3 0 0)).room.locals = 64 * 3 + 64 := ⟨rfl, rfl⟩
  generalize (headSpec (ws_ yX0_same cX0_same 3 (Option.some Jvm.ClassFile.FieldType.boolean)) (rmD 3 0 0)).room = R at hR ⊢
  generalize ([.ref (ad 129), iV x1, iV x2] : List Value).toArray = args at hts hF ⊢
  generalize hQ : MQ below _ _ _ _ _ _ = Q
  unfold w_X_same at h
  refine lv_aload_n hx hb dX0_same_0 rfl (lv_at hl 0 rfl) ?_
  refine lv_iload_n hx hb dX0_same_1 rfl (lv_at hl 1 rfl) ?_
  refine cXX0_295 hF hK hI hl.1 hR (by decide) (Nat.le_of_ble_eq_true rfl) ⟨Nat.zero_le _, Nat.zero_le _⟩ rx1 h dX0_same_2 (fun r1 H locs fr1 h hI => ?_)
  replace h := h fr1
  have gr1 : InR r1 := kdP_R (k := 2) (by decide) fr1
  refine nr_if_eq hx hb gr1 dX0_same_5 (tgt := 29) (by decide) (fun c3 => ?_) (fun c3 => ?_)
  · replace h := h.1 c3
    refine nr_iconst hx hb dX0_same_29 ?_
    rw [← hQ]; exact s_zret (K := fun r S' => S' = S ∧ K r) hx hb hr hlocks hI (by decide) ⟨rfl, h⟩ dX0_same_30
  · replace h := h.2 c3
    refine lv_aload_n hx hb dX0_same_8 rfl (lv_at hl 0 rfl) ?_
    refine lv_iload_n hx hb dX0_same_9 rfl (lv_at hl 2 rfl) ?_
    refine cXX0_295 hF hK hI hl.1 hR (by decide) (Nat.le_of_ble_eq_true rfl) ⟨Nat.zero_le _, Nat.zero_le _⟩ rx2 h dX0_same_10 (fun r4 H locs fr4 h hI => ?_)
    replace h := h fr4
    have gr4 : InR r4 := kdP_R (k := 2) (by decide) fr4
    refine nr_if_eq hx hb gr4 dX0_same_13 (tgt := 29) (by decide) (fun c6 => ?_) (fun c6 => ?_)
    · replace h := h.1 c6
      refine nr_iconst hx hb dX0_same_29 ?_
      rw [← hQ]; exact s_zret (K := fun r S' => S' = S ∧ K r) hx hb hr hlocks hI (by decide) ⟨rfl, h⟩ dX0_same_30
    · replace h := h.2 c6
      refine lv_aload_n hx hb dX0_same_16 rfl (lv_at hl 0 rfl) ?_
      refine lv_iload_n hx hb dX0_same_17 rfl (lv_at hl 1 rfl) ?_
      refine lv_iload_n hx hb dX0_same_18 rfl (lv_at hl 2 rfl) ?_
      refine cXX0_298 hF hK hI hl.1 hR (by decide) (Nat.le_of_ble_eq_true rfl) ⟨Nat.zero_le _, Nat.zero_le _⟩ rx1 rx2 h dX0_same_19 (fun r7 H locs fr7 h hI => ?_)
      replace h := h fr7
      have gr7 : InR r7 := kdP_R (k := 2) (by decide) fr7
      refine nr_if_eq hx hb gr7 dX0_same_22 (tgt := 29) (by decide) (fun c9 => ?_) (fun c9 => ?_)
      · replace h := h.1 c9
        refine nr_iconst hx hb dX0_same_29 ?_
        rw [← hQ]; exact s_zret (K := fun r S' => S' = S ∧ K r) hx hb hr hlocks hI (by decide) ⟨rfl, h⟩ dX0_same_30
      · replace h := h.2 c9
        refine nr_iconst hx hb dX0_same_25 ?_
        refine lv_goto (tgt := 30) hx hb dX0_same_26 (by decide) ?_
        rw [← hQ]; exact s_zret (K := fun r S' => S' = S ∧ K r) hx hb hr hlocks hI (by decide) ⟨rfl, h⟩ dX0_same_30
set_option maxHeartbeats 4000000 in
theorem t_X_may (l : Launch) (D : va_G) (dA : Nat → ClassId) (ad : Nat → Nat) (S : St) (sz : Nat) (x1 : Int) (x2 : Int) (x3 : Int) (K : Int → Prop) (rx1 : InR x1) (rx2 : InR x2) (rx3 : InR x3) (h : w_X_may x1 x2 x3 S K) : Met l yX0_may (ws_ yX0_may cX0_may 4 (Option.some Jvm.ClassFile.FieldType.boolean)) (rmD 3 0 0) (va_Pc [.ref (ad 129), iV x1, iV x2, iV x3] (sPre D dA wX ad S sz)) (va_Qi (fun r S' => (r.toInt = 0 ∨ r.toInt = 1) ∧ (S' = S ∧ K r.toInt)) (sPost D dA wX ad (wA wX ad S sz)) (wA wX ad S sz)) 0 0 (wA wX ad S sz) := by
  refine Met.ofW (cc := cX0_may) (maxL := 4) (ret := (Option.some Jvm.ClassFile.FieldType.boolean)) (by decide) rfl ?_
  intro p e s m args below meth c s₁ B hml hv
  obtain ⟨rfl, hsz, hK, hC⟩ := hv
  have hx := B.exec
  have hb := B.bytes
  have hr := B.returns
  have hlocks := B.notSynchronized
  have hts := atoms_spec (ws := (ws_ yX0_may cX0_may 4 (Option.some Jvm.ClassFile.FieldType.boolean))) B.pre
  have hts : ∀ w ∈ lw_all, w.before _ s = true := fun w h => hts w (List.mem_cons_of_mem _ h)
  have hown : s.vm.findClass RX0 = some m.cls := findClass_of_methodNamed B.named
  clear B
  subst hsz
  have hI : sI D dA wX ad (wA wX ad S s.heap.size) s.heap S s.heap [] := hC.start
  clear hC
  generalize wA wX ad S s.heap.size = A at hI ⊢
  have hl := lv_entry ([.ref (ad 129), iV x1, iV x2, iV x3] : List Value) (n := 4) (Nat.le_of_ble_eq_true rfl)
  rw [lg_entry_eq]
  generalize (lg_sl ([.ref (ad 129), iV x1, iV x2, iV x3] : List Value) ++ List.replicate (4 - (lg_sl ([.ref (ad 129), iV x1, iV x2, iV x3] : List Value)).length) Slot.unset).toArray = ls at hl ⊢
  have hl : lv_has ls 4 [(0, .ref (ad 129)), (1, iV x1), (2, iV x2), (3, iV x3)] := hl
  have hF : CallFix p m c cX0_may 4 s _ lw_all RX0 := ⟨hx, hb, hml, hown, hts⟩
  have hR : (headSpec (ws_ yX0_may cX0_may 4 (Option.some Jvm.ClassFile.FieldType.boolean)) (rmD 3 0 0)).room.frames = 3 + 1 ∧ (headSpec (ws_ yX0_may cX0_may 4 (Option.some Jvm.ClassFile.FieldType.boolean)) (rmD 3 0 0)).room.locals = 64 * 3 + 64 := ⟨rfl, rfl⟩
  generalize (headSpec (ws_ yX0_may cX0_may 4 (Option.some Jvm.ClassFile.FieldType.boolean)) (rmD 3 0 0)).room = R at hR ⊢
  generalize ([.ref (ad 129), iV x1, iV x2, iV x3] : List Value).toArray = args at hts hF ⊢
  generalize hQ : MQ below _ _ _ _ _ _ = Q
  unfold w_X_may at h
  refine lv_iload_n hx hb dX0_may_0 rfl (lv_at hl 3 rfl) ?_
  refine nr_iconst hx hb dX0_may_1 ?_
  refine nr_icmp_eq hx hb rx3 (by decide) dX0_may_2 (tgt := 22) (by decide) (fun c1 => ?_) (fun c1 => ?_)
  · replace h := h.1 c1
    refine nr_iconst hx hb dX0_may_22 ?_
    refine lv_goto (tgt := 27) hx hb dX0_may_23 (by decide) ?_
    rw [← hQ]; exact s_zret (K := fun r S' => S' = S ∧ K r) hx hb hr hlocks hI (by decide) ⟨rfl, h⟩ dX0_may_27
  · replace h := h.2 c1
    refine lv_iload_n hx hb dX0_may_5 rfl (lv_at hl 2 rfl) ?_
    refine lv_iload_n hx hb dX0_may_6 rfl (lv_at hl 3 rfl) ?_
    have f2 := h.1; replace h := h.2
    refine nr_ishr hx hb f2 rx2 dX0_may_7 ?_
    have f3 : InR (x2 / 2 ^ (Int.toNat x3)) := ni_shrR rx2
    refine nr_iconst hx hb dX0_may_8 ?_
    refine nr_mask hx hb 1 (by decide) (by decide) dX0_may_9 ?_
    have f4 : InR ((x2 / 2 ^ (Int.toNat x3)) % 2) := by omega
    refine nr_if_ne hx hb f4 dX0_may_10 (tgt := 26) (by decide) (fun c5 => ?_) (fun c5 => ?_)
    · replace h := h.1 c5
      refine nr_iconst hx hb dX0_may_26 ?_
      rw [← hQ]; exact s_zret (K := fun r S' => S' = S ∧ K r) hx hb hr hlocks hI (by decide) ⟨rfl, h⟩ dX0_may_27
    · replace h := h.2 c5
      refine lv_aload_n hx hb dX0_may_13 rfl (lv_at hl 0 rfl) ?_
      refine lv_iload_n hx hb dX0_may_14 rfl (lv_at hl 3 rfl) ?_
      refine lv_iload_n hx hb dX0_may_15 rfl (lv_at hl 1 rfl) ?_
      refine cXX0_298 hF hK hI hl.1 hR (by decide) (Nat.le_of_ble_eq_true rfl) ⟨Nat.zero_le _, Nat.zero_le _⟩ rx3 rx1 h dX0_may_16 (fun r6 H locs fr6 h hI => ?_)
      replace h := h fr6
      have gr6 : InR r6 := kdP_R (k := 2) (by decide) fr6
      refine nr_if_eq hx hb gr6 dX0_may_19 (tgt := 26) (by decide) (fun c8 => ?_) (fun c8 => ?_)
      · replace h := h.1 c8
        refine nr_iconst hx hb dX0_may_26 ?_
        rw [← hQ]; exact s_zret (K := fun r S' => S' = S ∧ K r) hx hb hr hlocks hI (by decide) ⟨rfl, h⟩ dX0_may_27
      · replace h := h.2 c8
        refine nr_iconst hx hb dX0_may_22 ?_
        refine lv_goto (tgt := 27) hx hb dX0_may_23 (by decide) ?_
        rw [← hQ]; exact s_zret (K := fun r S' => S' = S ∧ K r) hx hb hr hlocks hI (by decide) ⟨rfl, h⟩ dX0_may_27
theorem gXX0_50_129 {p : Program} {l : Launch} {e : Env} {R : Room} {s : State} {m : MethodId} {args : Array Value} {below : List Frame} {meth : Method} {c : Code} {H : Heap} {locs : List Loc} {Q : State → Prop} {cc : ByteArray} {nL pc : Nat} {ls : Array Slot} {rest : List Value} {cells slots : Nat} {D : va_G} {dA : Nat → ClassId} {ad : Nat → Nat} {A : Nat → Prop} {H0 : Heap} {S : St} (hF : CallFix p m c cc nL s args lw_all RX0) (hK : gK D dA s) (hI : sI D dA wX ad A H0 S H locs) (hdg : decode cc pc = .ok (.getfield 50, 3)) (kk : W p l e R s m args below meth c H locs cells slots Q (F0 m (pc + 3) ls (.ref (ad 138) :: rest))) : W p l e R s m args below meth c H locs cells slots Q (F0 m (pc) ls (.ref (ad 129) :: rest)) := s_getr hF.1 hF.2.1 hF.2.2.2.2 hF.2.2.2.1 hK hI 129 (by decide) wX_129 rfl in_X0 13 (by decide) q217 rfl 138 rfl hdg kk
set_option maxHeartbeats 4000000 in
theorem t_X_worthOf (l : Launch) (D : va_G) (dA : Nat → ClassId) (ad : Nat → Nat) (S : St) (sz : Nat) (x1 : Int) (x2 : Int) (x3 : Int) (K : Int → Prop) (rx1 : InR x1) (rx2 : InR x2) (rx3 : InR x3) (h : w_X_worthOf x1 x2 x3 S K) : Met l yX0_worthOf (ws_ yX0_worthOf cX0_worthOf 4 (Option.some Jvm.ClassFile.FieldType.int)) (rmD 0 0 0) (va_Pc [.ref (ad 129), iV x1, iV x2, iV x3] (sPre D dA wX ad S sz)) (va_Qi (fun r S' => S' = S ∧ K r.toInt) (sPost D dA wX ad (wA wX ad S sz)) (wA wX ad S sz)) 0 0 (wA wX ad S sz) := by
  refine Met.ofW (cc := cX0_worthOf) (maxL := 4) (ret := (Option.some Jvm.ClassFile.FieldType.int)) (by decide) rfl ?_
  intro p e s m args below meth c s₁ B hml hv
  obtain ⟨rfl, hsz, hK, hC⟩ := hv
  have hx := B.exec
  have hb := B.bytes
  have hr := B.returns
  have hlocks := B.notSynchronized
  have hts := atoms_spec (ws := (ws_ yX0_worthOf cX0_worthOf 4 (Option.some Jvm.ClassFile.FieldType.int))) B.pre
  have hts : ∀ w ∈ lw_all, w.before _ s = true := fun w h => hts w (List.mem_cons_of_mem _ h)
  have hown : s.vm.findClass RX0 = some m.cls := findClass_of_methodNamed B.named
  clear B
  subst hsz
  have hI : sI D dA wX ad (wA wX ad S s.heap.size) s.heap S s.heap [] := hC.start
  clear hC
  generalize wA wX ad S s.heap.size = A at hI ⊢
  have hl := lv_entry ([.ref (ad 129), iV x1, iV x2, iV x3] : List Value) (n := 4) (Nat.le_of_ble_eq_true rfl)
  rw [lg_entry_eq]
  generalize (lg_sl ([.ref (ad 129), iV x1, iV x2, iV x3] : List Value) ++ List.replicate (4 - (lg_sl ([.ref (ad 129), iV x1, iV x2, iV x3] : List Value)).length) Slot.unset).toArray = ls at hl ⊢
  have hl : lv_has ls 4 [(0, .ref (ad 129)), (1, iV x1), (2, iV x2), (3, iV x3)] := hl
  have hF : CallFix p m c cX0_worthOf 4 s _ lw_all RX0 := ⟨hx, hb, hml, hown, hts⟩
  have hR : (headSpec (ws_ yX0_worthOf cX0_worthOf 4 (Option.some Jvm.ClassFile.FieldType.int)) (rmD 0 0 0)).room.frames = 0 + 1 ∧ (headSpec (ws_ yX0_worthOf cX0_worthOf 4 (Option.some Jvm.ClassFile.FieldType.int)) (rmD 0 0 0)).room.locals = 64 * 0 + 64 := ⟨rfl, rfl⟩
  generalize (headSpec (ws_ yX0_worthOf cX0_worthOf 4 (Option.some Jvm.ClassFile.FieldType.int)) (rmD 0 0 0)).room = R at hR ⊢
  generalize ([.ref (ad 129), iV x1, iV x2, iV x3] : List Value).toArray = args at hts hF ⊢
  generalize hQ : MQ below _ _ _ _ _ _ = Q
  have J49 : ∀ (x1 : Int) (x2 : Int) (x3 : Int) (y0 : Int) (y1 : Int) (H : Heap) (locs : List Loc) (ls : Array Slot), InR x1 → InR x2 → InR x3 → InR y0 → InR y1 → sI D dA wX ad A s.heap S H locs → lv_has ls 4 [(0, .ref (ad 129)), (1, iV x1), (2, iV x2), (3, iV x3)] → j_X_worthOf_49 x1 x2 x3 y0 y1 S K → W p l e R s m args below meth c H locs 0 0 Q (F0 m 49 ls [iV y1, iV y0]) := by
    intro x1 x2 x3 y0 y1 H locs ls rx1 rx2 rx3 ry0 ry1 hI hl h
    unfold j_X_worthOf_49 at h
    have f1 := h.1; replace h := h.2
    refine nr_isub hx hb dX0_worthOf_49 ?_
    refine lv_aload_n hx hb dX0_worthOf_50 rfl (lv_at hl 0 rfl) ?_
    refine gXX0_50_129 hF hK hI dX0_worthOf_51 ?_
    refine lv_iload_n hx hb dX0_worthOf_54 rfl (lv_at hl 1 rfl) ?_
    refine nr_iconst hx hb dX0_worthOf_55 ?_
    have f2 := h.1; replace h := h.2
    refine nr_iadd hx hb dX0_worthOf_56 ?_
    have f3 := h.1; replace h := h.2
    refine s_aald hx hb hK hI 138 (by decide) wX_138 ⟨rfl, rfl⟩ f2 f3 dX0_worthOf_57 ?_
    refine lv_iload_n hx hb dX0_worthOf_58 rfl (lv_at hl 2 rfl) ?_
    refine nr_iconst hx hb dX0_worthOf_59 ?_
    refine lv_iload_n hx hb dX0_worthOf_60 rfl (lv_at hl 3 rfl) ?_
    have f4 := h.1; replace h := h.2
    have f5 := h.1; replace h := h.2
    refine nr_ishl hx hb f4 f5 dX0_worthOf_61 ?_
    refine nr_ior hx hb dX0_worthOf_62 ?_
    have f6 := h.1; replace h := h.2
    refine s_iald hx hb hK hI (103 + Int.toNat (x1 + 1)) (wX_rk138 f3) (wX_rw138 f3) (iOr_R _ _) f6 dX0_worthOf_63 (fun f7 => ?_)
    replace h := h f7
    have f8 := h.1; replace h := h.2
    refine nr_iadd hx hb dX0_worthOf_64 ?_
    rw [← hQ]; exact s_iret (K := fun r S' => S' = S ∧ K r) hx hb hr hlocks hI f8 ⟨rfl, h⟩ dX0_worthOf_65
  unfold w_X_worthOf at h
  refine lv_iload_n hx hb dX0_worthOf_0 rfl (lv_at hl 3 rfl) ?_
  refine nr_iconst hx hb dX0_worthOf_1 ?_
  refine nr_icmp_ne hx hb rx3 (by decide) dX0_worthOf_2 (tgt := 16) (by decide) (fun c9 => ?_) (fun c9 => ?_)
  · replace h := h.1 c9
    refine nr_sipush hx hb dX0_worthOf_16 (by decide) ?_
    refine lv_aload_n hx hb dX0_worthOf_19 rfl (lv_at hl 0 rfl) ?_
    refine gXX0_12_129 hF hK hI dX0_worthOf_20 ?_
    refine gXX0_289_130 hF hK hI dX0_worthOf_23 ?_
    refine lv_iload_n hx hb dX0_worthOf_26 rfl (lv_at hl 3 rfl) ?_
    have f10 := h.1; replace h := h.2
    refine s_aald hx hb hK hI 134 (by decide) wX_134 ⟨rfl, rfl⟩ rx3 f10 dX0_worthOf_27 ?_
    refine nr_iconst hx hb dX0_worthOf_28 ?_
    refine s_iald hx hb hK hI (55 + Int.toNat x3) (wX_rk134 f10) (wX_rw134 f10) (by decide) (by decide) dX0_worthOf_29 (fun f11 => ?_)
    replace h := h f11
    refine lv_aload_n hx hb dX0_worthOf_30 rfl (lv_at hl 0 rfl) ?_
    refine gXX0_12_129 hF hK hI dX0_worthOf_31 ?_
    refine gXX0_289_130 hF hK hI dX0_worthOf_34 ?_
    refine lv_iload_n hx hb dX0_worthOf_37 rfl (lv_at hl 1 rfl) ?_
    have f12 := h.1; replace h := h.2
    refine s_aald hx hb hK hI 134 (by decide) wX_134 ⟨rfl, rfl⟩ rx1 f12 dX0_worthOf_38 ?_
    refine nr_iconst hx hb dX0_worthOf_39 ?_
    refine s_iald hx hb hK hI (55 + Int.toNat x1) (wX_rk134 f12) (wX_rw134 f12) (by decide) (by decide) dX0_worthOf_40 (fun f13 => ?_)
    replace h := h f13
    refine nr_icmp_ne hx hb f11 f13 dX0_worthOf_41 (tgt := 48) (by decide) (fun c14 => ?_) (fun c14 => ?_)
    · replace h := h.1 c14
      refine nr_iconst hx hb dX0_worthOf_48 ?_
      exact J49 x1 x2 x3 1000 1 _ _ _ rx1 rx2 rx3 (by decide) (by decide) hI (lv_sub hl [0, 1, 2, 3] rfl) h
    · replace h := h.2 c14
      refine nr_iconst hx hb dX0_worthOf_44 ?_
      refine lv_goto (tgt := 49) hx hb dX0_worthOf_45 (by decide) ?_
      exact J49 x1 x2 x3 1000 0 _ _ _ rx1 rx2 rx3 (by decide) (by decide) hI (lv_sub hl [0, 1, 2, 3] rfl) h
  · replace h := h.2 c9
    refine lv_aload_n hx hb dX0_worthOf_5 rfl (lv_at hl 0 rfl) ?_
    refine gXX0_50_129 hF hK hI dX0_worthOf_6 ?_
    refine lv_iload_n hx hb dX0_worthOf_9 rfl (lv_at hl 1 rfl) ?_
    refine nr_iconst hx hb dX0_worthOf_10 ?_
    have f15 := h.1; replace h := h.2
    refine nr_iadd hx hb dX0_worthOf_11 ?_
    have f16 := h.1; replace h := h.2
    refine s_aald hx hb hK hI 138 (by decide) wX_138 ⟨rfl, rfl⟩ f15 f16 dX0_worthOf_12 ?_
    refine lv_iload_n hx hb dX0_worthOf_13 rfl (lv_at hl 2 rfl) ?_
    have f17 := h.1; replace h := h.2
    refine s_iald hx hb hK hI (103 + Int.toNat (x1 + 1)) (wX_rk138 f16) (wX_rw138 f16) rx2 f17 dX0_worthOf_14 (fun f18 => ?_)
    replace h := h f18
    rw [← hQ]; exact s_iret (K := fun r S' => S' = S ∧ K r) hx hb hr hlocks hI f18 ⟨rfl, h⟩ dX0_worthOf_15
theorem gXX0_55_129 {p : Program} {l : Launch} {e : Env} {R : Room} {s : State} {m : MethodId} {args : Array Value} {below : List Frame} {meth : Method} {c : Code} {H : Heap} {locs : List Loc} {Q : State → Prop} {cc : ByteArray} {nL pc : Nat} {ls : Array Slot} {rest : List Value} {cells slots : Nat} {D : va_G} {dA : Nat → ClassId} {ad : Nat → Nat} {A : Nat → Prop} {H0 : Heap} {S : St} (hF : CallFix p m c cc nL s args lw_all RX0) (hK : gK D dA s) (hI : sI D dA wX ad A H0 S H locs) (hdg : decode cc pc = .ok (.getfield 55, 3)) (kk : W p l e R s m args below meth c H locs cells slots Q (F0 m (pc + 3) ls (.ref (ad 139) :: rest))) : W p l e R s m args below meth c H locs cells slots Q (F0 m (pc) ls (.ref (ad 129) :: rest)) := s_getr hF.1 hF.2.1 hF.2.2.2.2 hF.2.2.2.1 hK hI 129 (by decide) wX_129 rfl in_X0 14 (by decide) q218 rfl 139 rfl hdg kk
theorem cXX0_308 {p : Program} {l : Launch} {e : Env} {R : Room} {s : State} {m : MethodId} {args : Array Value} {below : List Frame} {meth : Method} {c : Code} {H : Heap} {locs : List Loc} {Q : State → Prop} {cc : ByteArray} {nL pc : Nat} {ls : Array Slot} {rest : List Value} {cells slots : Nat} {D : va_G} {dA : Nat → ClassId} {ad : Nat → Nat} {A : Nat → Prop} {H0 : Heap} {S : St} {dk : Nat} (hF : CallFix p m c cc nL s args lw_all RX0) (hK : gK D dA s) (hI : sI D dA wX ad A H0 S H locs) (hls : ls.size = nL) (hR : R.frames = dk + 1 ∧ R.locals = 64 * dk + 64) (hd : 3 + 1 ≤ dk) (hW : (rest.map fun v => v.category).sum ≤ 8) (hf : cells ≤ R.cells ∧ slots ≤ R.slots) {x1 : Int} {x2 : Int} {x3 : Int} {K : Int → Prop} (r1 : InR x1) (r2 : InR x2) (r3 : InR x3) (h : w_X_may x1 x2 x3 S K) (hdg : decode cc pc = .ok (.invokevirtual 308, 3)) (kk : ∀ (r : Int) (H1 : Heap) (locs1 : List Loc), (r = 0 ∨ r = 1) → K r → sI D dA wX ad A H0 S H1 locs1 → W p l e R s m args below meth c H1 locs1 cells slots Q (F0 m (pc + 3) ls (iV r :: rest))) : W p l e R s m args below meth c H locs cells slots Q (F0 m (pc) ls (iV x3 :: iV x2 :: iV x1 :: .ref (ad 129) :: rest)) := s_callVz (As := [iV x1, iV x2, iV x3]) (rest := rest) (K := fun r S' => S' = S ∧ K r) hF (t_X_may l D dA ad S H.size x1 x2 x3 K r1 r2 r3 h) (s_recv hK hI 129 (by decide) wX_129 rfl) (cwV 3 hF.2.2.2.2 (lw_V q1093 q1095 qs44 q106 q1096) rfl rfl rfl (by decide +kernel) ⟨by have h1 := hR.1; have h2 : (rmD 3 0 0).frames = 3 + 1 := rfl; omega, by have h1 := hR.2; have h2 : (rmD 3 0 0).locals = 64 * 3 + 64 := rfl; omega⟩) hK hI rfl hls rfl hW hdg hf (fun r S1 H1 locs1 f hk hI1 => by obtain ⟨rfl, hk⟩ := hk; exact kk r H1 locs1 f hk hI1)
theorem cXX0_304 {p : Program} {l : Launch} {e : Env} {R : Room} {s : State} {m : MethodId} {args : Array Value} {below : List Frame} {meth : Method} {c : Code} {H : Heap} {locs : List Loc} {Q : State → Prop} {cc : ByteArray} {nL pc : Nat} {ls : Array Slot} {rest : List Value} {cells slots : Nat} {D : va_G} {dA : Nat → ClassId} {ad : Nat → Nat} {A : Nat → Prop} {H0 : Heap} {S : St} {dk : Nat} (hF : CallFix p m c cc nL s args lw_all RX0) (hK : gK D dA s) (hI : sI D dA wX ad A H0 S H locs) (hls : ls.size = nL) (hR : R.frames = dk + 1 ∧ R.locals = 64 * dk + 64) (hd : 0 + 1 ≤ dk) (hW : (rest.map fun v => v.category).sum ≤ 8) (hf : cells ≤ R.cells ∧ slots ≤ R.slots) {x1 : Int} {x2 : Int} {x3 : Int} {K : Int → Prop} (r1 : InR x1) (r2 : InR x2) (r3 : InR x3) (h : w_X_worthOf x1 x2 x3 S K) (hdg : decode cc pc = .ok (.invokevirtual 304, 3)) (kk : ∀ (r : Int) (H1 : Heap) (locs1 : List Loc), InR r → K r → sI D dA wX ad A H0 S H1 locs1 → W p l e R s m args below meth c H1 locs1 cells slots Q (F0 m (pc + 3) ls (iV r :: rest))) : W p l e R s m args below meth c H locs cells slots Q (F0 m (pc) ls (iV x3 :: iV x2 :: iV x1 :: .ref (ad 129) :: rest)) := s_callVi (As := [iV x1, iV x2, iV x3]) (rest := rest) (K := fun r S' => S' = S ∧ K r) hF (t_X_worthOf l D dA ad S H.size x1 x2 x3 K r1 r2 r3 h) (s_recv hK hI 129 (by decide) wX_129 rfl) (cwV 3 hF.2.2.2.2 (lw_V q1089 q1091 qs43 q106 q1092) rfl rfl rfl (by decide +kernel) ⟨by have h1 := hR.1; have h2 : (rmD 0 0 0).frames = 0 + 1 := rfl; omega, by have h1 := hR.2; have h2 : (rmD 0 0 0).locals = 64 * 0 + 64 := rfl; omega⟩) hK hI rfl hls rfl hW hdg hf (fun r S1 H1 locs1 f hk hI1 => by obtain ⟨rfl, hk⟩ := hk; exact kk r H1 locs1 f hk hI1)
theorem cXX0_280 {p : Program} {l : Launch} {e : Env} {R : Room} {s : State} {m : MethodId} {args : Array Value} {below : List Frame} {meth : Method} {c : Code} {H : Heap} {locs : List Loc} {Q : State → Prop} {cc : ByteArray} {nL pc : Nat} {ls : Array Slot} {rest : List Value} {cells slots : Nat} {D : va_G} {dA : Nat → ClassId} {ad : Nat → Nat} {A : Nat → Prop} {H0 : Heap} {S : St} {dk : Nat} (hF : CallFix p m c cc nL s args lw_all RX0) (hK : gK D dA s) (hI : sI D dA wX ad A H0 S H locs) (hls : ls.size = nL) (hR : R.frames = dk + 1 ∧ R.locals = 64 * dk + 64) (hd : 0 + 1 ≤ dk) (hW : (rest.map fun v => v.category).sum ≤ 8) (hf : cells ≤ R.cells ∧ slots ≤ R.slots) {k0 n0 : Nat} {x1 : Int} {K : St → Prop} (hk0 : k0 < wX.1) (hd0 : wX.2.1 k0 = .inl (0, n0)) (hn0 : n0 ≤ 100000) (r1 : InR x1) (h : w_J14_fill k0 n0 x1 S K) (hdg : decode cc pc = .ok (.invokestatic 280, 3)) (kk : ∀ (S1 : St) (H1 : Heap) (locs1 : List Loc), K S1 → sI D dA wX ad A H0 S1 H1 locs1 → W p l e R s m args below meth c H1 locs1 cells slots Q (F0 m (pc + 3) ls (rest))) : W p l e R s m args below meth c H locs cells slots Q (F0 m (pc) ls (iV x1 :: .ref (ad k0) :: rest)) := s_callSv (As := [.ref (ad k0), iV x1]) (rest := rest) (K := K) hF (t_J14_fill l D dA ad S H.size k0 n0 x1 K hk0 hd0 hn0 r1 h) (va_cwS 2 hF.2.2.2.2 (lw_S q1036 q1037 q132 q1038) rfl rfl rfl (by decide +kernel) ⟨by have h1 := hR.1; have h2 : (rmD 0 0 0).frames = 0 + 1 := rfl; omega, by have h1 := hR.2; have h2 : (rmD 0 0 0).locals = 64 * 0 + 64 := rfl; omega⟩) hK hI rfl hls rfl hW hdg hf kk
theorem cXX0_301 {p : Program} {l : Launch} {e : Env} {R : Room} {s : State} {m : MethodId} {args : Array Value} {below : List Frame} {meth : Method} {c : Code} {H : Heap} {locs : List Loc} {Q : State → Prop} {cc : ByteArray} {nL pc : Nat} {ls : Array Slot} {rest : List Value} {cells slots : Nat} {D : va_G} {dA : Nat → ClassId} {ad : Nat → Nat} {A : Nat → Prop} {H0 : Heap} {S : St} {dk : Nat} (hF : CallFix p m c cc nL s args lw_all RX0) (hK : gK D dA s) (hI : sI D dA wX ad A H0 S H locs) (hls : ls.size = nL) (hR : R.frames = dk + 1 ∧ R.locals = 64 * dk + 64) (hd : 0 + 1 ≤ dk) (hW : (rest.map fun v => v.category).sum ≤ 8) (hf : cells ≤ R.cells ∧ slots ≤ R.slots) {k0 n0 : Nat} {x1 : Int} {K : St → Prop} (hk0 : k0 < wX.1) (hd0 : wX.2.1 k0 = .inl (1, n0)) (hn0 : n0 ≤ 100000) (r1 : InL x1) (h : w_J14_fill_2 k0 n0 x1 S K) (hdg : decode cc pc = .ok (.invokestatic 301, 3)) (kk : ∀ (S1 : St) (H1 : Heap) (locs1 : List Loc), K S1 → sI D dA wX ad A H0 S1 H1 locs1 → W p l e R s m args below meth c H1 locs1 cells slots Q (F0 m (pc + 3) ls (rest))) : W p l e R s m args below meth c H locs cells slots Q (F0 m (pc) ls (jV x1 :: .ref (ad k0) :: rest)) := s_callSv (As := [.ref (ad k0), jV x1]) (rest := rest) (K := K) hF (t_J14_fill_2 l D dA ad S H.size k0 n0 x1 K hk0 hd0 hn0 r1 h) (va_cwS 2 hF.2.2.2.2 (lw_S q1086 q1087 q132 q1088) rfl rfl rfl (by decide +kernel) ⟨by have h1 := hR.1; have h2 : (rmD 0 0 0).frames = 0 + 1 := rfl; omega, by have h1 := hR.2; have h2 : (rmD 0 0 0).locals = 64 * 0 + 64 := rfl; omega⟩) hK hI rfl hls rfl hW hdg hf kk
set_option maxHeartbeats 4000000 in
theorem t_X_laysHistories (l : Launch) (D : va_G) (dA : Nat → ClassId) (ad : Nat → Nat) (S : St) (sz : Nat) (K : St → Prop) (h : w_X_laysHistories S K) : Met l yX0_laysHistories (ws_ yX0_laysHistories cX0_laysHistories 9 (Option.none : Option Jvm.ClassFile.FieldType)) (rmD 4 0 0) (va_Pc [.ref (ad 129)] (sPre D dA wX ad S sz)) (va_Qv (fun S' => K S') (sPost D dA wX ad (wA wX ad S sz)) (wA wX ad S sz)) 0 0 (wA wX ad S sz) := by
  refine Met.ofW (cc := cX0_laysHistories) (maxL := 9) (ret := (Option.none : Option Jvm.ClassFile.FieldType)) (by decide) rfl ?_
  intro p e s m args below meth c s₁ B hml hv
  obtain ⟨rfl, hsz, hK, hC⟩ := hv
  have hx := B.exec
  have hb := B.bytes
  have hr := B.returns
  have hlocks := B.notSynchronized
  have hts := atoms_spec (ws := (ws_ yX0_laysHistories cX0_laysHistories 9 (Option.none : Option Jvm.ClassFile.FieldType))) B.pre
  have hts : ∀ w ∈ lw_all, w.before _ s = true := fun w h => hts w (List.mem_cons_of_mem _ h)
  have hown : s.vm.findClass RX0 = some m.cls := findClass_of_methodNamed B.named
  clear B
  subst hsz
  have hI : sI D dA wX ad (wA wX ad S s.heap.size) s.heap S s.heap [] := hC.start
  clear hC
  generalize wA wX ad S s.heap.size = A at hI ⊢
  have hl := lv_entry ([.ref (ad 129)] : List Value) (n := 9) (Nat.le_of_ble_eq_true rfl)
  rw [lg_entry_eq]
  generalize (lg_sl ([.ref (ad 129)] : List Value) ++ List.replicate (9 - (lg_sl ([.ref (ad 129)] : List Value)).length) Slot.unset).toArray = ls at hl ⊢
  have hl : lv_has ls 9 [(0, .ref (ad 129))] := hl
  have hF : CallFix p m c cX0_laysHistories 9 s _ lw_all RX0 := ⟨hx, hb, hml, hown, hts⟩
  have hR : (headSpec (ws_ yX0_laysHistories cX0_laysHistories 9 (Option.none : Option Jvm.ClassFile.FieldType)) (rmD 4 0 0)).room.frames = 4 + 1 ∧ (headSpec (ws_ yX0_laysHistories cX0_laysHistories 9 (Option.none : Option Jvm.ClassFile.FieldType)) (rmD 4 0 0)).room.locals = 64 * 4 + 64 := ⟨rfl, rfl⟩
  generalize (headSpec (ws_ yX0_laysHistories cX0_laysHistories 9 (Option.none : Option Jvm.ClassFile.FieldType)) (rmD 4 0 0)).room = R at hR ⊢
  generalize ([.ref (ad 129)] : List Value).toArray = args at hts hF ⊢
  generalize hQ : MQ below _ _ _ _ _ _ = Q
  have L34 : ∀ (x1 : Int), InR x1 → ∀ (n34 : Nat) (x2 : Int) (S : St) (H : Heap) (locs : List Loc) (ls : Array Slot), InR x2 → sI D dA wX ad A s.heap S H locs → lv_has ls 9 [(0, .ref (ad 129)), (1, iV x1), (2, iV x2)] → l_X_laysHistories_34 x1 K n34 x2 S → W p l e R s m args below meth c H locs 0 0 Q (F0 m 34 ls []) := by
    intro x1 rx1 n34
    induction n34 with
    | zero => intro x2 S H locs ls rx2 hI hl h; exact False.elim h
    | succ n34 ih34 =>
      intro x2 S H locs ls rx2 hI hl h
      have J188 : ∀ (x2 : Int) (S : St) (H : Heap) (locs : List Loc) (ls : Array Slot), InR x2 → sI D dA wX ad A s.heap S H locs → lv_has ls 9 [(0, .ref (ad 129)), (1, iV x1), (2, iV x2)] → j_X_laysHistories_188 x1 x2 S K (l_X_laysHistories_34 x1 K n34) → W p l e R s m args below meth c H locs 0 0 Q (F0 m 188 ls []) := by
        intro x2 S H locs ls rx2 hI hl h
        unfold j_X_laysHistories_188 at h
        have f1 := h.1; replace h := h.2
        refine nr_iinc (lv' := [(2, iV (x2 + (-1))), (0, .ref (ad 129)), (1, iV x1)]) hx hb dX0_laysHistories_188 hl (k := 2) rfl (by decide) rfl (fun ls hl => ?_)
        refine lv_goto (tgt := 34) hx hb dX0_laysHistories_191 (by decide) ?_
        exact ih34 (x2 + (-1)) S _ _ _ f1 hI (lv_sub hl [1, 2, 0] rfl) h
      have L40 : ∀ (x2 : Int), InR x2 → ∀ (n40 : Nat) (x3 : Int) (S : St) (H : Heap) (locs : List Loc) (ls : Array Slot), InR x3 → sI D dA wX ad A s.heap S H locs → lv_has ls 9 [(0, .ref (ad 129)), (1, iV x1), (2, iV x2), (3, iV x3)] → l_X_laysHistories_40 x1 x2 K (fun (zS : St) => j_X_laysHistories_188 x1 x2 zS K (l_X_laysHistories_34 x1 K n34)) n40 x3 S → W p l e R s m args below meth c H locs 0 0 Q (F0 m 40 ls []) := by
        intro x2 rx2 n40
        induction n40 with
        | zero => intro x3 S H locs ls rx3 hI hl h; exact False.elim h
        | succ n40 ih40 =>
          intro x3 S H locs ls rx3 hI hl h
          have J162 : ∀ (x3 : Int) (x4 : Int) (x5 : Int) (S : St) (H : Heap) (locs : List Loc) (ls : Array Slot), InR x3 → InR x4 → InL x5 → sI D dA wX ad A s.heap S H locs → lv_has ls 9 [(0, .ref (ad 129)), (1, iV x1), (2, iV x2), (3, iV x3), (4, iV x4), (5, jV x5)] → j_X_laysHistories_162 x1 x2 x3 x4 x5 S K (fun (zS : St) => j_X_laysHistories_188 x1 x2 zS K (l_X_laysHistories_34 x1 K n34)) (l_X_laysHistories_40 x1 x2 K (fun (zS : St) => j_X_laysHistories_188 x1 x2 zS K (l_X_laysHistories_34 x1 K n34)) n40) → W p l e R s m args below meth c H locs 0 0 Q (F0 m 162 ls []) := by
            intro x3 x4 x5 S H locs ls rx3 rx4 rx5 hI hl h
            unfold j_X_laysHistories_162 at h
            refine lv_aload_n hx hb dX0_laysHistories_162 rfl (lv_at hl 0 rfl) ?_
            refine gXX0_50_129 hF hK hI dX0_laysHistories_163 ?_
            refine lv_iload_n hx hb dX0_laysHistories_166 rfl (lv_at hl 2 rfl) ?_
            have f2 := h.1; replace h := h.2
            refine s_aald hx hb hK hI 138 (by decide) wX_138 ⟨rfl, rfl⟩ rx2 f2 dX0_laysHistories_167 ?_
            refine lv_iload_n hx hb dX0_laysHistories_168 rfl (lv_at hl 3 rfl) ?_
            refine lv_iload hx hb dX0_laysHistories_169 (lv_at hl 4 rfl) ?_
            have f3 := h.1; replace h := h.2
            refine s_iast hx hb hK hI (103 + Int.toNat x2) (wX_rk138 f2) (wX_rw138 f2) rx3 f3 rx4 dX0_laysHistories_171 (fun S4 H locs eS4 hI => ?_)
            replace h := h S4 eS4
            refine lv_aload_n hx hb dX0_laysHistories_172 rfl (lv_at hl 0 rfl) ?_
            refine gXX0_55_129 hF hK hI dX0_laysHistories_173 ?_
            refine lv_iload_n hx hb dX0_laysHistories_176 rfl (lv_at hl 2 rfl) ?_
            have f5 := h.1; replace h := h.2
            refine s_aald hx hb hK hI 139 (by decide) wX_139 ⟨rfl, rfl⟩ rx2 f5 dX0_laysHistories_177 ?_
            refine lv_iload_n hx hb dX0_laysHistories_178 rfl (lv_at hl 3 rfl) ?_
            refine lv_lload hx hb dX0_laysHistories_179 (lv_at hl 5 rfl) ?_
            have f6 := h.1; replace h := h.2
            refine s_last hx hb hK hI (116 + Int.toNat x2) (wX_rk139 f5) (wX_rw139 f5) rx3 f6 rx5 dX0_laysHistories_181 (fun S7 H locs eS7 hI => ?_)
            replace h := h S7 eS7
            have f8 := h.1; replace h := h.2
            refine nr_iinc (lv' := [(3, iV (x3 + 1)), (0, .ref (ad 129)), (1, iV x1), (2, iV x2), (4, iV x4), (5, jV x5)]) hx hb dX0_laysHistories_182 hl (k := 3) rfl (by decide) rfl (fun ls hl => ?_)
            refine lv_goto (tgt := 40) hx hb dX0_laysHistories_185 (by decide) ?_
            exact ih40 (x3 + 1) S7 _ _ _ f8 hI (lv_sub hl [1, 2, 3, 0] rfl) h
          have L71 : ∀ (x3 : Int) (S : St), InR x3 → ∀ (n71 : Nat) (x4 : Int) (x5 : Int) (x7 : Int) (H : Heap) (locs : List Loc) (ls : Array Slot), InR x4 → InL x5 → InR x7 → sI D dA wX ad A s.heap S H locs → lv_has ls 9 [(0, .ref (ad 129)), (1, iV x1), (2, iV x2), (3, iV x3), (4, iV x4), (5, jV x5), (7, iV x7)] → l_X_laysHistories_71 x1 x2 x3 S K (fun (z4 : Int) (z5 : Int) => j_X_laysHistories_162 x1 x2 x3 z4 z5 S K (fun (zS : St) => j_X_laysHistories_188 x1 x2 zS K (l_X_laysHistories_34 x1 K n34)) (l_X_laysHistories_40 x1 x2 K (fun (zS : St) => j_X_laysHistories_188 x1 x2 zS K (l_X_laysHistories_34 x1 K n34)) n40)) n71 x4 x5 x7 → W p l e R s m args below meth c H locs 0 0 Q (F0 m 71 ls []) := by
            intro x3 S rx3 n71
            induction n71 with
            | zero => intro x4 x5 x7 H locs ls rx4 rx5 rx7 hI hl h; exact False.elim h
            | succ n71 ih71 =>
              intro x4 x5 x7 H locs ls rx4 rx5 rx7 hI hl h
              have J156 : ∀ (x4 : Int) (x5 : Int) (x7 : Int) (H : Heap) (locs : List Loc) (ls : Array Slot), InR x4 → InL x5 → InR x7 → sI D dA wX ad A s.heap S H locs → lv_has ls 9 [(0, .ref (ad 129)), (1, iV x1), (2, iV x2), (3, iV x3), (4, iV x4), (5, jV x5), (7, iV x7)] → j_X_laysHistories_156 x1 x2 x3 x4 x5 x7 S K (fun (z4 : Int) (z5 : Int) => j_X_laysHistories_162 x1 x2 x3 z4 z5 S K (fun (zS : St) => j_X_laysHistories_188 x1 x2 zS K (l_X_laysHistories_34 x1 K n34)) (l_X_laysHistories_40 x1 x2 K (fun (zS : St) => j_X_laysHistories_188 x1 x2 zS K (l_X_laysHistories_34 x1 K n34)) n40)) (l_X_laysHistories_71 x1 x2 x3 S K (fun (z4 : Int) (z5 : Int) => j_X_laysHistories_162 x1 x2 x3 z4 z5 S K (fun (zS : St) => j_X_laysHistories_188 x1 x2 zS K (l_X_laysHistories_34 x1 K n34)) (l_X_laysHistories_40 x1 x2 K (fun (zS : St) => j_X_laysHistories_188 x1 x2 zS K (l_X_laysHistories_34 x1 K n34)) n40)) n71) → W p l e R s m args below meth c H locs 0 0 Q (F0 m 156 ls []) := by
                intro x4 x5 x7 H locs ls rx4 rx5 rx7 hI hl h
                unfold j_X_laysHistories_156 at h
                have f9 := h.1; replace h := h.2
                refine nr_iinc (lv' := [(7, iV (x7 + 1)), (0, .ref (ad 129)), (1, iV x1), (2, iV x2), (3, iV x3), (4, iV x4), (5, jV x5)]) hx hb dX0_laysHistories_156 hl (k := 6) rfl (by decide) rfl (fun ls hl => ?_)
                refine lv_goto (tgt := 71) hx hb dX0_laysHistories_159 (by decide) ?_
                exact ih71 x4 x5 (x7 + 1) _ _ _ rx4 rx5 f9 hI (lv_sub hl [1, 2, 3, 4, 5, 6, 0] rfl) h
              have J144 : ∀ (x4 : Int) (x7 : Int) (x8 : Int) (y0 : Int) (y1 : Int) (H : Heap) (locs : List Loc) (ls : Array Slot), InR x4 → InR x7 → InR x8 → InL y0 → InL y1 → sI D dA wX ad A s.heap S H locs → lv_has ls 9 [(0, .ref (ad 129)), (1, iV x1), (2, iV x2), (3, iV x3), (4, iV x4), (7, iV x7), (8, iV x8)] → j_X_laysHistories_144 x1 x2 x3 x4 x7 x8 y0 y1 S K (fun (z4 : Int) (z5 : Int) => j_X_laysHistories_162 x1 x2 x3 z4 z5 S K (fun (zS : St) => j_X_laysHistories_188 x1 x2 zS K (l_X_laysHistories_34 x1 K n34)) (l_X_laysHistories_40 x1 x2 K (fun (zS : St) => j_X_laysHistories_188 x1 x2 zS K (l_X_laysHistories_34 x1 K n34)) n40)) (l_X_laysHistories_71 x1 x2 x3 S K (fun (z4 : Int) (z5 : Int) => j_X_laysHistories_162 x1 x2 x3 z4 z5 S K (fun (zS : St) => j_X_laysHistories_188 x1 x2 zS K (l_X_laysHistories_34 x1 K n34)) (l_X_laysHistories_40 x1 x2 K (fun (zS : St) => j_X_laysHistories_188 x1 x2 zS K (l_X_laysHistories_34 x1 K n34)) n40)) n71) → W p l e R s m args below meth c H locs 0 0 Q (F0 m 144 ls [jV y1, jV y0]) := by
                intro x4 x7 x8 y0 y1 H locs ls rx4 rx7 rx8 ry0 ry1 hI hl h
                unfold j_X_laysHistories_144 at h
                have f10 := h.1; replace h := h.2
                refine nr_ladd hx hb dX0_laysHistories_144 ?_
                refine nr_topj (fun v11 ev11 => ?_)
                have rv11 : InL v11 := by rw [ev11]; exact f10
                replace h := h v11 ev11 rv11
                refine lv_lstore (lv' := [(5, jV v11), (0, .ref (ad 129)), (1, iV x1), (2, iV x2), (3, iV x3), (4, iV x4), (7, iV x7), (8, iV x8)]) hx hb dX0_laysHistories_145 hl (by decide) rfl (fun ls hl => ?_)
                refine lv_iload hx hb dX0_laysHistories_147 (lv_at hl 5 rfl) ?_
                refine lv_iload hx hb dX0_laysHistories_149 (lv_at hl 7 rfl) ?_
                refine s_max hx hb (hl.1.trans hml.symm) hown hts q944 q677 q119 q678 (by have h1 := hR.1; have h2 := hR.2; omega) ⟨Nat.zero_le _, Nat.zero_le _⟩ (Nat.le_of_ble_eq_true rfl) rx4 rx8 dX0_laysHistories_151 ?_
                have f12 : InR (max x4 x8) := nr_mxR rx4 rx8
                refine nr_topi (fun v13 ev13 => ?_)
                have rv13 : InR v13 := by rw [ev13]; exact f12
                replace h := h v13 ev13 rv13
                refine lv_istore (lv' := [(4, iV v13), (5, jV v11), (0, .ref (ad 129)), (1, iV x1), (2, iV x2), (3, iV x3), (7, iV x7), (8, iV x8)]) hx hb dX0_laysHistories_154 hl (by decide) rfl (fun ls hl => ?_)
                exact J156 v13 v11 x7 _ _ _ rv13 rv11 rx7 hI (lv_sub hl [2, 3, 4, 5, 0, 1, 6] rfl) h
              have J114 : ∀ (x4 : Int) (x7 : Int) (x8 : Int) (y0 : Int) (H : Heap) (locs : List Loc) (ls : Array Slot), InR x4 → InR x7 → InR x8 → InL y0 → sI D dA wX ad A s.heap S H locs → lv_has ls 9 [(0, .ref (ad 129)), (1, iV x1), (2, iV x2), (3, iV x3), (4, iV x4), (7, iV x7), (8, iV x8)] → j_X_laysHistories_114 x1 x2 x3 x4 x7 x8 y0 S K (fun (z4 : Int) (z5 : Int) => j_X_laysHistories_162 x1 x2 x3 z4 z5 S K (fun (zS : St) => j_X_laysHistories_188 x1 x2 zS K (l_X_laysHistories_34 x1 K n34)) (l_X_laysHistories_40 x1 x2 K (fun (zS : St) => j_X_laysHistories_188 x1 x2 zS K (l_X_laysHistories_34 x1 K n34)) n40)) (l_X_laysHistories_71 x1 x2 x3 S K (fun (z4 : Int) (z5 : Int) => j_X_laysHistories_162 x1 x2 x3 z4 z5 S K (fun (zS : St) => j_X_laysHistories_188 x1 x2 zS K (l_X_laysHistories_34 x1 K n34)) (l_X_laysHistories_40 x1 x2 K (fun (zS : St) => j_X_laysHistories_188 x1 x2 zS K (l_X_laysHistories_34 x1 K n34)) n40)) n71) → W p l e R s m args below meth c H locs 0 0 Q (F0 m 114 ls [jV y0]) := by
                intro x4 x7 x8 y0 H locs ls rx4 rx7 rx8 ry0 hI hl h
                unfold j_X_laysHistories_114 at h
                refine lv_lstore (lv' := [(5, jV y0), (0, .ref (ad 129)), (1, iV x1), (2, iV x2), (3, iV x3), (4, iV x4), (7, iV x7), (8, iV x8)]) hx hb dX0_laysHistories_114 hl (by decide) rfl (fun ls hl => ?_)
                refine lv_lload hx hb dX0_laysHistories_116 (lv_at hl 0 rfl) ?_
                refine lv_iload hx hb dX0_laysHistories_118 (lv_at hl 7 rfl) ?_
                refine lv_iload hx hb dX0_laysHistories_120 (lv_at hl 5 rfl) ?_
                refine nr_icmp_lt hx hb rx8 rx4 dX0_laysHistories_122 (tgt := 143) (by decide) (fun c14 => ?_) (fun c14 => ?_)
                · replace h := h.1 c14
                  refine nr_lconst (v := 0) hx hb dX0_laysHistories_143 rfl ?_
                  exact J144 x4 x7 x8 y0 0 _ _ _ rx4 rx7 rx8 ry0 (by decide) hI (lv_sub hl [1, 2, 3, 4, 5, 6, 7] rfl) h
                · replace h := h.2 c14
                  refine lv_aload_n hx hb dX0_laysHistories_125 rfl (lv_at hl 1 rfl) ?_
                  refine gXX0_55_129 hF hK hI dX0_laysHistories_126 ?_
                  refine lv_iload_n hx hb dX0_laysHistories_129 rfl (lv_at hl 3 rfl) ?_
                  refine nr_iconst hx hb dX0_laysHistories_130 ?_
                  have f15 := h.1; replace h := h.2
                  refine nr_iadd hx hb dX0_laysHistories_131 ?_
                  have f16 := h.1; replace h := h.2
                  refine s_aald hx hb hK hI 139 (by decide) wX_139 ⟨rfl, rfl⟩ f15 f16 dX0_laysHistories_132 ?_
                  refine lv_iload_n hx hb dX0_laysHistories_133 rfl (lv_at hl 4 rfl) ?_
                  refine nr_iconst hx hb dX0_laysHistories_134 ?_
                  refine lv_iload hx hb dX0_laysHistories_135 (lv_at hl 6 rfl) ?_
                  have f17 := h.1; replace h := h.2
                  have f18 := h.1; replace h := h.2
                  refine nr_ishl hx hb f17 f18 dX0_laysHistories_137 ?_
                  refine nr_ior hx hb dX0_laysHistories_138 ?_
                  have f19 := h.1; replace h := h.2
                  refine s_lald hx hb hK hI (116 + Int.toNat (x2 + 1)) (wX_rk139 f16) (wX_rw139 f16) (iOr_R _ _) f19 dX0_laysHistories_139 (fun f20 => ?_)
                  replace h := h f20
                  refine lv_goto (tgt := 144) hx hb dX0_laysHistories_140 (by decide) ?_
                  exact J144 x4 x7 x8 y0 (aI S (116 + Int.toNat (x2 + 1)) (iOr x3 (1 * 2 ^ (Int.toNat x7)))) _ _ _ rx4 rx7 rx8 ry0 f20 hI (lv_sub hl [1, 2, 3, 4, 5, 6, 7] rfl) h
              unfold l_X_laysHistories_71 at h
              refine lv_iload hx hb dX0_laysHistories_71 (lv_at hl 6 rfl) ?_
              refine lv_iload_n hx hb dX0_laysHistories_73 rfl (lv_at hl 1 rfl) ?_
              refine nr_icmp_ge hx hb rx7 rx1 dX0_laysHistories_74 (tgt := 162) (by decide) (fun c21 => ?_) (fun c21 => ?_)
              · replace h := h.1 c21
                exact J162 x3 x4 x5 S _ _ _ rx3 rx4 rx5 hI (lv_sub hl [0, 1, 2, 3, 4, 5] rfl) h
              · replace h := h.2 c21
                refine lv_aload_n hx hb dX0_laysHistories_77 rfl (lv_at hl 0 rfl) ?_
                refine lv_iload_n hx hb dX0_laysHistories_78 rfl (lv_at hl 2 rfl) ?_
                refine lv_iload_n hx hb dX0_laysHistories_79 rfl (lv_at hl 3 rfl) ?_
                refine lv_iload hx hb dX0_laysHistories_80 (lv_at hl 6 rfl) ?_
                refine cXX0_308 hF hK hI hl.1 hR (by decide) (Nat.le_of_ble_eq_true rfl) ⟨Nat.zero_le _, Nat.zero_le _⟩ rx2 rx3 rx7 h dX0_laysHistories_82 (fun r22 H locs fr22 h hI => ?_)
                replace h := h fr22
                have gr22 : InR r22 := kdP_R (k := 2) (by decide) fr22
                refine nr_if_ne hx hb gr22 dX0_laysHistories_85 (tgt := 91) (by decide) (fun c24 => ?_) (fun c24 => ?_)
                · replace h := h.1 c24
                  refine lv_aload_n hx hb dX0_laysHistories_91 rfl (lv_at hl 0 rfl) ?_
                  refine lv_iload_n hx hb dX0_laysHistories_92 rfl (lv_at hl 2 rfl) ?_
                  refine lv_iload_n hx hb dX0_laysHistories_93 rfl (lv_at hl 3 rfl) ?_
                  refine lv_iload hx hb dX0_laysHistories_94 (lv_at hl 6 rfl) ?_
                  refine cXX0_304 hF hK hI hl.1 hR (by decide) (Nat.le_of_ble_eq_true rfl) ⟨Nat.zero_le _, Nat.zero_le _⟩ rx2 rx3 rx7 h dX0_laysHistories_96 (fun r25 H locs fr25 h hI => ?_)
                  replace h := h fr25
                  refine lv_istore (lv' := [(8, iV r25), (0, .ref (ad 129)), (1, iV x1), (2, iV x2), (3, iV x3), (4, iV x4), (5, jV x5), (7, iV x7)]) hx hb dX0_laysHistories_99 hl (by decide) rfl (fun ls hl => ?_)
                  refine lv_iload hx hb dX0_laysHistories_101 (lv_at hl 0 rfl) ?_
                  refine lv_iload hx hb dX0_laysHistories_103 (lv_at hl 5 rfl) ?_
                  refine nr_icmp_le hx hb fr25 rx4 dX0_laysHistories_105 (tgt := 112) (by decide) (fun c27 => ?_) (fun c27 => ?_)
                  · replace h := h.1 c27
                    refine lv_lload hx hb dX0_laysHistories_112 (lv_at hl 6 rfl) ?_
                    exact J114 x4 x7 r25 x5 _ _ _ rx4 rx7 fr25 rx5 hI (lv_sub hl [1, 2, 3, 4, 5, 7, 0] rfl) h
                  · replace h := h.2 c27
                    refine nr_lconst (v := 0) hx hb dX0_laysHistories_108 rfl ?_
                    refine lv_goto (tgt := 114) hx hb dX0_laysHistories_109 (by decide) ?_
                    exact J114 x4 x7 r25 0 _ _ _ rx4 rx7 fr25 (by decide) hI (lv_sub hl [1, 2, 3, 4, 5, 7, 0] rfl) h
                · replace h := h.2 c24
                  refine lv_goto (tgt := 156) hx hb dX0_laysHistories_88 (by decide) ?_
                  exact J156 x4 x5 x7 _ _ _ rx4 rx5 rx7 hI (lv_sub hl [0, 1, 2, 3, 4, 5, 6] rfl) h
          unfold l_X_laysHistories_40 at h
          refine lv_iload_n hx hb dX0_laysHistories_40 rfl (lv_at hl 3 rfl) ?_
          refine nr_iconst hx hb dX0_laysHistories_41 ?_
          refine lv_iload_n hx hb dX0_laysHistories_42 rfl (lv_at hl 1 rfl) ?_
          have f28 := h.1; replace h := h.2
          have f29 := h.1; replace h := h.2
          refine nr_ishl hx hb f28 f29 dX0_laysHistories_43 ?_
          refine nr_icmp_ge hx hb rx3 f29 dX0_laysHistories_44 (tgt := 188) (by decide) (fun c30 => ?_) (fun c30 => ?_)
          · replace h := h.1 c30
            exact J188 x2 S _ _ _ rx2 hI (lv_sub hl [0, 1, 2] rfl) h
          · replace h := h.2 c30
            refine lv_aload_n hx hb dX0_laysHistories_47 rfl (lv_at hl 0 rfl) ?_
            refine lv_iload_n hx hb dX0_laysHistories_48 rfl (lv_at hl 2 rfl) ?_
            refine lv_iload_n hx hb dX0_laysHistories_49 rfl (lv_at hl 3 rfl) ?_
            refine nr_iconst hx hb dX0_laysHistories_50 ?_
            refine cXX0_304 hF hK hI hl.1 hR (by decide) (Nat.le_of_ble_eq_true rfl) ⟨Nat.zero_le _, Nat.zero_le _⟩ rx2 rx3 (by decide) h dX0_laysHistories_51 (fun r31 H locs fr31 h hI => ?_)
            replace h := h fr31
            refine lv_istore (lv' := [(4, iV r31), (0, .ref (ad 129)), (1, iV x1), (2, iV x2), (3, iV x3)]) hx hb dX0_laysHistories_54 hl (by decide) rfl (fun ls hl => ?_)
            refine lv_aload_n hx hb dX0_laysHistories_56 rfl (lv_at hl 1 rfl) ?_
            refine gXX0_55_129 hF hK hI dX0_laysHistories_57 ?_
            refine lv_iload_n hx hb dX0_laysHistories_60 rfl (lv_at hl 3 rfl) ?_
            refine nr_iconst hx hb dX0_laysHistories_61 ?_
            have f33 := h.1; replace h := h.2
            refine nr_iadd hx hb dX0_laysHistories_62 ?_
            have f34 := h.1; replace h := h.2
            refine s_aald hx hb hK hI 139 (by decide) wX_139 ⟨rfl, rfl⟩ f33 f34 dX0_laysHistories_63 ?_
            refine lv_iload_n hx hb dX0_laysHistories_64 rfl (lv_at hl 4 rfl) ?_
            have f35 := h.1; replace h := h.2
            refine s_lald hx hb hK hI (116 + Int.toNat (x2 + 1)) (wX_rk139 f34) (wX_rw139 f34) rx3 f35 dX0_laysHistories_65 (fun f36 => ?_)
            replace h := h f36
            refine nr_topj (fun v37 ev37 => ?_)
            have rv37 : InL v37 := by rw [ev37]; exact f36
            replace h := h v37 ev37 rv37
            refine lv_lstore (lv' := [(5, jV v37), (4, iV r31), (0, .ref (ad 129)), (1, iV x1), (2, iV x2), (3, iV x3)]) hx hb dX0_laysHistories_66 hl (by decide) rfl (fun ls hl => ?_)
            refine nr_iconst hx hb dX0_laysHistories_68 ?_
            refine lv_istore (lv' := [(7, iV 0), (5, jV v37), (4, iV r31), (0, .ref (ad 129)), (1, iV x1), (2, iV x2), (3, iV x3)]) hx hb dX0_laysHistories_69 hl (by decide) rfl (fun ls hl => ?_)
            obtain ⟨n0, h⟩ := h
            exact L71 x3 S rx3 n0 r31 v37 0 _ _ _ fr31 rv37 (by decide) hI (lv_sub hl [3, 4, 5, 6, 2, 1, 0] rfl) h
      unfold l_X_laysHistories_34 at h
      refine lv_iload_n hx hb dX0_laysHistories_34 rfl (lv_at hl 2 rfl) ?_
      refine nr_if_lt hx hb rx2 dX0_laysHistories_35 (tgt := 194) (by decide) (fun c38 => ?_) (fun c38 => ?_)
      · replace h := h.1 c38
        rw [← hQ]; exact s_vret (K := K) hx hb hr hlocks hI  h dX0_laysHistories_194
      · replace h := h.2 c38
        refine nr_iconst hx hb dX0_laysHistories_38 ?_
        refine lv_istore_n (lv' := [(3, iV 0), (0, .ref (ad 129)), (1, iV x1), (2, iV x2)]) hx hb dX0_laysHistories_39 rfl hl (by decide) rfl (fun ls hl => ?_)
        obtain ⟨n0, h⟩ := h
        exact L40 x2 rx2 n0 0 S _ _ _ (by decide) hI (lv_sub hl [1, 2, 3, 0] rfl) h
  unfold w_X_laysHistories at h
  refine lv_aload_n hx hb dX0_laysHistories_0 rfl (lv_at hl 0 rfl) ?_
  refine gXX0_12_129 hF hK hI dX0_laysHistories_1 ?_
  refine gXX0_71_130 hF hK hI dX0_laysHistories_4 ?_
  refine nr_iconst hx hb dX0_laysHistories_7 ?_
  refine s_iald hx hb hK hI 0 (by decide) wX_0 (by decide) (by decide) dX0_laysHistories_8 (fun f39 => ?_)
  replace h := h f39
  refine nr_topi (fun v40 ev40 => ?_)
  have rv40 : InR v40 := by rw [ev40]; exact f39
  replace h := h v40 ev40 rv40
  refine lv_istore_n (lv' := [(1, iV v40), (0, .ref (ad 129))]) hx hb dX0_laysHistories_9 rfl hl (by decide) rfl (fun ls hl => ?_)
  refine lv_aload_n hx hb dX0_laysHistories_10 rfl (lv_at hl 1 rfl) ?_
  refine gXX0_50_129 hF hK hI dX0_laysHistories_11 ?_
  refine lv_iload_n hx hb dX0_laysHistories_14 rfl (lv_at hl 0 rfl) ?_
  have f41 := h.1; replace h := h.2
  refine s_aald hx hb hK hI 138 (by decide) wX_138 ⟨rfl, rfl⟩ rv40 f41 dX0_laysHistories_15 ?_
  refine nr_iconst hx hb dX0_laysHistories_16 ?_
  refine cXX0_280 hF hK hI hl.1 hR (by decide) (Nat.le_of_ble_eq_true rfl) ⟨Nat.zero_le _, Nat.zero_le _⟩ (k0 := (103 + Int.toNat v40)) (n0 := 4096) (hk0 := (wX_rk138 f41)) (hd0 := (wX_rw138 f41)) (hn0 := (by decide)) (by decide) h dX0_laysHistories_17 (fun S43 H locs h hI => ?_)
  refine lv_aload_n hx hb dX0_laysHistories_20 rfl (lv_at hl 1 rfl) ?_
  refine gXX0_55_129 hF hK hI dX0_laysHistories_21 ?_
  refine lv_iload_n hx hb dX0_laysHistories_24 rfl (lv_at hl 0 rfl) ?_
  have f44 := h.1; replace h := h.2
  refine s_aald hx hb hK hI 139 (by decide) wX_139 ⟨rfl, rfl⟩ rv40 f44 dX0_laysHistories_25 ?_
  refine nr_lconst (v := 1) hx hb dX0_laysHistories_26 rfl ?_
  refine cXX0_301 hF hK hI hl.1 hR (by decide) (Nat.le_of_ble_eq_true rfl) ⟨Nat.zero_le _, Nat.zero_le _⟩ (k0 := (116 + Int.toNat v40)) (n0 := 4096) (hk0 := (wX_rk139 f44)) (hd0 := (wX_rw139 f44)) (hn0 := (by decide)) (by decide) h dX0_laysHistories_27 (fun S46 H locs h hI => ?_)
  refine lv_iload_n hx hb dX0_laysHistories_30 rfl (lv_at hl 0 rfl) ?_
  refine nr_iconst hx hb dX0_laysHistories_31 ?_
  have f47 := h.1; replace h := h.2
  refine nr_isub hx hb dX0_laysHistories_32 ?_
  refine nr_topi (fun v48 ev48 => ?_)
  have rv48 : InR v48 := by rw [ev48]; exact f47
  replace h := h v48 ev48 rv48
  refine lv_istore_n (lv' := [(2, iV v48), (1, iV v40), (0, .ref (ad 129))]) hx hb dX0_laysHistories_33 rfl hl (by decide) rfl (fun ls hl => ?_)
  obtain ⟨n0, h⟩ := h
  exact L34 v40 rv40 n0 v48 S46 _ _ _ rv48 hI (lv_sub hl [2, 1, 0] rfl) h
theorem cXX0_311 {p : Program} {l : Launch} {e : Env} {R : Room} {s : State} {m : MethodId} {args : Array Value} {below : List Frame} {meth : Method} {c : Code} {H : Heap} {locs : List Loc} {Q : State → Prop} {cc : ByteArray} {nL pc : Nat} {ls : Array Slot} {rest : List Value} {cells slots : Nat} {D : va_G} {dA : Nat → ClassId} {ad : Nat → Nat} {A : Nat → Prop} {H0 : Heap} {S : St} {dk : Nat} (hF : CallFix p m c cc nL s args lw_all RX0) (hK : gK D dA s) (hI : sI D dA wX ad A H0 S H locs) (hls : ls.size = nL) (hR : R.frames = dk + 1 ∧ R.locals = 64 * dk + 64) (hd : 4 + 1 ≤ dk) (hW : (rest.map fun v => v.category).sum ≤ 8) (hf : cells ≤ R.cells ∧ slots ≤ R.slots) {K : St → Prop} (h : w_X_laysHistories S K) (hdg : decode cc pc = .ok (.invokevirtual 311, 3)) (kk : ∀ (S1 : St) (H1 : Heap) (locs1 : List Loc), K S1 → sI D dA wX ad A H0 S1 H1 locs1 → W p l e R s m args below meth c H1 locs1 cells slots Q (F0 m (pc + 3) ls (rest))) : W p l e R s m args below meth c H locs cells slots Q (F0 m (pc) ls (.ref (ad 129) :: rest)) := s_callVv (As := []) (rest := rest) (K := K) hF (t_X_laysHistories l D dA ad S H.size K h) (s_recv hK hI 129 (by decide) wX_129 rfl) (cwV 0 hF.2.2.2.2 (lw_V q1082 q1084 qs42 q106 q1085) rfl rfl rfl (by decide +kernel) ⟨by have h1 := hR.1; have h2 : (rmD 4 0 0).frames = 4 + 1 := rfl; omega, by have h1 := hR.2; have h2 : (rmD 4 0 0).locals = 64 * 4 + 64 := rfl; omega⟩) hK hI rfl hls rfl hW hdg hf kk
set_option maxHeartbeats 4000000 in
theorem t_X_best (l : Launch) (D : va_G) (dA : Nat → ClassId) (ad : Nat → Nat) (S : St) (sz : Nat) (x1 : Int) (K : Int → St → Prop) (rx1 : InR x1) (h : w_X_best x1 S K) : Met l yX0_best (ws_ yX0_best cX0_best 3 (Option.some Jvm.ClassFile.FieldType.int)) (rmD 5 0 0) (va_Pc [.ref (ad 129), iV x1] (sPre D dA wX ad S sz)) (va_Qi (fun r S' => K r.toInt S') (sPost D dA wX ad (wA wX ad S sz)) (wA wX ad S sz)) 0 0 (wA wX ad S sz) := by
  refine Met.ofW (cc := cX0_best) (maxL := 3) (ret := (Option.some Jvm.ClassFile.FieldType.int)) (by decide) rfl ?_
  intro p e s m args below meth c s₁ B hml hv
  obtain ⟨rfl, hsz, hK, hC⟩ := hv
  have hx := B.exec
  have hb := B.bytes
  have hr := B.returns
  have hlocks := B.notSynchronized
  have hts := atoms_spec (ws := (ws_ yX0_best cX0_best 3 (Option.some Jvm.ClassFile.FieldType.int))) B.pre
  have hts : ∀ w ∈ lw_all, w.before _ s = true := fun w h => hts w (List.mem_cons_of_mem _ h)
  have hown : s.vm.findClass RX0 = some m.cls := findClass_of_methodNamed B.named
  clear B
  subst hsz
  have hI : sI D dA wX ad (wA wX ad S s.heap.size) s.heap S s.heap [] := hC.start
  clear hC
  generalize wA wX ad S s.heap.size = A at hI ⊢
  have hl := lv_entry ([.ref (ad 129), iV x1] : List Value) (n := 3) (Nat.le_of_ble_eq_true rfl)
  rw [lg_entry_eq]
  generalize (lg_sl ([.ref (ad 129), iV x1] : List Value) ++ List.replicate (3 - (lg_sl ([.ref (ad 129), iV x1] : List Value)).length) Slot.unset).toArray = ls at hl ⊢
  have hl : lv_has ls 3 [(0, .ref (ad 129)), (1, iV x1)] := hl
  have hF : CallFix p m c cX0_best 3 s _ lw_all RX0 := ⟨hx, hb, hml, hown, hts⟩
  have hR : (headSpec (ws_ yX0_best cX0_best 3 (Option.some Jvm.ClassFile.FieldType.int)) (rmD 5 0 0)).room.frames = 5 + 1 ∧ (headSpec (ws_ yX0_best cX0_best 3 (Option.some Jvm.ClassFile.FieldType.int)) (rmD 5 0 0)).room.locals = 64 * 5 + 64 := ⟨rfl, rfl⟩
  generalize (headSpec (ws_ yX0_best cX0_best 3 (Option.some Jvm.ClassFile.FieldType.int)) (rmD 5 0 0)).room = R at hR ⊢
  generalize ([.ref (ad 129), iV x1] : List Value).toArray = args at hts hF ⊢
  generalize hQ : MQ below _ _ _ _ _ _ = Q
  unfold w_X_best at h
  refine lv_iload_n hx hb dX0_best_0 rfl (lv_at hl 1 rfl) ?_
  refine nr_iconst hx hb dX0_best_1 ?_
  refine nr_iconst hx hb dX0_best_2 ?_
  refine cXX0_74 hF hK hI hl.1 hR (by decide) (Nat.le_of_ble_eq_true rfl) ⟨Nat.zero_le _, Nat.zero_le _⟩ rx1 (by decide) (by decide) h dX0_best_3 (fun r1 H locs fr1 h hI => ?_)
  replace h := h fr1
  have gr1 : InR r1 := kdP_R (k := 2) (by decide) fr1
  refine nr_if_ne hx hb gr1 dX0_best_6 (tgt := 11) (by decide) (fun c3 => ?_) (fun c3 => ?_)
  · replace h := h.1 c3
    refine lv_aload_n hx hb dX0_best_11 rfl (lv_at hl 0 rfl) ?_
    refine cXX0_311 hF hK hI hl.1 hR (by decide) (Nat.le_of_ble_eq_true rfl) ⟨Nat.zero_le _, Nat.zero_le _⟩ h dX0_best_12 (fun S5 H locs h hI => ?_)
    refine lv_aload_n hx hb dX0_best_15 rfl (lv_at hl 0 rfl) ?_
    refine gXX0_50_129 hF hK hI dX0_best_16 ?_
    refine nr_iconst hx hb dX0_best_19 ?_
    refine s_aald hx hb hK hI 138 (by decide) wX_138 ⟨rfl, rfl⟩ (by decide) (by decide) dX0_best_20 ?_
    refine nr_iconst hx hb dX0_best_21 ?_
    refine s_iald hx hb hK hI 103 (by decide) wX_q103 (by decide) (by decide) dX0_best_22 (fun f6 => ?_)
    replace h := h f6
    refine nr_sipush hx hb dX0_best_23 (by decide) ?_
    have f7 := h.1; replace h := h.2
    refine nr_iadd hx hb dX0_best_26 ?_
    refine nr_sipush hx hb dX0_best_27 (by decide) ?_
    have f8 := h.1; replace h := h.2
    refine nr_idiv hx hb f7 (by decide) (by decide) dX0_best_30 ?_
    refine nr_topi (fun v9 ev9 => ?_)
    have rv9 : InR v9 := by rw [ev9]; exact f8
    replace h := h v9 ev9 rv9
    refine lv_istore_n (lv' := [(2, iV v9), (0, .ref (ad 129)), (1, iV x1)]) hx hb dX0_best_31 rfl hl (by decide) rfl (fun ls hl => ?_)
    refine lv_iload_n hx hb dX0_best_32 rfl (lv_at hl 2 rfl) ?_
    refine nr_if_ne hx hb rx1 dX0_best_33 (tgt := 50) (by decide) (fun c10 => ?_) (fun c10 => ?_)
    · replace h := h.1 c10
      refine nr_sipush hx hb dX0_best_50 (by decide) ?_
      refine lv_iload_n hx hb dX0_best_53 rfl (lv_at hl 0 rfl) ?_
      have f11 := h.1; replace h := h.2
      refine nr_imul hx hb dX0_best_54 ?_
      refine lv_aload_n hx hb dX0_best_55 rfl (lv_at hl 1 rfl) ?_
      refine gXX0_50_129 hF hK hI dX0_best_56 ?_
      refine nr_iconst hx hb dX0_best_59 ?_
      refine s_aald hx hb hK hI 138 (by decide) wX_138 ⟨rfl, rfl⟩ (by decide) (by decide) dX0_best_60 ?_
      refine nr_iconst hx hb dX0_best_61 ?_
      refine s_iald hx hb hK hI 103 (by decide) wX_q103 (by decide) (by decide) dX0_best_62 (fun f12 => ?_)
      have f13 := h.1; replace h := h.2
      refine nr_isub hx hb dX0_best_63 ?_
      rw [← hQ]; exact s_iret (K := K) hx hb hr hlocks hI f13 h dX0_best_64
    · replace h := h.2 c10
      refine lv_aload_n hx hb dX0_best_36 rfl (lv_at hl 1 rfl) ?_
      refine gXX0_12_129 hF hK hI dX0_best_37 ?_
      refine gXX0_71_130 hF hK hI dX0_best_40 ?_
      refine nr_iconst hx hb dX0_best_43 ?_
      refine s_iald hx hb hK hI 0 (by decide) wX_0 (by decide) (by decide) dX0_best_44 (fun f14 => ?_)
      replace h := h f14
      refine lv_iload_n hx hb dX0_best_45 rfl (lv_at hl 0 rfl) ?_
      have f15 := h.1; replace h := h.2
      refine nr_isub hx hb dX0_best_46 ?_
      refine lv_goto (tgt := 64) hx hb dX0_best_47 (by decide) ?_
      rw [← hQ]; exact s_iret (K := K) hx hb hr hlocks hI f15 h dX0_best_64
  · replace h := h.2 c3
    refine nr_iconst hx hb dX0_best_9 ?_
    rw [← hQ]; exact s_iret (K := K) hx hb hr hlocks hI (by decide) h dX0_best_10
set_option maxHeartbeats 4000000 in
theorem t_X_histories (l : Launch) (D : va_G) (dA : Nat → ClassId) (ad : Nat → Nat) (S : St) (sz : Nat) (K : Int → St → Prop) (h : w_X_histories S K) : Met l yX0_histories (ws_ yX0_histories cX0_histories 1 (Option.some Jvm.ClassFile.FieldType.long)) (rmD 5 0 0) (va_Pc [.ref (ad 129)] (sPre D dA wX ad S sz)) (va_Ql (fun r S' => K r.toInt S') (sPost D dA wX ad (wA wX ad S sz)) (wA wX ad S sz)) 0 0 (wA wX ad S sz) := by
  refine Met.ofW (cc := cX0_histories) (maxL := 1) (ret := (Option.some Jvm.ClassFile.FieldType.long)) (by decide) rfl ?_
  intro p e s m args below meth c s₁ B hml hv
  obtain ⟨rfl, hsz, hK, hC⟩ := hv
  have hx := B.exec
  have hb := B.bytes
  have hr := B.returns
  have hlocks := B.notSynchronized
  have hts := atoms_spec (ws := (ws_ yX0_histories cX0_histories 1 (Option.some Jvm.ClassFile.FieldType.long))) B.pre
  have hts : ∀ w ∈ lw_all, w.before _ s = true := fun w h => hts w (List.mem_cons_of_mem _ h)
  have hown : s.vm.findClass RX0 = some m.cls := findClass_of_methodNamed B.named
  clear B
  subst hsz
  have hI : sI D dA wX ad (wA wX ad S s.heap.size) s.heap S s.heap [] := hC.start
  clear hC
  generalize wA wX ad S s.heap.size = A at hI ⊢
  have hl := lv_entry ([.ref (ad 129)] : List Value) (n := 1) (Nat.le_of_ble_eq_true rfl)
  rw [lg_entry_eq]
  generalize (lg_sl ([.ref (ad 129)] : List Value) ++ List.replicate (1 - (lg_sl ([.ref (ad 129)] : List Value)).length) Slot.unset).toArray = ls at hl ⊢
  have hl : lv_has ls 1 [(0, .ref (ad 129))] := hl
  have hF : CallFix p m c cX0_histories 1 s _ lw_all RX0 := ⟨hx, hb, hml, hown, hts⟩
  have hR : (headSpec (ws_ yX0_histories cX0_histories 1 (Option.some Jvm.ClassFile.FieldType.long)) (rmD 5 0 0)).room.frames = 5 + 1 ∧ (headSpec (ws_ yX0_histories cX0_histories 1 (Option.some Jvm.ClassFile.FieldType.long)) (rmD 5 0 0)).room.locals = 64 * 5 + 64 := ⟨rfl, rfl⟩
  generalize (headSpec (ws_ yX0_histories cX0_histories 1 (Option.some Jvm.ClassFile.FieldType.long)) (rmD 5 0 0)).room = R at hR ⊢
  generalize ([.ref (ad 129)] : List Value).toArray = args at hts hF ⊢
  generalize hQ : MQ below _ _ _ _ _ _ = Q
  unfold w_X_histories at h
  refine lv_aload_n hx hb dX0_histories_0 rfl (lv_at hl 0 rfl) ?_
  refine cXX0_311 hF hK hI hl.1 hR (by decide) (Nat.le_of_ble_eq_true rfl) ⟨Nat.zero_le _, Nat.zero_le _⟩ h dX0_histories_1 (fun S2 H locs h hI => ?_)
  refine lv_aload_n hx hb dX0_histories_4 rfl (lv_at hl 0 rfl) ?_
  refine gXX0_55_129 hF hK hI dX0_histories_5 ?_
  refine nr_iconst hx hb dX0_histories_8 ?_
  refine s_aald hx hb hK hI 139 (by decide) wX_139 ⟨rfl, rfl⟩ (by decide) (by decide) dX0_histories_9 ?_
  refine nr_iconst hx hb dX0_histories_10 ?_
  refine s_lald hx hb hK hI 116 (by decide) wX_q116 (by decide) (by decide) dX0_histories_11 (fun f3 => ?_)
  replace h := h f3
  rw [← hQ]; exact s_lret (K := K) hx hb hr hlocks hI f3 h dX0_histories_12
set_option maxHeartbeats 4000000 in
theorem t_X_led (l : Launch) (D : va_G) (dA : Nat → ClassId) (ad : Nat → Nat) (S : St) (sz : Nat) (x1 : Int) (K : Int → St → Prop) (rx1 : InR x1) (h : w_X_led x1 S K) : Met l yX0_led (ws_ yX0_led cX0_led 5 (Option.some Jvm.ClassFile.FieldType.int)) (rmD 5 0 0) (va_Pc [.ref (ad 129), iV x1] (sPre D dA wX ad S sz)) (va_Qi (fun r S' => K r.toInt S') (sPost D dA wX ad (wA wX ad S sz)) (wA wX ad S sz)) 0 0 (wA wX ad S sz) := by
  refine Met.ofW (cc := cX0_led) (maxL := 5) (ret := (Option.some Jvm.ClassFile.FieldType.int)) (by decide) rfl ?_
  intro p e s m args below meth c s₁ B hml hv
  obtain ⟨rfl, hsz, hK, hC⟩ := hv
  have hx := B.exec
  have hb := B.bytes
  have hr := B.returns
  have hlocks := B.notSynchronized
  have hts := atoms_spec (ws := (ws_ yX0_led cX0_led 5 (Option.some Jvm.ClassFile.FieldType.int))) B.pre
  have hts : ∀ w ∈ lw_all, w.before _ s = true := fun w h => hts w (List.mem_cons_of_mem _ h)
  have hown : s.vm.findClass RX0 = some m.cls := findClass_of_methodNamed B.named
  clear B
  subst hsz
  have hI : sI D dA wX ad (wA wX ad S s.heap.size) s.heap S s.heap [] := hC.start
  clear hC
  generalize wA wX ad S s.heap.size = A at hI ⊢
  have hl := lv_entry ([.ref (ad 129), iV x1] : List Value) (n := 5) (Nat.le_of_ble_eq_true rfl)
  rw [lg_entry_eq]
  generalize (lg_sl ([.ref (ad 129), iV x1] : List Value) ++ List.replicate (5 - (lg_sl ([.ref (ad 129), iV x1] : List Value)).length) Slot.unset).toArray = ls at hl ⊢
  have hl : lv_has ls 5 [(0, .ref (ad 129)), (1, iV x1)] := hl
  have hF : CallFix p m c cX0_led 5 s _ lw_all RX0 := ⟨hx, hb, hml, hown, hts⟩
  have hR : (headSpec (ws_ yX0_led cX0_led 5 (Option.some Jvm.ClassFile.FieldType.int)) (rmD 5 0 0)).room.frames = 5 + 1 ∧ (headSpec (ws_ yX0_led cX0_led 5 (Option.some Jvm.ClassFile.FieldType.int)) (rmD 5 0 0)).room.locals = 64 * 5 + 64 := ⟨rfl, rfl⟩
  generalize (headSpec (ws_ yX0_led cX0_led 5 (Option.some Jvm.ClassFile.FieldType.int)) (rmD 5 0 0)).room = R at hR ⊢
  generalize ([.ref (ad 129), iV x1] : List Value).toArray = args at hts hF ⊢
  generalize hQ : MQ below _ _ _ _ _ _ = Q
  have L22 : ∀ (x1 : Int) (S : St), InR x1 → ∀ (n22 : Nat) (x2 : Int) (x3 : Int) (x4 : Int) (H : Heap) (locs : List Loc) (ls : Array Slot), InR x2 → InR x3 → InR x4 → sI D dA wX ad A s.heap S H locs → lv_has ls 5 [(0, .ref (ad 129)), (1, iV x1), (2, iV x2), (3, iV x3), (4, iV x4)] → l_X_led_22 x1 S K n22 x2 x3 x4 → W p l e R s m args below meth c H locs 0 0 Q (F0 m 22 ls []) := by
    intro x1 S rx1 n22
    induction n22 with
    | zero => intro x2 x3 x4 H locs ls rx2 rx3 rx4 hI hl h; exact False.elim h
    | succ n22 ih22 =>
      intro x2 x3 x4 H locs ls rx2 rx3 rx4 hI hl h
      have J80 : ∀ (x3 : Int) (x4 : Int) (y0 : Int) (y1 : Int) (H : Heap) (locs : List Loc) (ls : Array Slot), InR x3 → InR x4 → InR y0 → InR y1 → sI D dA wX ad A s.heap S H locs → lv_has ls 5 [(0, .ref (ad 129)), (1, iV x1), (3, iV x3), (4, iV x4)] → j_X_led_80 x1 x3 x4 y0 y1 S K (l_X_led_22 x1 S K n22) → W p l e R s m args below meth c H locs 0 0 Q (F0 m 80 ls [iV y1, iV y0]) := by
        intro x3 x4 y0 y1 H locs ls rx3 rx4 ry0 ry1 hI hl h
        unfold j_X_led_80 at h
        refine nr_ior hx hb dX0_led_80 ?_
        refine nr_topi (fun v1 ev1 => ?_)
        have rv1 : InR v1 := by rw [ev1]; exact (iOr_R _ _)
        replace h := h v1 ev1 rv1
        refine lv_istore_n (lv' := [(2, iV v1), (0, .ref (ad 129)), (1, iV x1), (3, iV x3), (4, iV x4)]) hx hb dX0_led_81 rfl hl (by decide) rfl (fun ls hl => ?_)
        have f2 := h.1; replace h := h.2
        refine nr_iinc (lv' := [(4, iV (x4 + 1)), (2, iV v1), (0, .ref (ad 129)), (1, iV x1), (3, iV x3)]) hx hb dX0_led_82 hl (k := 4) rfl (by decide) rfl (fun ls hl => ?_)
        refine lv_goto (tgt := 22) hx hb dX0_led_85 (by decide) ?_
        exact ih22 v1 x3 (x4 + 1) _ _ _ rv1 rx3 f2 hI (lv_sub hl [2, 3, 1, 4, 0] rfl) h
      have J67 : ∀ (x2 : Int) (x3 : Int) (x4 : Int) (H : Heap) (locs : List Loc) (ls : Array Slot), InR x2 → InR x3 → InR x4 → sI D dA wX ad A s.heap S H locs → lv_has ls 5 [(0, .ref (ad 129)), (1, iV x1), (2, iV x2), (3, iV x3), (4, iV x4)] → j_X_led_67 x1 x2 x3 x4 S K (l_X_led_22 x1 S K n22) → W p l e R s m args below meth c H locs 0 0 Q (F0 m 67 ls []) := by
        intro x2 x3 x4 H locs ls rx2 rx3 rx4 hI hl h
        unfold j_X_led_67 at h
        refine lv_iload_n hx hb dX0_led_67 rfl (lv_at hl 2 rfl) ?_
        refine lv_iload_n hx hb dX0_led_68 rfl (lv_at hl 3 rfl) ?_
        refine nr_iconst hx hb dX0_led_69 ?_
        refine nr_icmp_ne hx hb rx3 (by decide) dX0_led_70 (tgt := 77) (by decide) (fun c3 => ?_) (fun c3 => ?_)
        · replace h := h.1 c3
          refine nr_iconst hx hb dX0_led_77 ?_
          refine lv_iload_n hx hb dX0_led_78 rfl (lv_at hl 3 rfl) ?_
          have f4 := h.1; replace h := h.2
          have f5 := h.1; replace h := h.2
          refine nr_ishl hx hb f4 f5 dX0_led_79 ?_
          exact J80 x3 x4 x2 (1 * 2 ^ (Int.toNat x3)) _ _ _ rx3 rx4 rx2 f5 hI (lv_sub hl [0, 1, 3, 4] rfl) h
        · replace h := h.2 c3
          refine nr_iconst hx hb dX0_led_73 ?_
          refine lv_goto (tgt := 80) hx hb dX0_led_74 (by decide) ?_
          exact J80 x3 x4 x2 0 _ _ _ rx3 rx4 rx2 (by decide) hI (lv_sub hl [0, 1, 3, 4] rfl) h
      have L30 : ∀ (x2 : Int) (x4 : Int), InR x2 → InR x4 → ∀ (n30 : Nat) (x3 : Int) (H : Heap) (locs : List Loc) (ls : Array Slot), InR x3 → sI D dA wX ad A s.heap S H locs → lv_has ls 5 [(0, .ref (ad 129)), (1, iV x1), (2, iV x2), (3, iV x3), (4, iV x4)] → l_X_led_30 x1 x2 x4 S K (fun (z3 : Int) => j_X_led_67 x1 x2 z3 x4 S K (l_X_led_22 x1 S K n22)) n30 x3 → W p l e R s m args below meth c H locs 0 0 Q (F0 m 30 ls []) := by
        intro x2 x4 rx2 rx4 n30
        induction n30 with
        | zero => intro x3 H locs ls rx3 hI hl h; exact False.elim h
        | succ n30 ih30 =>
          intro x3 H locs ls rx3 hI hl h
          have J61 : ∀ (x3 : Int) (H : Heap) (locs : List Loc) (ls : Array Slot), InR x3 → sI D dA wX ad A s.heap S H locs → lv_has ls 5 [(0, .ref (ad 129)), (1, iV x1), (2, iV x2), (3, iV x3), (4, iV x4)] → j_X_led_61 x1 x2 x3 x4 S K (fun (z3 : Int) => j_X_led_67 x1 x2 z3 x4 S K (l_X_led_22 x1 S K n22)) (l_X_led_30 x1 x2 x4 S K (fun (z3 : Int) => j_X_led_67 x1 x2 z3 x4 S K (l_X_led_22 x1 S K n22)) n30) → W p l e R s m args below meth c H locs 0 0 Q (F0 m 61 ls []) := by
            intro x3 H locs ls rx3 hI hl h
            unfold j_X_led_61 at h
            have f6 := h.1; replace h := h.2
            refine nr_iinc (lv' := [(3, iV (x3 + 1)), (0, .ref (ad 129)), (1, iV x1), (2, iV x2), (4, iV x4)]) hx hb dX0_led_61 hl (k := 3) rfl (by decide) rfl (fun ls hl => ?_)
            refine lv_goto (tgt := 30) hx hb dX0_led_64 (by decide) ?_
            exact ih30 (x3 + 1) _ _ _ f6 hI (lv_sub hl [1, 2, 3, 0, 4] rfl) h
          unfold l_X_led_30 at h
          refine lv_aload_n hx hb dX0_led_30 rfl (lv_at hl 0 rfl) ?_
          refine lv_iload hx hb dX0_led_31 (lv_at hl 4 rfl) ?_
          refine lv_iload_n hx hb dX0_led_33 rfl (lv_at hl 2 rfl) ?_
          refine lv_iload_n hx hb dX0_led_34 rfl (lv_at hl 3 rfl) ?_
          refine cXX0_308 hF hK hI hl.1 hR (by decide) (Nat.le_of_ble_eq_true rfl) ⟨Nat.zero_le _, Nat.zero_le _⟩ rx4 rx2 rx3 h dX0_led_35 (fun r7 H locs fr7 h hI => ?_)
          replace h := h fr7
          have gr7 : InR r7 := kdP_R (k := 2) (by decide) fr7
          refine nr_if_eq hx hb gr7 dX0_led_38 (tgt := 61) (by decide) (fun c9 => ?_) (fun c9 => ?_)
          · replace h := h.1 c9
            exact J61 x3 _ _ _ rx3 hI (lv_sub hl [0, 1, 2, 3, 4] rfl) h
          · replace h := h.2 c9
            refine lv_aload_n hx hb dX0_led_41 rfl (lv_at hl 0 rfl) ?_
            refine lv_iload hx hb dX0_led_42 (lv_at hl 4 rfl) ?_
            refine lv_iload_n hx hb dX0_led_44 rfl (lv_at hl 2 rfl) ?_
            refine lv_iload_n hx hb dX0_led_45 rfl (lv_at hl 3 rfl) ?_
            refine cXX0_304 hF hK hI hl.1 hR (by decide) (Nat.le_of_ble_eq_true rfl) ⟨Nat.zero_le _, Nat.zero_le _⟩ rx4 rx2 rx3 h dX0_led_46 (fun r10 H locs fr10 h hI => ?_)
            replace h := h fr10
            refine lv_aload_n hx hb dX0_led_49 rfl (lv_at hl 0 rfl) ?_
            refine gXX0_50_129 hF hK hI dX0_led_50 ?_
            refine lv_iload hx hb dX0_led_53 (lv_at hl 4 rfl) ?_
            have f12 := h.1; replace h := h.2
            refine s_aald hx hb hK hI 138 (by decide) wX_138 ⟨rfl, rfl⟩ rx4 f12 dX0_led_55 ?_
            refine lv_iload_n hx hb dX0_led_56 rfl (lv_at hl 2 rfl) ?_
            have f13 := h.1; replace h := h.2
            refine s_iald hx hb hK hI (103 + Int.toNat x4) (wX_rk138 f12) (wX_rw138 f12) rx2 f13 dX0_led_57 (fun f14 => ?_)
            replace h := h f14
            refine nr_icmp_eq hx hb fr10 f14 dX0_led_58 (tgt := 67) (by decide) (fun c15 => ?_) (fun c15 => ?_)
            · replace h := h.1 c15
              exact J67 x2 x3 x4 _ _ _ rx2 rx3 rx4 hI (lv_sub hl [0, 1, 2, 3, 4] rfl) h
            · replace h := h.2 c15
              exact J61 x3 _ _ _ rx3 hI (lv_sub hl [0, 1, 2, 3, 4] rfl) h
      unfold l_X_led_22 at h
      refine lv_iload hx hb dX0_led_22 (lv_at hl 4 rfl) ?_
      refine lv_iload_n hx hb dX0_led_24 rfl (lv_at hl 1 rfl) ?_
      refine nr_icmp_gt hx hb rx4 rx1 dX0_led_25 (tgt := 88) (by decide) (fun c16 => ?_) (fun c16 => ?_)
      · replace h := h.1 c16
        refine lv_iload_n hx hb dX0_led_88 rfl (lv_at hl 3 rfl) ?_
        rw [← hQ]; exact s_iret (K := K) hx hb hr hlocks hI rx3 h dX0_led_89
      · replace h := h.2 c16
        refine nr_iconst hx hb dX0_led_28 ?_
        refine lv_istore_n (lv' := [(3, iV (-1)), (0, .ref (ad 129)), (1, iV x1), (2, iV x2), (4, iV x4)]) hx hb dX0_led_29 rfl hl (by decide) rfl (fun ls hl => ?_)
        obtain ⟨n0, h⟩ := h
        exact L30 x2 x4 rx2 rx4 n0 (-1) _ _ _ (by decide) hI (lv_sub hl [1, 2, 3, 0, 4] rfl) h
  unfold w_X_led at h
  refine lv_aload_n hx hb dX0_led_0 rfl (lv_at hl 0 rfl) ?_
  refine lv_iload_n hx hb dX0_led_1 rfl (lv_at hl 1 rfl) ?_
  refine cXX0_295 hF hK hI hl.1 hR (by decide) (Nat.le_of_ble_eq_true rfl) ⟨Nat.zero_le _, Nat.zero_le _⟩ rx1 h dX0_led_2 (fun r17 H locs fr17 h hI => ?_)
  replace h := h fr17
  have gr17 : InR r17 := kdP_R (k := 2) (by decide) fr17
  refine nr_if_ne hx hb gr17 dX0_led_5 (tgt := 11) (by decide) (fun c19 => ?_) (fun c19 => ?_)
  · replace h := h.1 c19
    refine lv_aload_n hx hb dX0_led_11 rfl (lv_at hl 0 rfl) ?_
    refine cXX0_311 hF hK hI hl.1 hR (by decide) (Nat.le_of_ble_eq_true rfl) ⟨Nat.zero_le _, Nat.zero_le _⟩ h dX0_led_12 (fun S21 H locs h hI => ?_)
    refine nr_iconst hx hb dX0_led_15 ?_
    refine lv_istore_n (lv' := [(2, iV 0), (0, .ref (ad 129)), (1, iV x1)]) hx hb dX0_led_16 rfl hl (by decide) rfl (fun ls hl => ?_)
    refine nr_iconst hx hb dX0_led_17 ?_
    refine lv_istore_n (lv' := [(3, iV (-1)), (2, iV 0), (0, .ref (ad 129)), (1, iV x1)]) hx hb dX0_led_18 rfl hl (by decide) rfl (fun ls hl => ?_)
    refine nr_iconst hx hb dX0_led_19 ?_
    refine lv_istore (lv' := [(4, iV 0), (3, iV (-1)), (2, iV 0), (0, .ref (ad 129)), (1, iV x1)]) hx hb dX0_led_20 hl (by decide) rfl (fun ls hl => ?_)
    obtain ⟨n0, h⟩ := h
    exact L22 x1 S21 rx1 n0 0 (-1) 0 _ _ _ (by decide) (by decide) (by decide) hI (lv_sub hl [3, 4, 2, 1, 0] rfl) h
  · replace h := h.2 c19
    refine nr_bipush hx hb dX0_led_8 (by decide) ?_
    rw [← hQ]; exact s_iret (K := K) hx hb hr hlocks hI (by decide) h dX0_led_10
theorem cqXX0_314_r {p : Program} {l : Launch} {e : Env} {R : Room} {s : State} {m : MethodId} {args : Array Value} {below : List Frame} {meth : Method} {c : Code} {H : Heap} {locs : List Loc} {Q : State → Prop} {cc : ByteArray} {nL pc : Nat} {ls : Array Slot} {rest : List Value} {cells slots : Nat} {A : Nat → Prop} {H0 : Heap} {dk : Nat} {d : Nat} {W0 : Int → Int → (Int → Prop) → Prop} (ihd : ∀ (x0 : Int) (x2 : Int) (K : Int → Prop), InL x0 → InL x2 → W0 x0 x2 K → Met l yX0_common (ws_ yX0_common cX0_common 4 (Option.some Jvm.ClassFile.FieldType.long)) (rmD (0 + d) 0 0) (va_Pc [jV x0, jV x2] (fun _ => True)) (va_Ql (fun r (_ : Unit) => K r.toInt) (fun _ _ => True) (fun _ => False)) 0 0 (fun _ => False)) (hF : CallFix p m c cc nL s args lw_all RX0) (hI : va_S A H0 H locs) (hls : ls.size = nL) (hR : R.frames = dk + 1 ∧ R.locals = 64 * dk + 64) (hd : 0 + d + 1 ≤ dk) (hW : (rest.map fun v => v.category).sum ≤ 8) (hf : cells ≤ R.cells ∧ slots ≤ R.slots) {x0 : Int} {x2 : Int} {K : Int → Prop} (r0 : InL x0) (r2 : InL x2) (h : W0 x0 x2 K) (hdg : decode cc pc = .ok (.invokestatic 314, 3)) (kk : ∀ (r : Int) (H1 : Heap) (locs1 : List Loc), InL r → K r → va_S A H0 H1 locs1 → W p l e R s m args below meth c H1 locs1 cells slots Q (F0 m (pc + 3) ls (jV r :: rest))) : W p l e R s m args below meth c H locs cells slots Q (F0 m (pc) ls (jV x2 :: jV x0 :: rest)) := p_callPl (As := [jV x0, jV x2]) (rest := rest) hF (ihd x0 x2 K r0 r2 h) (va_cwS 2 hF.2.2.2.2 (lw_S q1114 q1115 q106 q1116) rfl rfl rfl (by decide +kernel) ⟨by have h1 := hR.1; have h2 : (rmD (0 + d) 0 0).frames = (0 + d) + 1 := rfl; omega, by have h1 := hR.2; have h2 : (rmD (0 + d) 0 0).locals = 64 * (0 + d) + 64 := rfl; omega⟩) hI rfl hls rfl hW hdg hf kk
set_option maxHeartbeats 4000000 in
theorem t_X_common (l : Launch) : ∀ (d : Nat) (x0 : Int) (x2 : Int) (K : Int → Prop) (rx0 : InL x0) (rx2 : InL x2) (h : w_X_common d x0 x2 K), Met l yX0_common (ws_ yX0_common cX0_common 4 (Option.some Jvm.ClassFile.FieldType.long)) (rmD (0 + d) 0 0) (va_Pc [jV x0, jV x2] (fun _ => True)) (va_Ql (fun r (_ : Unit) => K r.toInt) (fun _ _ => True) (fun _ => False)) 0 0 (fun _ => False) := by
  intro d
  induction d with
  | zero => intro x0 x2 K rx0 rx2 h; exact False.elim h
  | succ d ihd0 =>
  intro x0 x2 K rx0 rx2 h
  have h : b_X_common (w_X_common d) x0 x2 K := h
  have ihd := ihd0
  clear ihd0
  generalize w_X_common d = W0 at h ihd
  refine Met.ofW (cc := cX0_common) (maxL := 4) (ret := (Option.some Jvm.ClassFile.FieldType.long)) (by decide) rfl ?_
  intro p e s m args below meth c s₁ B hml hv
  obtain ⟨rfl, -⟩ := hv
  have hx := B.exec
  have hb := B.bytes
  have hr := B.returns
  have hlocks := B.notSynchronized
  have hts := atoms_spec (ws := (ws_ yX0_common cX0_common 4 (Option.some Jvm.ClassFile.FieldType.long))) B.pre
  have hts : ∀ w ∈ lw_all, w.before _ s = true := fun w h => hts w (List.mem_cons_of_mem _ h)
  have hown : s.vm.findClass RX0 = some m.cls := findClass_of_methodNamed B.named
  clear B
  have hI : va_S (fun _ => False) s.heap s.heap [] := va_S.rf
  have hl := lv_entry ([jV x0, jV x2] : List Value) (n := 4) (Nat.le_of_ble_eq_true rfl)
  rw [lg_entry_eq]
  generalize (lg_sl ([jV x0, jV x2] : List Value) ++ List.replicate (4 - (lg_sl ([jV x0, jV x2] : List Value)).length) Slot.unset).toArray = ls at hl ⊢
  have hl : lv_has ls 4 [(0, jV x0), (2, jV x2)] := hl
  have hF : CallFix p m c cX0_common 4 s _ lw_all RX0 := ⟨hx, hb, hml, hown, hts⟩
  have hR : (headSpec (ws_ yX0_common cX0_common 4 (Option.some Jvm.ClassFile.FieldType.long)) (rmD (0 + (d + 1)) 0 0)).room.frames = (0 + (d + 1)) + 1 ∧ (headSpec (ws_ yX0_common cX0_common 4 (Option.some Jvm.ClassFile.FieldType.long)) (rmD (0 + (d + 1)) 0 0)).room.locals = 64 * (0 + (d + 1)) + 64 := ⟨rfl, rfl⟩
  generalize (headSpec (ws_ yX0_common cX0_common 4 (Option.some Jvm.ClassFile.FieldType.long)) (rmD (0 + (d + 1)) 0 0)).room = R at hR ⊢
  generalize ([jV x0, jV x2] : List Value).toArray = args at hts hF ⊢
  generalize hQ : MQ below _ _ _ _ _ _ = Q
  unfold b_X_common at h
  refine lv_lload_n hx hb dX0_common_0 rfl (lv_at hl 1 rfl) ?_
  refine nr_lconst (v := 0) hx hb dX0_common_1 rfl ?_
  refine nr_lcmp_ne hx hb rx2 (by decide) dX0_common_2 dX0_common_3 (tgt := 10) (by decide) (fun c1 => ?_) (fun c1 => ?_)
  · replace h := h.1 c1
    refine lv_lload_n hx hb dX0_common_10 rfl (lv_at hl 1 rfl) ?_
    refine lv_lload_n hx hb dX0_common_11 rfl (lv_at hl 0 rfl) ?_
    refine lv_lload_n hx hb dX0_common_12 rfl (lv_at hl 1 rfl) ?_
    have f2 := h.1; replace h := h.2
    have f3 := h.1; replace h := h.2
    refine nr_lrem hx hb rx0 rx2 f2 dX0_common_13 ?_
    refine cqXX0_314_r ihd hF hI hl.1 hR (by omega) (Nat.le_of_ble_eq_true rfl) ⟨Nat.zero_le _, Nat.zero_le _⟩ rx2 f3 h dX0_common_14 (fun r4 H locs fr4 h hI => ?_)
    replace h := h fr4
    rw [← hQ]; exact p_lret (K := K) hx hb hr hlocks hI fr4 h dX0_common_17
  · replace h := h.2 c1
    refine lv_lload_n hx hb dX0_common_6 rfl (lv_at hl 0 rfl) ?_
    refine lv_goto (tgt := 17) hx hb dX0_common_7 (by decide) ?_
    rw [← hQ]; exact p_lret (K := K) hx hb hr hlocks hI rx0 h dX0_common_17
set_option maxHeartbeats 4000000 in
theorem t_X_power (l : Launch) (x0 : Int) (x2 : Int) (K : Int → Prop) (rx0 : InL x0) (rx2 : InR x2) (h : w_X_power x0 x2 K) : Met l yX0_power (ws_ yX0_power cX0_power 6 (Option.some Jvm.ClassFile.FieldType.long)) (rmD 0 0 0) (va_Pc [jV x0, iV x2] (fun _ => True)) (va_Ql (fun r (_ : Unit) => K r.toInt) (fun _ _ => True) (fun _ => False)) 0 0 (fun _ => False) := by
  refine Met.ofW (cc := cX0_power) (maxL := 6) (ret := (Option.some Jvm.ClassFile.FieldType.long)) (by decide) rfl ?_
  intro p e s m args below meth c s₁ B hml hv
  obtain ⟨rfl, -⟩ := hv
  have hx := B.exec
  have hb := B.bytes
  have hr := B.returns
  have hlocks := B.notSynchronized
  have hts := atoms_spec (ws := (ws_ yX0_power cX0_power 6 (Option.some Jvm.ClassFile.FieldType.long))) B.pre
  have hts : ∀ w ∈ lw_all, w.before _ s = true := fun w h => hts w (List.mem_cons_of_mem _ h)
  have hown : s.vm.findClass RX0 = some m.cls := findClass_of_methodNamed B.named
  clear B
  have hI : va_S (fun _ => False) s.heap s.heap [] := va_S.rf
  have hl := lv_entry ([jV x0, iV x2] : List Value) (n := 6) (Nat.le_of_ble_eq_true rfl)
  rw [lg_entry_eq]
  generalize (lg_sl ([jV x0, iV x2] : List Value) ++ List.replicate (6 - (lg_sl ([jV x0, iV x2] : List Value)).length) Slot.unset).toArray = ls at hl ⊢
  have hl : lv_has ls 6 [(0, jV x0), (2, iV x2)] := hl
  have hF : CallFix p m c cX0_power 6 s _ lw_all RX0 := ⟨hx, hb, hml, hown, hts⟩
  have hR : (headSpec (ws_ yX0_power cX0_power 6 (Option.some Jvm.ClassFile.FieldType.long)) (rmD 0 0 0)).room.frames = 0 + 1 ∧ (headSpec (ws_ yX0_power cX0_power 6 (Option.some Jvm.ClassFile.FieldType.long)) (rmD 0 0 0)).room.locals = 64 * 0 + 64 := ⟨rfl, rfl⟩
  generalize (headSpec (ws_ yX0_power cX0_power 6 (Option.some Jvm.ClassFile.FieldType.long)) (rmD 0 0 0)).room = R at hR ⊢
  generalize ([jV x0, iV x2] : List Value).toArray = args at hts hF ⊢
  generalize hQ : MQ below _ _ _ _ _ _ = Q
  have L5 : ∀ (x0 : Int) (x2 : Int), InL x0 → InR x2 → ∀ (n5 : Nat) (x3 : Int) (x5 : Int) (H : Heap) (locs : List Loc) (ls : Array Slot), InL x3 → InR x5 → va_S (fun _ => False) s.heap H locs → lv_has ls 6 [(0, jV x0), (2, iV x2), (3, jV x3), (5, iV x5)] → l_X_power_5 x0 x2 K n5 x3 x5 → W p l e R s m args below meth c H locs 0 0 Q (F0 m 5 ls []) := by
    intro x0 x2 rx0 rx2 n5
    induction n5 with
    | zero => intro x3 x5 H locs ls rx3 rx5 hI hl h; exact False.elim h
    | succ n5 ih5 =>
      intro x3 x5 H locs ls rx3 rx5 hI hl h
      unfold l_X_power_5 at h
      refine lv_iload hx hb dX0_power_5 (lv_at hl 3 rfl) ?_
      refine lv_iload_n hx hb dX0_power_7 rfl (lv_at hl 1 rfl) ?_
      refine nr_icmp_ge hx hb rx5 rx2 dX0_power_8 (tgt := 21) (by decide) (fun c1 => ?_) (fun c1 => ?_)
      · replace h := h.1 c1
        refine lv_lload_n hx hb dX0_power_21 rfl (lv_at hl 2 rfl) ?_
        rw [← hQ]; exact p_lret (K := K) hx hb hr hlocks hI rx3 h dX0_power_22
      · replace h := h.2 c1
        refine lv_lload_n hx hb dX0_power_11 rfl (lv_at hl 2 rfl) ?_
        refine lv_lload_n hx hb dX0_power_12 rfl (lv_at hl 0 rfl) ?_
        have f2 := h.1; replace h := h.2
        refine nr_lmul hx hb dX0_power_13 ?_
        refine nr_topj (fun v3 ev3 => ?_)
        have rv3 : InL v3 := by rw [ev3]; exact f2
        replace h := h v3 ev3 rv3
        refine lv_lstore_n (lv' := [(3, jV v3), (0, jV x0), (2, iV x2), (5, iV x5)]) hx hb dX0_power_14 rfl hl (by decide) rfl (fun ls hl => ?_)
        have f4 := h.1; replace h := h.2
        refine nr_iinc (lv' := [(5, iV (x5 + 1)), (3, jV v3), (0, jV x0), (2, iV x2)]) hx hb dX0_power_15 hl (k := 3) rfl (by decide) rfl (fun ls hl => ?_)
        refine lv_goto (tgt := 5) hx hb dX0_power_18 (by decide) ?_
        exact ih5 v3 (x5 + 1) _ _ _ rv3 f4 hI (lv_sub hl [2, 3, 1, 0] rfl) h
  unfold w_X_power at h
  refine nr_lconst (v := 1) hx hb dX0_power_0 rfl ?_
  refine lv_lstore_n (lv' := [(3, jV 1), (0, jV x0), (2, iV x2)]) hx hb dX0_power_1 rfl hl (by decide) rfl (fun ls hl => ?_)
  refine nr_iconst hx hb dX0_power_2 ?_
  refine lv_istore (lv' := [(5, iV 0), (3, jV 1), (0, jV x0), (2, iV x2)]) hx hb dX0_power_3 hl (by decide) rfl (fun ls hl => ?_)
  obtain ⟨n0, h⟩ := h
  exact L5 x0 x2 rx0 rx2 n0 1 0 _ _ _ (by decide) (by decide) hI (lv_sub hl [2, 3, 1, 0] rfl) h
theorem cXX0_319 {p : Program} {l : Launch} {e : Env} {R : Room} {s : State} {m : MethodId} {args : Array Value} {below : List Frame} {meth : Method} {c : Code} {H : Heap} {locs : List Loc} {Q : State → Prop} {cc : ByteArray} {nL pc : Nat} {ls : Array Slot} {rest : List Value} {cells slots : Nat} {D : va_G} {dA : Nat → ClassId} {ad : Nat → Nat} {A : Nat → Prop} {H0 : Heap} {S : St} {dk : Nat} (hF : CallFix p m c cc nL s args lw_all RX0) (hK : gK D dA s) (hI : sI D dA wX ad A H0 S H locs) (hls : ls.size = nL) (hR : R.frames = dk + 1 ∧ R.locals = 64 * dk + 64) (hd : 0 + 1 ≤ dk) (hW : (rest.map fun v => v.category).sum ≤ 8) (hf : cells ≤ R.cells ∧ slots ≤ R.slots) {x0 : Int} {x2 : Int} {K : Int → Prop} (r0 : InL x0) (r2 : InR x2) (h : w_X_power x0 x2 K) (hdg : decode cc pc = .ok (.invokestatic 319, 3)) (kk : ∀ (r : Int) (H1 : Heap) (locs1 : List Loc), InL r → K r → sI D dA wX ad A H0 S H1 locs1 → W p l e R s m args below meth c H1 locs1 cells slots Q (F0 m (pc + 3) ls (jV r :: rest))) : W p l e R s m args below meth c H locs cells slots Q (F0 m (pc) ls (iV x2 :: jV x0 :: rest)) := s_callPl (As := [jV x0, iV x2]) (rest := rest) hF (t_X_power l x0 x2 K r0 r2 h) (va_cwS 2 hF.2.2.2.2 (lw_S q1110 q1111 q106 q1112) rfl rfl rfl (by decide +kernel) ⟨by have h1 := hR.1; have h2 : (rmD 0 0 0).frames = 0 + 1 := rfl; omega, by have h1 := hR.2; have h2 : (rmD 0 0 0).locals = 64 * 0 + 64 := rfl; omega⟩) hI rfl hls rfl hW hdg hf kk
theorem cXX0_314 {p : Program} {l : Launch} {e : Env} {R : Room} {s : State} {m : MethodId} {args : Array Value} {below : List Frame} {meth : Method} {c : Code} {H : Heap} {locs : List Loc} {Q : State → Prop} {cc : ByteArray} {nL pc : Nat} {ls : Array Slot} {rest : List Value} {cells slots : Nat} {D : va_G} {dA : Nat → ClassId} {ad : Nat → Nat} {A : Nat → Prop} {H0 : Heap} {S : St} {dk : Nat} {d : Nat} (hdm : d ≤ 100) (hF : CallFix p m c cc nL s args lw_all RX0) (hK : gK D dA s) (hI : sI D dA wX ad A H0 S H locs) (hls : ls.size = nL) (hR : R.frames = dk + 1 ∧ R.locals = 64 * dk + 64) (hd : 100 + 1 ≤ dk) (hW : (rest.map fun v => v.category).sum ≤ 8) (hf : cells ≤ R.cells ∧ slots ≤ R.slots) {x0 : Int} {x2 : Int} {K : Int → Prop} (r0 : InL x0) (r2 : InL x2) (h : w_X_common d x0 x2 K) (hdg : decode cc pc = .ok (.invokestatic 314, 3)) (kk : ∀ (r : Int) (H1 : Heap) (locs1 : List Loc), InL r → K r → sI D dA wX ad A H0 S H1 locs1 → W p l e R s m args below meth c H1 locs1 cells slots Q (F0 m (pc + 3) ls (jV r :: rest))) : W p l e R s m args below meth c H locs cells slots Q (F0 m (pc) ls (jV x2 :: jV x0 :: rest)) := s_callPl (As := [jV x0, jV x2]) (rest := rest) hF (t_X_common l d x0 x2 K r0 r2 h) (va_cwS 2 hF.2.2.2.2 (lw_S q1114 q1115 q106 q1116) rfl rfl rfl (by decide +kernel) ⟨by have h1 := hR.1; have h2 : (rmD (0 + d) 0 0).frames = (0 + d) + 1 := rfl; omega, by have h1 := hR.2; have h2 : (rmD (0 + d) 0 0).locals = 64 * (0 + d) + 64 := rfl; omega⟩) hI rfl hls rfl hW hdg hf kk
set_option maxHeartbeats 4000000 in
theorem t_X_chance (l : Launch) (D : va_G) (dA : Nat → ClassId) (ad : Nat → Nat) (S : St) (sz : Nat) (x1 : Int) (x2 : Int) (x3 : Int) (x4 : Int) (K : Int → Prop) (rx1 : InR x1) (rx2 : InR x2) (rx3 : InR x3) (rx4 : InR x4) (h : w_X_chance x1 x2 x3 x4 S K) : Met l yX0_chance (ws_ yX0_chance cX0_chance 13 (Option.some Jvm.ClassFile.FieldType.long)) (rmD 101 0 0) (va_Pc [.ref (ad 129), iV x1, iV x2, iV x3, iV x4] (sPre D dA wX ad S sz)) (va_Ql (fun r S' => S' = S ∧ K r.toInt) (sPost D dA wX ad (wA wX ad S sz)) (wA wX ad S sz)) 0 0 (wA wX ad S sz) := by
  refine Met.ofW (cc := cX0_chance) (maxL := 13) (ret := (Option.some Jvm.ClassFile.FieldType.long)) (by decide) rfl ?_
  intro p e s m args below meth c s₁ B hml hv
  obtain ⟨rfl, hsz, hK, hC⟩ := hv
  have hx := B.exec
  have hb := B.bytes
  have hr := B.returns
  have hlocks := B.notSynchronized
  have hts := atoms_spec (ws := (ws_ yX0_chance cX0_chance 13 (Option.some Jvm.ClassFile.FieldType.long))) B.pre
  have hts : ∀ w ∈ lw_all, w.before _ s = true := fun w h => hts w (List.mem_cons_of_mem _ h)
  have hown : s.vm.findClass RX0 = some m.cls := findClass_of_methodNamed B.named
  clear B
  subst hsz
  have hI : sI D dA wX ad (wA wX ad S s.heap.size) s.heap S s.heap [] := hC.start
  clear hC
  generalize wA wX ad S s.heap.size = A at hI ⊢
  have hl := lv_entry ([.ref (ad 129), iV x1, iV x2, iV x3, iV x4] : List Value) (n := 13) (Nat.le_of_ble_eq_true rfl)
  rw [lg_entry_eq]
  generalize (lg_sl ([.ref (ad 129), iV x1, iV x2, iV x3, iV x4] : List Value) ++ List.replicate (13 - (lg_sl ([.ref (ad 129), iV x1, iV x2, iV x3, iV x4] : List Value)).length) Slot.unset).toArray = ls at hl ⊢
  have hl : lv_has ls 13 [(0, .ref (ad 129)), (1, iV x1), (2, iV x2), (3, iV x3), (4, iV x4)] := hl
  have hF : CallFix p m c cX0_chance 13 s _ lw_all RX0 := ⟨hx, hb, hml, hown, hts⟩
  have hR : (headSpec (ws_ yX0_chance cX0_chance 13 (Option.some Jvm.ClassFile.FieldType.long)) (rmD 101 0 0)).room.frames = 101 + 1 ∧ (headSpec (ws_ yX0_chance cX0_chance 13 (Option.some Jvm.ClassFile.FieldType.long)) (rmD 101 0 0)).room.locals = 64 * 101 + 64 := ⟨rfl, rfl⟩
  generalize (headSpec (ws_ yX0_chance cX0_chance 13 (Option.some Jvm.ClassFile.FieldType.long)) (rmD 101 0 0)).room = R at hR ⊢
  generalize ([.ref (ad 129), iV x1, iV x2, iV x3, iV x4] : List Value).toArray = args at hts hF ⊢
  generalize hQ : MQ below _ _ _ _ _ _ = Q
  have J115 : ∀ (x1 : Int) (x4 : Int) (x7 : Int) (H : Heap) (locs : List Loc) (ls : Array Slot), InR x1 → InR x4 → InL x7 → sI D dA wX ad A s.heap S H locs → lv_has ls 13 [(1, iV x1), (4, iV x4), (7, jV x7)] → j_X_chance_115 x1 x4 x7 S K → W p l e R s m args below meth c H locs 0 0 Q (F0 m 115 ls []) := by
    intro x1 x4 x7 H locs ls rx1 rx4 rx7 hI hl h
    unfold j_X_chance_115 at h
    refine nr_ldc2 (v := 6) hx hb hown (by decide) (hts _ q1113) dX0_chance_115 ?_
    refine lv_iload_n hx hb dX0_chance_118 rfl (lv_at hl 0 rfl) ?_
    refine cXX0_319 hF hK hI hl.1 hR (by decide) (Nat.le_of_ble_eq_true rfl) ⟨Nat.zero_le _, Nat.zero_le _⟩ (by decide) rx1 h dX0_chance_119 (fun r1 H locs fr1 h hI => ?_)
    replace h := h fr1
    refine lv_lstore (lv' := [(9, jV r1), (1, iV x1), (4, iV x4), (7, jV x7)]) hx hb dX0_chance_122 hl (by decide) rfl (fun ls hl => ?_)
    refine lv_lload hx hb dX0_chance_124 (lv_at hl 0 rfl) ?_
    refine lv_lload hx hb dX0_chance_126 (lv_at hl 3 rfl) ?_
    obtain ⟨d5, hd5, h⟩ := h
    refine cXX0_314 hd5 hF hK hI hl.1 hR (by decide) (Nat.le_of_ble_eq_true rfl) ⟨Nat.zero_le _, Nat.zero_le _⟩ fr1 rx7 h dX0_chance_128 (fun r3 H locs fr3 h hI => ?_)
    replace h := h fr3
    refine lv_lstore (lv' := [(11, jV r3), (9, jV r1), (1, iV x1), (4, iV x4), (7, jV x7)]) hx hb dX0_chance_131 hl (by decide) rfl (fun ls hl => ?_)
    refine lv_iload hx hb dX0_chance_133 (lv_at hl 3 rfl) ?_
    refine nr_if_ne hx hb rx4 dX0_chance_135 (tgt := 146) (by decide) (fun c6 => ?_) (fun c6 => ?_)
    · replace h := h.1 c6
      refine lv_lload hx hb dX0_chance_146 (lv_at hl 1 rfl) ?_
      refine lv_lload hx hb dX0_chance_148 (lv_at hl 0 rfl) ?_
      have f7 := h.1; replace h := h.2
      have f8 := h.1; replace h := h.2
      refine nr_ldiv hx hb fr1 fr3 f7 dX0_chance_150 ?_
      rw [← hQ]; exact s_lret (K := fun r S' => S' = S ∧ K r) hx hb hr hlocks hI f8 ⟨rfl, h⟩ dX0_chance_151
    · replace h := h.2 c6
      refine lv_lload hx hb dX0_chance_138 (lv_at hl 4 rfl) ?_
      refine lv_lload hx hb dX0_chance_140 (lv_at hl 0 rfl) ?_
      have f9 := h.1; replace h := h.2
      have f10 := h.1; replace h := h.2
      refine nr_ldiv hx hb rx7 fr3 f9 dX0_chance_142 ?_
      refine lv_goto (tgt := 151) hx hb dX0_chance_143 (by decide) ?_
      rw [← hQ]; exact s_lret (K := fun r S' => S' = S ∧ K r) hx hb hr hlocks hI f10 ⟨rfl, h⟩ dX0_chance_151
  have L52 : ∀ (x1 : Int) (x2 : Int) (x3 : Int) (x4 : Int), InR x1 → InR x2 → InR x3 → InR x4 → ∀ (n52 : Nat) (x5 : Int) (x7 : Int) (x9 : Int) (H : Heap) (locs : List Loc) (ls : Array Slot), InL x5 → InL x7 → InR x9 → sI D dA wX ad A s.heap S H locs → lv_has ls 13 [(1, iV x1), (2, iV x2), (3, iV x3), (4, iV x4), (5, jV x5), (7, jV x7), (9, iV x9)] → l_X_chance_52 x1 x2 x3 x4 S K (fun (z7 : Int) => j_X_chance_115 x1 x4 z7 S K) n52 x5 x7 x9 → W p l e R s m args below meth c H locs 0 0 Q (F0 m 52 ls []) := by
    intro x1 x2 x3 x4 rx1 rx2 rx3 rx4 n52
    induction n52 with
    | zero => intro x5 x7 x9 H locs ls rx5 rx7 rx9 hI hl h; exact False.elim h
    | succ n52 ih52 =>
      intro x5 x7 x9 H locs ls rx5 rx7 rx9 hI hl h
      have J93 : ∀ (x5 : Int) (x7 : Int) (x9 : Int) (H : Heap) (locs : List Loc) (ls : Array Slot), InL x5 → InL x7 → InR x9 → sI D dA wX ad A s.heap S H locs → lv_has ls 13 [(1, iV x1), (2, iV x2), (3, iV x3), (4, iV x4), (5, jV x5), (7, jV x7), (9, iV x9)] → j_X_chance_93 x1 x2 x3 x4 x5 x7 x9 S K (fun (z7 : Int) => j_X_chance_115 x1 x4 z7 S K) (l_X_chance_52 x1 x2 x3 x4 S K (fun (z7 : Int) => j_X_chance_115 x1 x4 z7 S K) n52) → W p l e R s m args below meth c H locs 0 0 Q (F0 m 93 ls []) := by
        intro x5 x7 x9 H locs ls rx5 rx7 rx9 hI hl h
        unfold j_X_chance_93 at h
        refine lv_lload hx hb dX0_chance_93 (lv_at hl 4 rfl) ?_
        refine lv_iload_n hx hb dX0_chance_95 rfl (lv_at hl 0 rfl) ?_
        refine lv_iload hx hb dX0_chance_96 (lv_at hl 6 rfl) ?_
        have f11 := h.1; replace h := h.2
        refine nr_isub hx hb dX0_chance_98 ?_
        refine nr_i2l hx hb f11 dX0_chance_99 ?_
        have f12 : InL (x1 - x9) := ni_L f11
        have f13 := h.1; replace h := h.2
        refine nr_lmul hx hb dX0_chance_100 ?_
        refine lv_iload hx hb dX0_chance_101 (lv_at hl 6 rfl) ?_
        refine nr_iconst hx hb dX0_chance_103 ?_
        have f14 := h.1; replace h := h.2
        refine nr_iadd hx hb dX0_chance_104 ?_
        refine nr_i2l hx hb f14 dX0_chance_105 ?_
        have f15 : InL (x9 + 1) := ni_L f14
        have f16 := h.1; replace h := h.2
        have f17 := h.1; replace h := h.2
        refine nr_ldiv hx hb f13 f15 f16 dX0_chance_106 ?_
        refine nr_topj (fun v18 ev18 => ?_)
        have rv18 : InL v18 := by rw [ev18]; exact f17
        replace h := h v18 ev18 rv18
        refine lv_lstore (lv' := [(5, jV v18), (1, iV x1), (2, iV x2), (3, iV x3), (4, iV x4), (7, jV x7), (9, iV x9)]) hx hb dX0_chance_107 hl (by decide) rfl (fun ls hl => ?_)
        refine nr_iinc (lv' := [(9, iV (x9 + 1)), (5, jV v18), (1, iV x1), (2, iV x2), (3, iV x3), (4, iV x4), (7, jV x7)]) hx hb dX0_chance_109 hl (k := 6) rfl (by decide) rfl (fun ls hl => ?_)
        refine lv_goto (tgt := 52) hx hb dX0_chance_112 (by decide) ?_
        exact ih52 v18 x7 (x9 + 1) _ _ _ rv18 rx7 f14 hI (lv_sub hl [2, 3, 4, 5, 1, 6, 0] rfl) h
      unfold l_X_chance_52 at h
      refine lv_iload hx hb dX0_chance_52 (lv_at hl 6 rfl) ?_
      refine lv_iload_n hx hb dX0_chance_54 rfl (lv_at hl 0 rfl) ?_
      refine nr_icmp_gt hx hb rx9 rx1 dX0_chance_55 (tgt := 115) (by decide) (fun c19 => ?_) (fun c19 => ?_)
      · replace h := h.1 c19
        exact J115 x1 x4 x7 _ _ _ rx1 rx4 rx7 hI (lv_sub hl [0, 3, 5] rfl) h
      · replace h := h.2 c19
        refine lv_iload hx hb dX0_chance_58 (lv_at hl 6 rfl) ?_
        refine lv_iload_n hx hb dX0_chance_60 rfl (lv_at hl 1 rfl) ?_
        refine nr_icmp_lt hx hb rx9 rx2 dX0_chance_61 (tgt := 93) (by decide) (fun c20 => ?_) (fun c20 => ?_)
        · replace h := h.1 c20
          exact J93 x5 x7 x9 _ _ _ rx5 rx7 rx9 hI (lv_sub hl [0, 1, 2, 3, 4, 5, 6] rfl) h
        · replace h := h.2 c20
          refine lv_lload hx hb dX0_chance_64 (lv_at hl 5 rfl) ?_
          refine lv_lload hx hb dX0_chance_66 (lv_at hl 4 rfl) ?_
          refine lv_iload_n hx hb dX0_chance_68 rfl (lv_at hl 2 rfl) ?_
          refine nr_i2l hx hb rx3 dX0_chance_69 ?_
          have f21 : InL (x3) := ni_L rx3
          refine lv_iload hx hb dX0_chance_70 (lv_at hl 6 rfl) ?_
          refine cXX0_319 hF hK hI hl.1 hR (by decide) (Nat.le_of_ble_eq_true rfl) ⟨Nat.zero_le _, Nat.zero_le _⟩ f21 rx9 h dX0_chance_72 (fun r22 H locs fr22 h hI => ?_)
          replace h := h fr22
          have f24 := h.1; replace h := h.2
          refine nr_lmul hx hb dX0_chance_75 ?_
          refine nr_ldc2 (v := 6) hx hb hown (by decide) (hts _ q1113) dX0_chance_76 ?_
          refine lv_iload_n hx hb dX0_chance_79 rfl (lv_at hl 2 rfl) ?_
          refine nr_i2l hx hb rx3 dX0_chance_80 ?_
          have f25 : InL (x3) := ni_L rx3
          have f26 := h.1; replace h := h.2
          refine nr_lsub hx hb dX0_chance_81 ?_
          refine lv_iload_n hx hb dX0_chance_82 rfl (lv_at hl 0 rfl) ?_
          refine lv_iload hx hb dX0_chance_83 (lv_at hl 6 rfl) ?_
          have f27 := h.1; replace h := h.2
          refine nr_isub hx hb dX0_chance_85 ?_
          refine cXX0_319 hF hK hI hl.1 hR (by decide) (Nat.le_of_ble_eq_true rfl) ⟨Nat.zero_le _, Nat.zero_le _⟩ f26 f27 h dX0_chance_86 (fun r28 H locs fr28 h hI => ?_)
          replace h := h fr28
          have f30 := h.1; replace h := h.2
          refine nr_lmul hx hb dX0_chance_89 ?_
          have f31 := h.1; replace h := h.2
          refine nr_ladd hx hb dX0_chance_90 ?_
          refine nr_topj (fun v32 ev32 => ?_)
          have rv32 : InL v32 := by rw [ev32]; exact f31
          replace h := h v32 ev32 rv32
          refine lv_lstore (lv' := [(7, jV v32), (1, iV x1), (2, iV x2), (3, iV x3), (4, iV x4), (5, jV x5), (9, iV x9)]) hx hb dX0_chance_91 hl (by decide) rfl (fun ls hl => ?_)
          exact J93 x5 v32 x9 _ _ _ rx5 rv32 rx9 hI (lv_sub hl [1, 2, 3, 4, 5, 0, 6] rfl) h
  unfold w_X_chance at h
  refine lv_iload_n hx hb dX0_chance_0 rfl (lv_at hl 1 rfl) ?_
  refine nr_iconst hx hb dX0_chance_1 ?_
  refine nr_bipush hx hb dX0_chance_2 (by decide) ?_
  refine cXX0_74 hF hK hI hl.1 hR (by decide) (Nat.le_of_ble_eq_true rfl) ⟨Nat.zero_le _, Nat.zero_le _⟩ rx1 (by decide) (by decide) h dX0_chance_4 (fun r33 H locs fr33 h hI => ?_)
  replace h := h fr33
  have gr33 : InR r33 := kdP_R (k := 2) (by decide) fr33
  refine nr_if_eq hx hb gr33 dX0_chance_7 (tgt := 39) (by decide) (fun c35 => ?_) (fun c35 => ?_)
  · replace h := h.1 c35
    refine nr_ldc2 (v := (-1)) hx hb hown (by decide) (hts _ q1109) dX0_chance_39 ?_
    rw [← hQ]; exact s_lret (K := fun r S' => S' = S ∧ K r) hx hb hr hlocks hI (by decide) ⟨rfl, h⟩ dX0_chance_42
  · replace h := h.2 c35
    refine lv_iload_n hx hb dX0_chance_10 rfl (lv_at hl 2 rfl) ?_
    refine nr_iconst hx hb dX0_chance_11 ?_
    refine lv_iload_n hx hb dX0_chance_12 rfl (lv_at hl 1 rfl) ?_
    refine cXX0_74 hF hK hI hl.1 hR (by decide) (Nat.le_of_ble_eq_true rfl) ⟨Nat.zero_le _, Nat.zero_le _⟩ rx2 (by decide) rx1 h dX0_chance_13 (fun r36 H locs fr36 h hI => ?_)
    replace h := h fr36
    have gr36 : InR r36 := kdP_R (k := 2) (by decide) fr36
    refine nr_if_eq hx hb gr36 dX0_chance_16 (tgt := 39) (by decide) (fun c38 => ?_) (fun c38 => ?_)
    · replace h := h.1 c38
      refine nr_ldc2 (v := (-1)) hx hb hown (by decide) (hts _ q1109) dX0_chance_39 ?_
      rw [← hQ]; exact s_lret (K := fun r S' => S' = S ∧ K r) hx hb hr hlocks hI (by decide) ⟨rfl, h⟩ dX0_chance_42
    · replace h := h.2 c38
      refine lv_iload_n hx hb dX0_chance_19 rfl (lv_at hl 3 rfl) ?_
      refine nr_iconst hx hb dX0_chance_20 ?_
      refine nr_bipush hx hb dX0_chance_21 (by decide) ?_
      refine cXX0_74 hF hK hI hl.1 hR (by decide) (Nat.le_of_ble_eq_true rfl) ⟨Nat.zero_le _, Nat.zero_le _⟩ rx3 (by decide) (by decide) h dX0_chance_23 (fun r39 H locs fr39 h hI => ?_)
      replace h := h fr39
      have gr39 : InR r39 := kdP_R (k := 2) (by decide) fr39
      refine nr_if_eq hx hb gr39 dX0_chance_26 (tgt := 39) (by decide) (fun c41 => ?_) (fun c41 => ?_)
      · replace h := h.1 c41
        refine nr_ldc2 (v := (-1)) hx hb hown (by decide) (hts _ q1109) dX0_chance_39 ?_
        rw [← hQ]; exact s_lret (K := fun r S' => S' = S ∧ K r) hx hb hr hlocks hI (by decide) ⟨rfl, h⟩ dX0_chance_42
      · replace h := h.2 c41
        refine lv_iload hx hb dX0_chance_29 (lv_at hl 4 rfl) ?_
        refine nr_iconst hx hb dX0_chance_31 ?_
        refine nr_iconst hx hb dX0_chance_32 ?_
        refine cXX0_74 hF hK hI hl.1 hR (by decide) (Nat.le_of_ble_eq_true rfl) ⟨Nat.zero_le _, Nat.zero_le _⟩ rx4 (by decide) (by decide) h dX0_chance_33 (fun r42 H locs fr42 h hI => ?_)
        replace h := h fr42
        have gr42 : InR r42 := kdP_R (k := 2) (by decide) fr42
        refine nr_if_ne hx hb gr42 dX0_chance_36 (tgt := 43) (by decide) (fun c44 => ?_) (fun c44 => ?_)
        · replace h := h.1 c44
          refine nr_lconst (v := 1) hx hb dX0_chance_43 rfl ?_
          refine lv_lstore (lv' := [(5, jV 1), (0, .ref (ad 129)), (1, iV x1), (2, iV x2), (3, iV x3), (4, iV x4)]) hx hb dX0_chance_44 hl (by decide) rfl (fun ls hl => ?_)
          refine nr_lconst (v := 0) hx hb dX0_chance_46 rfl ?_
          refine lv_lstore (lv' := [(7, jV 0), (5, jV 1), (0, .ref (ad 129)), (1, iV x1), (2, iV x2), (3, iV x3), (4, iV x4)]) hx hb dX0_chance_47 hl (by decide) rfl (fun ls hl => ?_)
          refine nr_iconst hx hb dX0_chance_49 ?_
          refine lv_istore (lv' := [(9, iV 0), (7, jV 0), (5, jV 1), (0, .ref (ad 129)), (1, iV x1), (2, iV x2), (3, iV x3), (4, iV x4)]) hx hb dX0_chance_50 hl (by decide) rfl (fun ls hl => ?_)
          obtain ⟨n0, h⟩ := h
          exact L52 x1 x2 x3 x4 rx1 rx2 rx3 rx4 n0 1 0 0 _ _ _ (by decide) (by decide) (by decide) hI (lv_sub hl [4, 5, 6, 7, 2, 1, 0] rfl) h
        · replace h := h.2 c44
          refine nr_ldc2 (v := (-1)) hx hb hown (by decide) (hts _ q1109) dX0_chance_39 ?_
          rw [← hQ]; exact s_lret (K := fun r S' => S' = S ∧ K r) hx hb hr hlocks hI (by decide) ⟨rfl, h⟩ dX0_chance_42
