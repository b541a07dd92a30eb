set_option maxRecDepth 100000
theorem gMX2_43_17 {p : Program} {l : Launch} {e : Env} {R : Room} {s : State} {m : MethodId} {args : Array Value} {below : List Frame} {meth : Method} {c : Code} {H : Heap} {locs : List Loc} {Q : State → Prop} {cc : ByteArray} {nL pc : Nat} {ls : Array Slot} {rest : List Value} {cells slots : Nat} {D : va_G} {dA : Nat → ClassId} {ad : Nat → Nat} {A : Nat → Prop} {H0 : Heap} {S : St} (hF : CallFix p m c cc nL s args lw_all RX2) (hK : gK D dA s) (hI : sI D dA wM ad A H0 S H locs) (hdg : decode cc pc = .ok (.getfield 43, 3)) (kk : W p l e R s m args below meth c H locs cells slots Q (F0 m (pc + 3) ls (.ref (ad 8) :: rest))) : W p l e R s m args below meth c H locs cells slots Q (F0 m (pc) ls (.ref (ad 17) :: rest)) := s_getr hF.1 hF.2.1 hF.2.2.2.2 hF.2.2.2.1 hK hI 17 (by decide) wM_17 rfl in_X2 25 (by decide) q1186 rfl 8 rfl hdg kk
theorem gMX2_309_17 {p : Program} {l : Launch} {e : Env} {R : Room} {s : State} {m : MethodId} {args : Array Value} {below : List Frame} {meth : Method} {c : Code} {H : Heap} {locs : List Loc} {Q : State → Prop} {cc : ByteArray} {nL pc : Nat} {ls : Array Slot} {rest : List Value} {cells slots : Nat} {D : va_G} {dA : Nat → ClassId} {ad : Nat → Nat} {A : Nat → Prop} {H0 : Heap} {S : St} (hF : CallFix p m c cc nL s args lw_all RX2) (hK : gK D dA s) (hI : sI D dA wM ad A H0 S H locs) (hdg : decode cc pc = .ok (.getfield 309, 3)) (kk : InR (fI S 29) → W p l e R s m args below meth c H locs cells slots Q (F0 m (pc + 3) ls (iV (fI S 29) :: rest))) : W p l e R s m args below meth c H locs cells slots Q (F0 m (pc) ls (.ref (ad 17) :: rest)) := s_geti hF.1 hF.2.1 hF.2.2.2.2 hF.2.2.2.1 hK hI 17 (by decide) wM_17 rfl in_X2 29 (by decide) q1190 rfl 0 29 rfl (by decide) hdg (kk (kdP_R (k := 0) (by decide) (hI.1.2.2.2.1.1 29)))
theorem uMX2_309_17 {p : Program} {l : Launch} {e : Env} {R : Room} {s : State} {m : MethodId} {args : Array Value} {below : List Frame} {meth : Method} {c : Code} {H : Heap} {locs : List Loc} {Q : State → Prop} {cc : ByteArray} {nL pc : Nat} {ls : Array Slot} {rest : List Value} {cells slots : Nat} {D : va_G} {dA : Nat → ClassId} {ad : Nat → Nat} {A : Nat → Prop} {H0 : Heap} {S : St} (hF : CallFix p m c cc nL s args lw_all RX2) (hK : gK D dA s) (hI : sI D dA wM ad A H0 S H locs) {v : Int} (hv : InR v) (hdg : decode cc pc = .ok (.putfield 309, 3)) (kk : ∀ (S1 : St) (H1 : Heap) (locs1 : List Loc), S1 = fset S 29 v → sI D dA wM ad A H0 S1 H1 locs1 → W p l e R s m args below meth c H1 locs1 cells slots Q (F0 m (pc + 3) ls (rest))) : W p l e R s m args below meth c H locs cells slots Q (F0 m (pc) ls (iV v :: .ref (ad 17) :: rest)) := s_put hF.1 hF.2.1 wM_U tyX2 tyX2_ok nmX2 hF.2.2.2.2 hF.2.2.2.1 hK hI 17 (by decide) wM_17 rfl in_X2 29 (by decide) q1190 rfl 0 29 rfl hv rfl rfl rfl hdg (fun H1 locs1 h => kk _ H1 locs1 rfl h)
set_option maxHeartbeats 4000000 in
theorem t_M_findAsked (l : Launch) (D : va_G) (dA : Nat → ClassId) (ad : Nat → Nat) (S : St) (sz : Nat) (x1 : Int) (K : St → Prop) (rx1 : InR x1) (h : w_M_findAsked x1 S K) : Met l yX2_findAsked (ws_ yX2_findAsked cX2_findAsked 3 (Option.none : Option Jvm.ClassFile.FieldType)) (rmD 4 0 0) (va_Pc [.ref (ad 17), iV x1] (sPre D dA wM ad S sz)) (va_Qv (fun S' => K S') (sPost D dA wM ad (wA wM ad S sz)) (wA wM ad S sz)) 0 0 (wA wM ad S sz) := by
  refine Met.ofW (cc := cX2_findAsked) (maxL := 3) (ret := (Option.none : Option Jvm.ClassFile.FieldType)) (by decide) rfl ?_
  intro p e s m args below meth c s₁ B hml hv
  obtain ⟨rfl, hsz, hK, hC⟩ := hv
  have hx := B.exec
  have hb := B.bytes
  have hr := B.returns
  have hlocks := B.notSynchronized
  have hts := atoms_spec (ws := (ws_ yX2_findAsked cX2_findAsked 3 (Option.none : Option Jvm.ClassFile.FieldType))) B.pre
  have hts : ∀ w ∈ lw_all, w.before _ s = true := fun w h => hts w (List.mem_cons_of_mem _ h)
  have hown : s.vm.findClass RX2 = some m.cls := findClass_of_methodNamed B.named
  clear B
  subst hsz
  have hI : sI D dA wM ad (wA wM ad S s.heap.size) s.heap S s.heap [] := hC.start
  clear hC
  generalize wA wM ad S s.heap.size = A at hI ⊢
  have hl := lv_entry ([.ref (ad 17), iV x1] : List Value) (n := 3) (Nat.le_of_ble_eq_true rfl)
  rw [lg_entry_eq]
  generalize (lg_sl ([.ref (ad 17), iV x1] : List Value) ++ List.replicate (3 - (lg_sl ([.ref (ad 17), iV x1] : List Value)).length) Slot.unset).toArray = ls at hl ⊢
  have hl : lv_has ls 3 [(0, .ref (ad 17)), (1, iV x1)] := hl
  have hF : CallFix p m c cX2_findAsked 3 s _ lw_all RX2 := ⟨hx, hb, hml, hown, hts⟩
  have hR : (headSpec (ws_ yX2_findAsked cX2_findAsked 3 (Option.none : Option Jvm.ClassFile.FieldType)) (rmD 4 0 0)).room.frames = 4 + 1 ∧ (headSpec (ws_ yX2_findAsked cX2_findAsked 3 (Option.none : Option Jvm.ClassFile.FieldType)) (rmD 4 0 0)).room.locals = 64 * 4 + 64 := ⟨rfl, rfl⟩
  generalize (headSpec (ws_ yX2_findAsked cX2_findAsked 3 (Option.none : Option Jvm.ClassFile.FieldType)) (rmD 4 0 0)).room = R at hR ⊢
  generalize ([.ref (ad 17), iV x1] : List Value).toArray = args at hts hF ⊢
  generalize hQ : MQ below _ _ _ _ _ _ = Q
  have L7 : ∀ (x1 : Int), InR x1 → ∀ (n7 : Nat) (x2 : Int) (S : St) (H : Heap) (locs : List Loc) (ls : Array Slot), InR x2 → sI D dA wM ad A s.heap S H locs → lv_has ls 3 [(0, .ref (ad 17)), (1, iV x1), (2, iV x2)] → l_M_findAsked_7 x1 K n7 x2 S → W p l e R s m args below meth c H locs 0 0 Q (F0 m 7 ls []) := by
    intro x1 rx1 n7
    induction n7 with
    | zero => intro x2 S H locs ls rx2 hI hl h; exact False.elim h
    | succ n7 ih7 =>
      intro x2 S H locs ls rx2 hI hl h
      have J66 : ∀ (x2 : Int) (S : St) (H : Heap) (locs : List Loc) (ls : Array Slot), InR x2 → sI D dA wM ad A s.heap S H locs → lv_has ls 3 [(0, .ref (ad 17)), (1, iV x1), (2, iV x2)] → j_M_findAsked_66 x1 x2 S K (l_M_findAsked_7 x1 K n7) → W p l e R s m args below meth c H locs 0 0 Q (F0 m 66 ls []) := by
        intro x2 S H locs ls rx2 hI hl h
        unfold j_M_findAsked_66 at h
        have f1 := h.1; replace h := h.2
        refine nr_iinc (lv' := [(2, iV (x2 + 1)), (0, .ref (ad 17)), (1, iV x1)]) hx hb dX2_findAsked_66 hl (k := 2) rfl (by decide) rfl (fun ls hl => ?_)
        refine lv_goto (tgt := 7) hx hb dX2_findAsked_69 (by decide) ?_
        exact ih7 (x2 + 1) S _ _ _ f1 hI (lv_sub hl [1, 2, 0] rfl) h
      unfold l_M_findAsked_7 at h
      refine lv_iload_n hx hb dX2_findAsked_7 rfl (lv_at hl 2 rfl) ?_
      refine lv_aload_n hx hb dX2_findAsked_8 rfl (lv_at hl 0 rfl) ?_
      refine gMX2_7_17 hF hK hI dX2_findAsked_9 ?_
      refine nr_iconst hx hb dX2_findAsked_12 ?_
      refine s_iald hx hb hK hI 0 (by decide) wM_0 (by decide) (by decide) dX2_findAsked_13 (fun f2 => ?_)
      replace h := h f2
      refine nr_icmp_ge hx hb rx2 f2 dX2_findAsked_14 (tgt := 72) (by decide) (fun c3 => ?_) (fun c3 => ?_)
      · replace h := h.1 c3
        rw [← hQ]; exact s_vret (K := K) hx hb hr hlocks hI  h dX2_findAsked_72
      · replace h := h.2 c3
        refine lv_iload_n hx hb dX2_findAsked_17 rfl (lv_at hl 1 rfl) ?_
        refine lv_aload_n hx hb dX2_findAsked_18 rfl (lv_at hl 0 rfl) ?_
        refine gMX2_7_17 hF hK hI dX2_findAsked_19 ?_
        refine lv_iload_n hx hb dX2_findAsked_22 rfl (lv_at hl 2 rfl) ?_
        refine cMX2_87 hF hK hI hl.1 hR (by decide) (Nat.le_of_ble_eq_true rfl) ⟨Nat.zero_le _, Nat.zero_le _⟩ rx2 h dX2_findAsked_23 (fun r4 H locs fr4 h hI => ?_)
        replace h := h fr4
        refine nr_iconst hx hb dX2_findAsked_26 ?_
        have f6 := h.1; replace h := h.2
        refine nr_iadd hx hb dX2_findAsked_27 ?_
        have f7 := h.1; replace h := h.2
        refine s_iald hx hb hK hI 0 (by decide) wM_0 f6 f7 dX2_findAsked_28 (fun f8 => ?_)
        replace h := h f8
        have f9 := h.1; replace h := h.2
        refine nr_ishr hx hb f9 rx1 dX2_findAsked_29 ?_
        have f10 : InR (x1 / 2 ^ (Int.toNat (aI S 0 (r4 + 3)))) := ni_shrR rx1
        refine nr_iconst hx hb dX2_findAsked_30 ?_
        refine nr_mask hx hb 1 (by decide) (by decide) dX2_findAsked_31 ?_
        have f11 : InR ((x1 / 2 ^ (Int.toNat (aI S 0 (r4 + 3)))) % 2) := by omega
        refine nr_if_eq hx hb f11 dX2_findAsked_32 (tgt := 66) (by decide) (fun c12 => ?_) (fun c12 => ?_)
        · replace h := h.1 c12
          exact J66 x2 S _ _ _ rx2 hI (lv_sub hl [0, 1, 2] rfl) h
        · replace h := h.2 c12
          refine lv_aload_n hx hb dX2_findAsked_35 rfl (lv_at hl 0 rfl) ?_
          refine lv_iload_n hx hb dX2_findAsked_36 rfl (lv_at hl 2 rfl) ?_
          refine cMX2_306 hF hK hI hl.1 hR (by decide) (Nat.le_of_ble_eq_true rfl) ⟨Nat.zero_le _, Nat.zero_le _⟩ rx2 h dX2_findAsked_37 (fun r13 S14 H locs fr13 h hI => ?_)
          replace h := h fr13
          have gr13 : InR r13 := kdP_R (k := 2) (by decide) fr13
          refine nr_if_ne hx hb gr13 dX2_findAsked_40 (tgt := 46) (by decide) (fun c15 => ?_) (fun c15 => ?_)
          · replace h := h.1 c15
            refine lv_aload_n hx hb dX2_findAsked_46 rfl (lv_at hl 0 rfl) ?_
            refine gMX2_43_17 hF hK hI dX2_findAsked_47 ?_
            refine lv_aload_n hx hb dX2_findAsked_50 rfl (lv_at hl 0 rfl) ?_
            refine gMX2_309_17 hF hK hI dX2_findAsked_51 (fun f16 => ?_)
            replace h := h f16
            refine lv_iload_n hx hb dX2_findAsked_54 rfl (lv_at hl 2 rfl) ?_
            have f17 := h.1; replace h := h.2
            refine s_iast hx hb hK hI 8 (by decide) wM_8 f16 f17 rx2 dX2_findAsked_55 (fun S18 H locs eS18 hI => ?_)
            replace h := h S18 eS18
            refine lv_aload_n hx hb dX2_findAsked_56 rfl (lv_at hl 0 rfl) ?_
            refine lv_dup hx hb dX2_findAsked_57 rfl ?_
            refine gMX2_309_17 hF hK hI dX2_findAsked_58 (fun f19 => ?_)
            replace h := h f19
            refine nr_iconst hx hb dX2_findAsked_61 ?_
            have f20 := h.1; replace h := h.2
            refine nr_iadd hx hb dX2_findAsked_62 ?_
            refine uMX2_309_17 hF hK hI f20 dX2_findAsked_63 (fun S21 H locs eS21 hI => ?_)
            replace h := h S21 eS21
            exact J66 x2 S21 _ _ _ rx2 hI (lv_sub hl [0, 1, 2] rfl) h
          · replace h := h.2 c15
            refine lv_goto (tgt := 66) hx hb dX2_findAsked_43 (by decide) ?_
            exact J66 x2 S14 _ _ _ rx2 hI (lv_sub hl [0, 1, 2] rfl) h
  unfold w_M_findAsked at h
  refine lv_aload_n hx hb dX2_findAsked_0 rfl (lv_at hl 0 rfl) ?_
  refine nr_iconst hx hb dX2_findAsked_1 ?_
  refine uMX2_309_17 hF hK hI (by decide) dX2_findAsked_2 (fun S22 H locs eS22 hI => ?_)
  replace h := h S22 eS22
  refine nr_iconst hx hb dX2_findAsked_5 ?_
  refine lv_istore_n (lv' := [(2, iV 0), (0, .ref (ad 17)), (1, iV x1)]) hx hb dX2_findAsked_6 rfl hl (by decide) rfl (fun ls hl => ?_)
  obtain ⟨n0, h⟩ := h
  exact L7 x1 rx1 n0 0 S22 _ _ _ (by decide) hI (lv_sub hl [1, 2, 0] rfl) h
set_option maxHeartbeats 4000000 in
theorem t_M_isUnlike (l : Launch) (D : va_G) (dA : Nat → ClassId) (ad : Nat → Nat) (S : St) (sz : Nat) (x1 : Int) (x2 : Int) (K : Int → St → Prop) (rx1 : InR x1) (rx2 : InR x2) (h : w_M_isUnlike x1 x2 S K) : Met l yX2_isUnlike (ws_ yX2_isUnlike cX2_isUnlike 4 (Option.some Jvm.ClassFile.FieldType.boolean)) (rmD 3 0 0) (va_Pc [.ref (ad 17), iV x1, iV x2] (sPre D dA wM ad S sz)) (va_Qi (fun r S' => (r.toInt = 0 ∨ r.toInt = 1) ∧ (K r.toInt S')) (sPost D dA wM ad (wA wM ad S sz)) (wA wM ad S sz)) 0 0 (wA wM ad S sz) := by
  refine Met.ofW (cc := cX2_isUnlike) (maxL := 4) (ret := (Option.some Jvm.ClassFile.FieldType.boolean)) (by decide) rfl ?_
  intro p e s m args below meth c s₁ B hml hv
  obtain ⟨rfl, hsz, hK, hC⟩ := hv
  have hx := B.exec
  have hb := B.bytes
  have hr := B.returns
  have hlocks := B.notSynchronized
  have hts := atoms_spec (ws := (ws_ yX2_isUnlike cX2_isUnlike 4 (Option.some Jvm.ClassFile.FieldType.boolean))) B.pre
  have hts : ∀ w ∈ lw_all, w.before _ s = true := fun w h => hts w (List.mem_cons_of_mem _ h)
  have hown : s.vm.findClass RX2 = some m.cls := findClass_of_methodNamed B.named
  clear B
  subst hsz
  have hI : sI D dA wM ad (wA wM ad S s.heap.size) s.heap S s.heap [] := hC.start
  clear hC
  generalize wA wM ad S s.heap.size = A at hI ⊢
  have hl := lv_entry ([.ref (ad 17), iV x1, iV x2] : List Value) (n := 4) (Nat.le_of_ble_eq_true rfl)
  rw [lg_entry_eq]
  generalize (lg_sl ([.ref (ad 17), iV x1, iV x2] : List Value) ++ List.replicate (4 - (lg_sl ([.ref (ad 17), iV x1, iV x2] : List Value)).length) Slot.unset).toArray = ls at hl ⊢
  have hl : lv_has ls 4 [(0, .ref (ad 17)), (1, iV x1), (2, iV x2)] := hl
  have hF : CallFix p m c cX2_isUnlike 4 s _ lw_all RX2 := ⟨hx, hb, hml, hown, hts⟩
  have hR : (headSpec (ws_ yX2_isUnlike cX2_isUnlike 4 (Option.some Jvm.ClassFile.FieldType.boolean)) (rmD 3 0 0)).room.frames = 3 + 1 ∧ (headSpec (ws_ yX2_isUnlike cX2_isUnlike 4 (Option.some Jvm.ClassFile.FieldType.boolean)) (rmD 3 0 0)).room.locals = 64 * 3 + 64 := ⟨rfl, rfl⟩
  generalize (headSpec (ws_ yX2_isUnlike cX2_isUnlike 4 (Option.some Jvm.ClassFile.FieldType.boolean)) (rmD 3 0 0)).room = R at hR ⊢
  generalize ([.ref (ad 17), iV x1, iV x2] : List Value).toArray = args at hts hF ⊢
  generalize hQ : MQ below _ _ _ _ _ _ = Q
  unfold w_M_isUnlike at h
  refine lv_aload_n hx hb dX2_isUnlike_0 rfl (lv_at hl 0 rfl) ?_
  refine nr_iconst hx hb dX2_isUnlike_1 ?_
  refine cMX2_103 hF hK hI hl.1 hR (by decide) (Nat.le_of_ble_eq_true rfl) ⟨Nat.zero_le _, Nat.zero_le _⟩ (by decide) h dX2_isUnlike_2 (fun r1 H locs fr1 h hI => ?_)
  replace h := h fr1
  refine lv_istore_n (lv' := [(3, iV r1), (0, .ref (ad 17)), (1, iV x1), (2, iV x2)]) hx hb dX2_isUnlike_5 rfl hl (by decide) rfl (fun ls hl => ?_)
  refine lv_iload_n hx hb dX2_isUnlike_6 rfl (lv_at hl 0 rfl) ?_
  refine nr_if_ge hx hb fr1 dX2_isUnlike_7 (tgt := 12) (by decide) (fun c3 => ?_) (fun c3 => ?_)
  · replace h := h.1 c3
    refine lv_aload_n hx hb dX2_isUnlike_12 rfl (lv_at hl 1 rfl) ?_
    refine lv_iload_n hx hb dX2_isUnlike_13 rfl (lv_at hl 2 rfl) ?_
    refine lv_iload_n hx hb dX2_isUnlike_14 rfl (lv_at hl 3 rfl) ?_
    refine cMX2_106 hF hK hI hl.1 hR (by decide) (Nat.le_of_ble_eq_true rfl) ⟨Nat.zero_le _, Nat.zero_le _⟩ rx1 rx2 h dX2_isUnlike_15 (fun S5 H locs h hI => ?_)
    refine lv_aload_n hx hb dX2_isUnlike_18 rfl (lv_at hl 1 rfl) ?_
    refine lv_iload_n hx hb dX2_isUnlike_19 rfl (lv_at hl 0 rfl) ?_
    refine cMX2_110 hF hK hI hl.1 hR (by decide) (Nat.le_of_ble_eq_true rfl) ⟨Nat.zero_le _, Nat.zero_le _⟩ fr1 h dX2_isUnlike_20 (fun S7 H locs h hI => ?_)
    refine lv_aload_n hx hb dX2_isUnlike_23 rfl (lv_at hl 1 rfl) ?_
    refine gMX2_39_17 hF hK hI dX2_isUnlike_24 ?_
    refine nr_iconst hx hb dX2_isUnlike_27 ?_
    refine s_zald hx hb hK hI 7 (by decide) wM_7 (by decide) (by decide) dX2_isUnlike_28 (fun f8 f8z => ?_)
    replace h := h f8
    replace h := h f8z
    refine nr_if_eq hx hb f8 dX2_isUnlike_29 (tgt := 34) (by decide) (fun c9 => ?_) (fun c9 => ?_)
    · replace h := h.1 c9
      refine lv_aload_n hx hb dX2_isUnlike_34 rfl (lv_at hl 1 rfl) ?_
      refine lv_iload_n hx hb dX2_isUnlike_35 rfl (lv_at hl 3 rfl) ?_
      refine lv_iload_n hx hb dX2_isUnlike_36 rfl (lv_at hl 2 rfl) ?_
      refine cMX2_106 hF hK hI hl.1 hR (by decide) (Nat.le_of_ble_eq_true rfl) ⟨Nat.zero_le _, Nat.zero_le _⟩ rx2 rx1 h dX2_isUnlike_37 (fun S11 H locs h hI => ?_)
      refine lv_aload_n hx hb dX2_isUnlike_40 rfl (lv_at hl 1 rfl) ?_
      refine lv_iload_n hx hb dX2_isUnlike_41 rfl (lv_at hl 0 rfl) ?_
      refine cMX2_110 hF hK hI hl.1 hR (by decide) (Nat.le_of_ble_eq_true rfl) ⟨Nat.zero_le _, Nat.zero_le _⟩ fr1 h dX2_isUnlike_42 (fun S13 H locs h hI => ?_)
      refine lv_aload_n hx hb dX2_isUnlike_45 rfl (lv_at hl 1 rfl) ?_
      refine gMX2_39_17 hF hK hI dX2_isUnlike_46 ?_
      refine nr_iconst hx hb dX2_isUnlike_49 ?_
      refine s_zald hx hb hK hI 7 (by decide) wM_7 (by decide) (by decide) dX2_isUnlike_50 (fun f14 f14z => ?_)
      replace h := h f14
      replace h := h f14z
      rw [← hQ]; exact s_zret (K := K) hx hb hr hlocks hI f14z h dX2_isUnlike_51
    · replace h := h.2 c9
      refine nr_iconst hx hb dX2_isUnlike_32 ?_
      rw [← hQ]; exact s_zret (K := K) hx hb hr hlocks hI (by decide) h dX2_isUnlike_33
  · replace h := h.2 c3
    refine nr_iconst hx hb dX2_isUnlike_10 ?_
    rw [← hQ]; exact s_zret (K := K) hx hb hr hlocks hI (by decide) h dX2_isUnlike_11
set_option maxHeartbeats 4000000 in
theorem t_M_manyOf (l : Launch) (D : va_G) (dA : Nat → ClassId) (ad : Nat → Nat) (S : St) (sz : Nat) (x1 : Int) (K : Int → Prop) (rx1 : InR x1) (h : w_M_manyOf x1 S K) : Met l yX2_manyOf (ws_ yX2_manyOf cX2_manyOf 4 (Option.some Jvm.ClassFile.FieldType.int)) (rmD 0 0 0) (va_Pc [.ref (ad 17), iV x1] (sPre D dA wM ad S sz)) (va_Qi (fun r S' => S' = S ∧ K r.toInt) (sPost D dA wM ad (wA wM ad S sz)) (wA wM ad S sz)) 0 0 (wA wM ad S sz) := by
  refine Met.ofW (cc := cX2_manyOf) (maxL := 4) (ret := (Option.some Jvm.ClassFile.FieldType.int)) (by decide) rfl ?_
  intro p e s m args below meth c s₁ B hml hv
  obtain ⟨rfl, hsz, hK, hC⟩ := hv
  have hx := B.exec
  have hb := B.bytes
  have hr := B.returns
  have hlocks := B.notSynchronized
  have hts := atoms_spec (ws := (ws_ yX2_manyOf cX2_manyOf 4 (Option.some Jvm.ClassFile.FieldType.int))) B.pre
  have hts : ∀ w ∈ lw_all, w.before _ s = true := fun w h => hts w (List.mem_cons_of_mem _ h)
  have hown : s.vm.findClass RX2 = some m.cls := findClass_of_methodNamed B.named
  clear B
  subst hsz
  have hI : sI D dA wM ad (wA wM ad S s.heap.size) s.heap S s.heap [] := hC.start
  clear hC
  generalize wA wM ad S s.heap.size = A at hI ⊢
  have hl := lv_entry ([.ref (ad 17), iV x1] : List Value) (n := 4) (Nat.le_of_ble_eq_true rfl)
  rw [lg_entry_eq]
  generalize (lg_sl ([.ref (ad 17), iV x1] : List Value) ++ List.replicate (4 - (lg_sl ([.ref (ad 17), iV x1] : List Value)).length) Slot.unset).toArray = ls at hl ⊢
  have hl : lv_has ls 4 [(0, .ref (ad 17)), (1, iV x1)] := hl
  have hF : CallFix p m c cX2_manyOf 4 s _ lw_all RX2 := ⟨hx, hb, hml, hown, hts⟩
  have hR : (headSpec (ws_ yX2_manyOf cX2_manyOf 4 (Option.some Jvm.ClassFile.FieldType.int)) (rmD 0 0 0)).room.frames = 0 + 1 ∧ (headSpec (ws_ yX2_manyOf cX2_manyOf 4 (Option.some Jvm.ClassFile.FieldType.int)) (rmD 0 0 0)).room.locals = 64 * 0 + 64 := ⟨rfl, rfl⟩
  generalize (headSpec (ws_ yX2_manyOf cX2_manyOf 4 (Option.some Jvm.ClassFile.FieldType.int)) (rmD 0 0 0)).room = R at hR ⊢
  generalize ([.ref (ad 17), iV x1] : List Value).toArray = args at hts hF ⊢
  generalize hQ : MQ below _ _ _ _ _ _ = Q
  have L2 : ∀ (x1 : Int), InR x1 → ∀ (n2 : Nat) (x2 : Int) (H : Heap) (locs : List Loc) (ls : Array Slot), InR x2 → sI D dA wM ad A s.heap S H locs → lv_has ls 4 [(0, .ref (ad 17)), (1, iV x1), (2, iV x2)] → l_M_manyOf_2 x1 S K n2 x2 → W p l e R s m args below meth c H locs 0 0 Q (F0 m 2 ls []) := by
    intro x1 rx1 n2
    induction n2 with
    | zero => intro x2 H locs ls rx2 hI hl h; exact False.elim h
    | succ n2 ih2 =>
      intro x2 H locs ls rx2 hI hl h
      have J78 : ∀ (x2 : Int) (H : Heap) (locs : List Loc) (ls : Array Slot), InR x2 → sI D dA wM ad A s.heap S H locs → lv_has ls 4 [(0, .ref (ad 17)), (1, iV x1), (2, iV x2)] → j_M_manyOf_78 x1 x2 S K (l_M_manyOf_2 x1 S K n2) → W p l e R s m args below meth c H locs 0 0 Q (F0 m 78 ls []) := by
        intro x2 H locs ls rx2 hI hl h
        unfold j_M_manyOf_78 at h
        have f1 := h.1; replace h := h.2
        refine nr_iinc (lv' := [(2, iV (x2 + 1)), (0, .ref (ad 17)), (1, iV x1)]) hx hb dX2_manyOf_78 hl (k := 2) rfl (by decide) rfl (fun ls hl => ?_)
        refine lv_goto (tgt := 2) hx hb dX2_manyOf_81 (by decide) ?_
        exact ih2 (x2 + 1) _ _ _ f1 hI (lv_sub hl [1, 2, 0] rfl) h
      unfold l_M_manyOf_2 at h
      refine lv_aload_n hx hb dX2_manyOf_2 rfl (lv_at hl 0 rfl) ?_
      refine gMX2_7_17 hF hK hI dX2_manyOf_3 ?_
      refine nr_iconst hx hb dX2_manyOf_6 ?_
      refine s_iald hx hb hK hI 0 (by decide) wM_0 (by decide) (by decide) dX2_manyOf_7 (fun f2 => ?_)
      replace h := h f2
      refine nr_if_lt hx hb f2 dX2_manyOf_8 (tgt := 84) (by decide) (fun c3 => ?_) (fun c3 => ?_)
      · replace h := h.1 c3
        refine nr_iconst hx hb dX2_manyOf_84 ?_
        rw [← hQ]; exact s_iret (K := fun r S' => S' = S ∧ K r) hx hb hr hlocks hI (by decide) ⟨rfl, h⟩ dX2_manyOf_85
      · replace h := h.2 c3
        refine lv_iload_n hx hb dX2_manyOf_11 rfl (lv_at hl 2 rfl) ?_
        refine lv_aload_n hx hb dX2_manyOf_12 rfl (lv_at hl 0 rfl) ?_
        refine gMX2_16_17 hF hK hI dX2_manyOf_13 ?_
        refine nr_sipush hx hb dX2_manyOf_16 (by decide) ?_
        refine lv_aload_n hx hb dX2_manyOf_19 rfl (lv_at hl 0 rfl) ?_
        refine gMX2_7_17 hF hK hI dX2_manyOf_20 ?_
        refine nr_iconst hx hb dX2_manyOf_23 ?_
        refine s_iald hx hb hK hI 0 (by decide) wM_0 (by decide) (by decide) dX2_manyOf_24 (fun f4 => ?_)
        have f5 := h.1; replace h := h.2
        refine nr_imul hx hb dX2_manyOf_25 ?_
        have f6 := h.1; replace h := h.2
        refine s_iald hx hb hK hI 2 (by decide) wM_2 f5 f6 dX2_manyOf_26 (fun f7 => ?_)
        replace h := h f7
        refine nr_icmp_ge hx hb rx2 f7 dX2_manyOf_27 (tgt := 84) (by decide) (fun c8 => ?_) (fun c8 => ?_)
        · replace h := h.1 c8
          refine nr_iconst hx hb dX2_manyOf_84 ?_
          rw [← hQ]; exact s_iret (K := fun r S' => S' = S ∧ K r) hx hb hr hlocks hI (by decide) ⟨rfl, h⟩ dX2_manyOf_85
        · replace h := h.2 c8
          refine nr_sipush hx hb dX2_manyOf_30 (by decide) ?_
          refine lv_aload_n hx hb dX2_manyOf_33 rfl (lv_at hl 0 rfl) ?_
          refine gMX2_7_17 hF hK hI dX2_manyOf_34 ?_
          refine nr_iconst hx hb dX2_manyOf_37 ?_
          refine s_iald hx hb hK hI 0 (by decide) wM_0 (by decide) (by decide) dX2_manyOf_38 (fun f9 => ?_)
          refine nr_imul hx hb dX2_manyOf_39 ?_
          refine nr_iconst hx hb dX2_manyOf_40 ?_
          have f10 := h.1; replace h := h.2
          refine nr_iadd hx hb dX2_manyOf_41 ?_
          refine nr_iconst hx hb dX2_manyOf_42 ?_
          refine lv_iload_n hx hb dX2_manyOf_43 rfl (lv_at hl 2 rfl) ?_
          have f11 := h.1; replace h := h.2
          refine nr_imul hx hb dX2_manyOf_44 ?_
          have f12 := h.1; replace h := h.2
          refine nr_iadd hx hb dX2_manyOf_45 ?_
          refine nr_topi (fun v13 ev13 => ?_)
          have rv13 : InR v13 := by rw [ev13]; exact f12
          replace h := h v13 ev13 rv13
          refine lv_istore_n (lv' := [(3, iV v13), (0, .ref (ad 17)), (1, iV x1), (2, iV x2)]) hx hb dX2_manyOf_46 rfl hl (by decide) rfl (fun ls hl => ?_)
          refine lv_aload_n hx hb dX2_manyOf_47 rfl (lv_at hl 1 rfl) ?_
          refine gMX2_16_17 hF hK hI dX2_manyOf_48 ?_
          refine lv_iload_n hx hb dX2_manyOf_51 rfl (lv_at hl 0 rfl) ?_
          have f14 := h.1; replace h := h.2
          refine s_iald hx hb hK hI 2 (by decide) wM_2 rv13 f14 dX2_manyOf_52 (fun f15 => ?_)
          replace h := h f15
          refine nr_iconst hx hb dX2_manyOf_53 ?_
          refine nr_icmp_ne hx hb f15 (by decide) dX2_manyOf_54 (tgt := 78) (by decide) (fun c16 => ?_) (fun c16 => ?_)
          · replace h := h.1 c16
            exact J78 x2 _ _ _ rx2 hI (lv_sub hl [1, 2, 3] rfl) h
          · replace h := h.2 c16
            refine lv_aload_n hx hb dX2_manyOf_57 rfl (lv_at hl 1 rfl) ?_
            refine gMX2_16_17 hF hK hI dX2_manyOf_58 ?_
            refine lv_iload_n hx hb dX2_manyOf_61 rfl (lv_at hl 0 rfl) ?_
            refine nr_iconst hx hb dX2_manyOf_62 ?_
            have f17 := h.1; replace h := h.2
            refine nr_iadd hx hb dX2_manyOf_63 ?_
            have f18 := h.1; replace h := h.2
            refine s_iald hx hb hK hI 2 (by decide) wM_2 f17 f18 dX2_manyOf_64 (fun f19 => ?_)
            replace h := h f19
            refine lv_iload_n hx hb dX2_manyOf_65 rfl (lv_at hl 2 rfl) ?_
            refine nr_icmp_ne hx hb f19 rx1 dX2_manyOf_66 (tgt := 78) (by decide) (fun c20 => ?_) (fun c20 => ?_)
            · replace h := h.1 c20
              exact J78 x2 _ _ _ rx2 hI (lv_sub hl [1, 2, 3] rfl) h
            · replace h := h.2 c20
              refine lv_aload_n hx hb dX2_manyOf_69 rfl (lv_at hl 1 rfl) ?_
              refine gMX2_16_17 hF hK hI dX2_manyOf_70 ?_
              refine lv_iload_n hx hb dX2_manyOf_73 rfl (lv_at hl 0 rfl) ?_
              refine nr_iconst hx hb dX2_manyOf_74 ?_
              have f21 := h.1; replace h := h.2
              refine nr_iadd hx hb dX2_manyOf_75 ?_
              have f22 := h.1; replace h := h.2
              refine s_iald hx hb hK hI 2 (by decide) wM_2 f21 f22 dX2_manyOf_76 (fun f23 => ?_)
              replace h := h f23
              rw [← hQ]; exact s_iret (K := fun r S' => S' = S ∧ K r) hx hb hr hlocks hI f23 ⟨rfl, h⟩ dX2_manyOf_77
  unfold w_M_manyOf at h
  refine nr_iconst hx hb dX2_manyOf_0 ?_
  refine lv_istore_n (lv' := [(2, iV 0), (0, .ref (ad 17)), (1, iV x1)]) hx hb dX2_manyOf_1 rfl hl (by decide) rfl (fun ls hl => ?_)
  obtain ⟨n0, h⟩ := h
  exact L2 x1 rx1 n0 0 _ _ _ (by decide) hI (lv_sub hl [1, 2, 0] rfl) h
theorem cMX2_315 {p : Program} {l : Launch} {e : Env} {R : Room} {s : State} {m : MethodId} {args : Array Value} {below : List Frame} {meth : Method} {c : Code} {H : Heap} {locs : List Loc} {Q : State → Prop} {cc : ByteArray} {nL pc : Nat} {ls : Array Slot} {rest : List Value} {cells slots : Nat} {D : va_G} {dA : Nat → ClassId} {ad : Nat → Nat} {A : Nat → Prop} {H0 : Heap} {S : St} {dk : Nat} (hF : CallFix p m c cc nL s args lw_all RX2) (hK : gK D dA s) (hI : sI D dA wM ad A H0 S H locs) (hls : ls.size = nL) (hR : R.frames = dk + 1 ∧ R.locals = 64 * dk + 64) (hd : 3 + 1 ≤ dk) (hW : (rest.map fun v => v.category).sum ≤ 8) (hf : cells ≤ R.cells ∧ slots ≤ R.slots) {x1 : Int} {x2 : Int} {K : Int → St → Prop} (r1 : InR x1) (r2 : InR x2) (h : w_M_isUnlike x1 x2 S K) (hdg : decode cc pc = .ok (.invokevirtual 315, 3)) (kk : ∀ (r : Int) (S1 : St) (H1 : Heap) (locs1 : List Loc), (r = 0 ∨ r = 1) → K r S1 → sI D dA wM ad A H0 S1 H1 locs1 → W p l e R s m args below meth c H1 locs1 cells slots Q (F0 m (pc + 3) ls (iV r :: rest))) : W p l e R s m args below meth c H locs cells slots Q (F0 m (pc) ls (iV x2 :: iV x1 :: .ref (ad 17) :: rest)) := s_callVz (As := [iV x1, iV x2]) (rest := rest) (K := K) hF (t_M_isUnlike l D dA ad S H.size x1 x2 K r1 r2 h) (s_recv hK hI 17 (by decide) wM_17 rfl) (cwV 2 hF.2.2.2.2 (lw_V q1544 q1546 qs89 q109 q1547) rfl rfl rfl (by decide +kernel) ⟨by have h1 := hR.1; have h2 : (rmD 3 0 0).frames = 3 + 1 := rfl; omega, by have h1 := hR.2; have h2 : (rmD 3 0 0).locals = 64 * 3 + 64 := rfl; omega⟩) hK hI rfl hls rfl hW hdg hf kk
theorem gMX2_46_17 {p : Program} {l : Launch} {e : Env} {R : Room} {s : State} {m : MethodId} {args : Array Value} {below : List Frame} {meth : Method} {c : Code} {H : Heap} {locs : List Loc} {Q : State → Prop} {cc : ByteArray} {nL pc : Nat} {ls : Array Slot} {rest : List Value} {cells slots : Nat} {D : va_G} {dA : Nat → ClassId} {ad : Nat → Nat} {A : Nat → Prop} {H0 : Heap} {S : St} (hF : CallFix p m c cc nL s args lw_all RX2) (hK : gK D dA s) (hI : sI D dA wM ad A H0 S H locs) (hdg : decode cc pc = .ok (.getfield 46, 3)) (kk : W p l e R s m args below meth c H locs cells slots Q (F0 m (pc + 3) ls (.ref (ad 9) :: rest))) : W p l e R s m args below meth c H locs cells slots Q (F0 m (pc) ls (.ref (ad 17) :: rest)) := s_getr hF.1 hF.2.1 hF.2.2.2.2 hF.2.2.2.1 hK hI 17 (by decide) wM_17 rfl in_X2 26 (by decide) q1187 rfl 9 rfl hdg kk
theorem gMX2_49_17 {p : Program} {l : Launch} {e : Env} {R : Room} {s : State} {m : MethodId} {args : Array Value} {below : List Frame} {meth : Method} {c : Code} {H : Heap} {locs : List Loc} {Q : State → Prop} {cc : ByteArray} {nL pc : Nat} {ls : Array Slot} {rest : List Value} {cells slots : Nat} {D : va_G} {dA : Nat → ClassId} {ad : Nat → Nat} {A : Nat → Prop} {H0 : Heap} {S : St} (hF : CallFix p m c cc nL s args lw_all RX2) (hK : gK D dA s) (hI : sI D dA wM ad A H0 S H locs) (hdg : decode cc pc = .ok (.getfield 49, 3)) (kk : W p l e R s m args below meth c H locs cells slots Q (F0 m (pc + 3) ls (.ref (ad 10) :: rest))) : W p l e R s m args below meth c H locs cells slots Q (F0 m (pc) ls (.ref (ad 17) :: rest)) := s_getr hF.1 hF.2.1 hF.2.2.2.2 hF.2.2.2.1 hK hI 17 (by decide) wM_17 rfl in_X2 27 (by decide) q1188 rfl 10 rfl hdg kk
theorem cMX2_312 {p : Program} {l : Launch} {e : Env} {R : Room} {s : State} {m : MethodId} {args : Array Value} {below : List Frame} {meth : Method} {c : Code} {H : Heap} {locs : List Loc} {Q : State → Prop} {cc : ByteArray} {nL pc : Nat} {ls : Array Slot} {rest : List Value} {cells slots : Nat} {D : va_G} {dA : Nat → ClassId} {ad : Nat → Nat} {A : Nat → Prop} {H0 : Heap} {S : St} {dk : Nat} (hF : CallFix p m c cc nL s args lw_all RX2) (hK : gK D dA s) (hI : sI D dA wM ad A H0 S H locs) (hls : ls.size = nL) (hR : R.frames = dk + 1 ∧ R.locals = 64 * dk + 64) (hd : 0 + 1 ≤ dk) (hW : (rest.map fun v => v.category).sum ≤ 8) (hf : cells ≤ R.cells ∧ slots ≤ R.slots) {x1 : Int} {K : Int → Prop} (r1 : InR x1) (h : w_M_manyOf x1 S K) (hdg : decode cc pc = .ok (.invokevirtual 312, 3)) (kk : ∀ (r : Int) (H1 : Heap) (locs1 : List Loc), InR r → K r → sI D dA wM ad A H0 S H1 locs1 → W p l e R s m args below meth c H1 locs1 cells slots Q (F0 m (pc + 3) ls (iV r :: rest))) : W p l e R s m args below meth c H locs cells slots Q (F0 m (pc) ls (iV x1 :: .ref (ad 17) :: rest)) := s_callVi (As := [iV x1]) (rest := rest) (K := fun r S' => S' = S ∧ K r) hF (t_M_manyOf l D dA ad S H.size x1 K r1 h) (s_recv hK hI 17 (by decide) wM_17 rfl) (cwV 1 hF.2.2.2.2 (lw_V q1540 q1542 qs88 q109 q1543) rfl rfl rfl (by decide +kernel) ⟨by have h1 := hR.1; have h2 : (rmD 0 0 0).frames = 0 + 1 := rfl; omega, by have h1 := hR.2; have h2 : (rmD 0 0 0).locals = 64 * 0 + 64 := rfl; omega⟩) hK hI rfl hls rfl hW hdg hf (fun r S1 H1 locs1 f hk hI1 => by obtain ⟨rfl, hk⟩ := hk; exact kk r H1 locs1 f hk hI1)
set_option maxHeartbeats 4000000 in
theorem t_M_findBarred (l : Launch) (D : va_G) (dA : Nat → ClassId) (ad : Nat → Nat) (S : St) (sz : Nat) (K : St → Prop) (h : w_M_findBarred S K) : Met l yX2_findBarred (ws_ yX2_findBarred cX2_findBarred 3 (Option.none : Option Jvm.ClassFile.FieldType)) (rmD 4 0 0) (va_Pc [.ref (ad 17)] (sPre D dA wM ad S sz)) (va_Qv (fun S' => K S') (sPost D dA wM ad (wA wM ad S sz)) (wA wM ad S sz)) 0 0 (wA wM ad S sz) := by
  refine Met.ofW (cc := cX2_findBarred) (maxL := 3) (ret := (Option.none : Option Jvm.ClassFile.FieldType)) (by decide) rfl ?_
  intro p e s m args below meth c s₁ B hml hv
  obtain ⟨rfl, hsz, hK, hC⟩ := hv
  have hx := B.exec
  have hb := B.bytes
  have hr := B.returns
  have hlocks := B.notSynchronized
  have hts := atoms_spec (ws := (ws_ yX2_findBarred cX2_findBarred 3 (Option.none : Option Jvm.ClassFile.FieldType))) B.pre
  have hts : ∀ w ∈ lw_all, w.before _ s = true := fun w h => hts w (List.mem_cons_of_mem _ h)
  have hown : s.vm.findClass RX2 = some m.cls := findClass_of_methodNamed B.named
  clear B
  subst hsz
  have hI : sI D dA wM ad (wA wM ad S s.heap.size) s.heap S s.heap [] := hC.start
  clear hC
  generalize wA wM ad S s.heap.size = A at hI ⊢
  have hl := lv_entry ([.ref (ad 17)] : List Value) (n := 3) (Nat.le_of_ble_eq_true rfl)
  rw [lg_entry_eq]
  generalize (lg_sl ([.ref (ad 17)] : List Value) ++ List.replicate (3 - (lg_sl ([.ref (ad 17)] : List Value)).length) Slot.unset).toArray = ls at hl ⊢
  have hl : lv_has ls 3 [(0, .ref (ad 17))] := hl
  have hF : CallFix p m c cX2_findBarred 3 s _ lw_all RX2 := ⟨hx, hb, hml, hown, hts⟩
  have hR : (headSpec (ws_ yX2_findBarred cX2_findBarred 3 (Option.none : Option Jvm.ClassFile.FieldType)) (rmD 4 0 0)).room.frames = 4 + 1 ∧ (headSpec (ws_ yX2_findBarred cX2_findBarred 3 (Option.none : Option Jvm.ClassFile.FieldType)) (rmD 4 0 0)).room.locals = 64 * 4 + 64 := ⟨rfl, rfl⟩
  generalize (headSpec (ws_ yX2_findBarred cX2_findBarred 3 (Option.none : Option Jvm.ClassFile.FieldType)) (rmD 4 0 0)).room = R at hR ⊢
  generalize ([.ref (ad 17)] : List Value).toArray = args at hts hF ⊢
  generalize hQ : MQ below _ _ _ _ _ _ = Q
  have L2 : ∀ (n2 : Nat) (x1 : Int) (S : St) (H : Heap) (locs : List Loc) (ls : Array Slot), InR x1 → sI D dA wM ad A s.heap S H locs → lv_has ls 3 [(0, .ref (ad 17)), (1, iV x1)] → l_M_findBarred_2 K n2 x1 S → W p l e R s m args below meth c H locs 0 0 Q (F0 m 2 ls []) := by
    intro n2
    induction n2 with
    | zero => intro x1 S H locs ls rx1 hI hl h; exact False.elim h
    | succ n2 ih2 =>
      intro x1 S H locs ls rx1 hI hl h
      have J93 : ∀ (x1 : Int) (S : St) (H : Heap) (locs : List Loc) (ls : Array Slot), InR x1 → sI D dA wM ad A s.heap S H locs → lv_has ls 3 [(0, .ref (ad 17)), (1, iV x1)] → j_M_findBarred_93 x1 S K (l_M_findBarred_2 K n2) → W p l e R s m args below meth c H locs 0 0 Q (F0 m 93 ls []) := by
        intro x1 S H locs ls rx1 hI hl h
        unfold j_M_findBarred_93 at h
        have f1 := h.1; replace h := h.2
        refine nr_iinc (lv' := [(1, iV (x1 + 1)), (0, .ref (ad 17))]) hx hb dX2_findBarred_93 hl (k := 1) rfl (by decide) rfl (fun ls hl => ?_)
        refine lv_goto (tgt := 2) hx hb dX2_findBarred_96 (by decide) ?_
        exact ih2 (x1 + 1) S _ _ _ f1 hI (lv_sub hl [1, 0] rfl) h
      have L43 : ∀ (x1 : Int), InR x1 → ∀ (n43 : Nat) (x2 : Int) (S : St) (H : Heap) (locs : List Loc) (ls : Array Slot), InR x2 → sI D dA wM ad A s.heap S H locs → lv_has ls 3 [(0, .ref (ad 17)), (1, iV x1), (2, iV x2)] → l_M_findBarred_43 x1 K (fun (zS : St) => j_M_findBarred_93 x1 zS K (l_M_findBarred_2 K n2)) n43 x2 S → W p l e R s m args below meth c H locs 0 0 Q (F0 m 43 ls []) := by
        intro x1 rx1 n43
        induction n43 with
        | zero => intro x2 S H locs ls rx2 hI hl h; exact False.elim h
        | succ n43 ih43 =>
          intro x2 S H locs ls rx2 hI hl h
          have J87 : ∀ (x2 : Int) (S : St) (H : Heap) (locs : List Loc) (ls : Array Slot), InR x2 → sI D dA wM ad A s.heap S H locs → lv_has ls 3 [(0, .ref (ad 17)), (1, iV x1), (2, iV x2)] → j_M_findBarred_87 x1 x2 S K (fun (zS : St) => j_M_findBarred_93 x1 zS K (l_M_findBarred_2 K n2)) (l_M_findBarred_43 x1 K (fun (zS : St) => j_M_findBarred_93 x1 zS K (l_M_findBarred_2 K n2)) n43) → W p l e R s m args below meth c H locs 0 0 Q (F0 m 87 ls []) := by
            intro x2 S H locs ls rx2 hI hl h
            unfold j_M_findBarred_87 at h
            have f2 := h.1; replace h := h.2
            refine nr_iinc (lv' := [(2, iV (x2 + 1)), (0, .ref (ad 17)), (1, iV x1)]) hx hb dX2_findBarred_87 hl (k := 2) rfl (by decide) rfl (fun ls hl => ?_)
            refine lv_goto (tgt := 43) hx hb dX2_findBarred_90 (by decide) ?_
            exact ih43 (x2 + 1) S _ _ _ f2 hI (lv_sub hl [1, 2, 0] rfl) h
          unfold l_M_findBarred_43 at h
          refine lv_iload_n hx hb dX2_findBarred_43 rfl (lv_at hl 2 rfl) ?_
          refine lv_aload_n hx hb dX2_findBarred_44 rfl (lv_at hl 0 rfl) ?_
          refine gMX2_309_17 hF hK hI dX2_findBarred_45 (fun f3 => ?_)
          replace h := h f3
          refine nr_icmp_ge hx hb rx2 f3 dX2_findBarred_48 (tgt := 93) (by decide) (fun c4 => ?_) (fun c4 => ?_)
          · replace h := h.1 c4
            exact J93 x1 S _ _ _ rx1 hI (lv_sub hl [0, 1] rfl) h
          · replace h := h.2 c4
            refine lv_iload_n hx hb dX2_findBarred_51 rfl (lv_at hl 1 rfl) ?_
            refine lv_iload_n hx hb dX2_findBarred_52 rfl (lv_at hl 2 rfl) ?_
            refine nr_icmp_eq hx hb rx1 rx2 dX2_findBarred_53 (tgt := 87) (by decide) (fun c5 => ?_) (fun c5 => ?_)
            · replace h := h.1 c5
              exact J87 x2 S _ _ _ rx2 hI (lv_sub hl [0, 1, 2] rfl) h
            · replace h := h.2 c5
              refine lv_aload_n hx hb dX2_findBarred_56 rfl (lv_at hl 0 rfl) ?_
              refine lv_aload_n hx hb dX2_findBarred_57 rfl (lv_at hl 0 rfl) ?_
              refine gMX2_43_17 hF hK hI dX2_findBarred_58 ?_
              refine lv_iload_n hx hb dX2_findBarred_61 rfl (lv_at hl 1 rfl) ?_
              have f6 := h.1; replace h := h.2
              refine s_iald hx hb hK hI 8 (by decide) wM_8 rx1 f6 dX2_findBarred_62 (fun f7 => ?_)
              replace h := h f7
              refine lv_aload_n hx hb dX2_findBarred_63 rfl (lv_at hl 0 rfl) ?_
              refine gMX2_43_17 hF hK hI dX2_findBarred_64 ?_
              refine lv_iload_n hx hb dX2_findBarred_67 rfl (lv_at hl 2 rfl) ?_
              have f8 := h.1; replace h := h.2
              refine s_iald hx hb hK hI 8 (by decide) wM_8 rx2 f8 dX2_findBarred_68 (fun f9 => ?_)
              replace h := h f9
              refine cMX2_315 hF hK hI hl.1 hR (by decide) (Nat.le_of_ble_eq_true rfl) ⟨Nat.zero_le _, Nat.zero_le _⟩ f7 f9 h dX2_findBarred_69 (fun r10 S11 H locs fr10 h hI => ?_)
              replace h := h fr10
              have gr10 : InR r10 := kdP_R (k := 2) (by decide) fr10
              refine nr_if_eq hx hb gr10 dX2_findBarred_72 (tgt := 87) (by decide) (fun c12 => ?_) (fun c12 => ?_)
              · replace h := h.1 c12
                exact J87 x2 S11 _ _ _ rx2 hI (lv_sub hl [0, 1, 2] rfl) h
              · replace h := h.2 c12
                refine lv_aload_n hx hb dX2_findBarred_75 rfl (lv_at hl 0 rfl) ?_
                refine gMX2_46_17 hF hK hI dX2_findBarred_76 ?_
                refine lv_iload_n hx hb dX2_findBarred_79 rfl (lv_at hl 1 rfl) ?_
                refine lv_dup2_11 hx hb dX2_findBarred_80 rfl rfl ?_
                have f13 := h.1; replace h := h.2
                refine s_iald hx hb hK hI 9 (by decide) wM_9 rx1 f13 dX2_findBarred_81 (fun f14 => ?_)
                replace h := h f14
                refine nr_iconst hx hb dX2_findBarred_82 ?_
                refine lv_iload_n hx hb dX2_findBarred_83 rfl (lv_at hl 2 rfl) ?_
                have f15 := h.1; replace h := h.2
                have f16 := h.1; replace h := h.2
                refine nr_ishl hx hb f15 f16 dX2_findBarred_84 ?_
                refine nr_ior hx hb dX2_findBarred_85 ?_
                have f17 := h.1; replace h := h.2
                refine s_iast hx hb hK hI 9 (by decide) wM_9 rx1 f17 (iOr_R _ _) dX2_findBarred_86 (fun S18 H locs eS18 hI => ?_)
                replace h := h S18 eS18
                exact J87 x2 S18 _ _ _ rx2 hI (lv_sub hl [0, 1, 2] rfl) h
      unfold l_M_findBarred_2 at h
      refine lv_iload_n hx hb dX2_findBarred_2 rfl (lv_at hl 1 rfl) ?_
      refine lv_aload_n hx hb dX2_findBarred_3 rfl (lv_at hl 0 rfl) ?_
      refine gMX2_309_17 hF hK hI dX2_findBarred_4 (fun f19 => ?_)
      replace h := h f19
      refine nr_icmp_ge hx hb rx1 f19 dX2_findBarred_7 (tgt := 99) (by decide) (fun c20 => ?_) (fun c20 => ?_)
      · replace h := h.1 c20
        rw [← hQ]; exact s_vret (K := K) hx hb hr hlocks hI  h dX2_findBarred_99
      · replace h := h.2 c20
        refine lv_aload_n hx hb dX2_findBarred_10 rfl (lv_at hl 0 rfl) ?_
        refine gMX2_46_17 hF hK hI dX2_findBarred_11 ?_
        refine lv_iload_n hx hb dX2_findBarred_14 rfl (lv_at hl 1 rfl) ?_
        refine nr_iconst hx hb dX2_findBarred_15 ?_
        have f21 := h.1; replace h := h.2
        refine s_iast hx hb hK hI 9 (by decide) wM_9 rx1 f21 (show InR (0) by decide) dX2_findBarred_16 (fun S22 H locs eS22 hI => ?_)
        replace h := h S22 eS22
        refine lv_aload_n hx hb dX2_findBarred_17 rfl (lv_at hl 0 rfl) ?_
        refine gMX2_49_17 hF hK hI dX2_findBarred_18 ?_
        refine lv_iload_n hx hb dX2_findBarred_21 rfl (lv_at hl 1 rfl) ?_
        refine lv_aload_n hx hb dX2_findBarred_22 rfl (lv_at hl 0 rfl) ?_
        refine lv_aload_n hx hb dX2_findBarred_23 rfl (lv_at hl 0 rfl) ?_
        refine gMX2_7_17 hF hK hI dX2_findBarred_24 ?_
        refine lv_aload_n hx hb dX2_findBarred_27 rfl (lv_at hl 0 rfl) ?_
        refine gMX2_43_17 hF hK hI dX2_findBarred_28 ?_
        refine lv_iload_n hx hb dX2_findBarred_31 rfl (lv_at hl 1 rfl) ?_
        have f23 := h.1; replace h := h.2
        refine s_iald hx hb hK hI 8 (by decide) wM_8 rx1 f23 dX2_findBarred_32 (fun f24 => ?_)
        replace h := h f24
        refine cMX2_87 hF hK hI hl.1 hR (by decide) (Nat.le_of_ble_eq_true rfl) ⟨Nat.zero_le _, Nat.zero_le _⟩ f24 h dX2_findBarred_33 (fun r25 H locs fr25 h hI => ?_)
        replace h := h fr25
        have f27 := h.1; replace h := h.2
        refine s_iald hx hb hK hI 0 (by decide) wM_0 fr25 f27 dX2_findBarred_36 (fun f28 => ?_)
        replace h := h f28
        refine cMX2_312 hF hK hI hl.1 hR (by decide) (Nat.le_of_ble_eq_true rfl) ⟨Nat.zero_le _, Nat.zero_le _⟩ f28 h dX2_findBarred_37 (fun r29 H locs fr29 h hI => ?_)
        replace h := h fr29
        have f31 := h.1; replace h := h.2
        refine s_iast hx hb hK hI 10 (by decide) wM_10 rx1 f31 fr29 dX2_findBarred_40 (fun S32 H locs eS32 hI => ?_)
        replace h := h S32 eS32
        refine nr_iconst hx hb dX2_findBarred_41 ?_
        refine lv_istore_n (lv' := [(2, iV 0), (0, .ref (ad 17)), (1, iV x1)]) hx hb dX2_findBarred_42 rfl hl (by decide) rfl (fun ls hl => ?_)
        obtain ⟨n0, h⟩ := h
        exact L43 x1 rx1 n0 0 S32 _ _ _ (by decide) hI (lv_sub hl [1, 2, 0] rfl) h
  unfold w_M_findBarred at h
  refine nr_iconst hx hb dX2_findBarred_0 ?_
  refine lv_istore_n (lv' := [(1, iV 0), (0, .ref (ad 17))]) hx hb dX2_findBarred_1 rfl hl (by decide) rfl (fun ls hl => ?_)
  obtain ⟨n0, h⟩ := h
  exact L2 n0 0 S _ _ _ (by decide) hI (lv_sub hl [1, 0] rfl) h
theorem gMX2_52_17 {p : Program} {l : Launch} {e : Env} {R : Room} {s : State} {m : MethodId} {args : Array Value} {below : List Frame} {meth : Method} {c : Code} {H : Heap} {locs : List Loc} {Q : State → Prop} {cc : ByteArray} {nL pc : Nat} {ls : Array Slot} {rest : List Value} {cells slots : Nat} {D : va_G} {dA : Nat → ClassId} {ad : Nat → Nat} {A : Nat → Prop} {H0 : Heap} {S : St} (hF : CallFix p m c cc nL s args lw_all RX2) (hK : gK D dA s) (hI : sI D dA wM ad A H0 S H locs) (hdg : decode cc pc = .ok (.getfield 52, 3)) (kk : W p l e R s m args below meth c H locs cells slots Q (F0 m (pc + 3) ls (.ref (ad 11) :: rest))) : W p l e R s m args below meth c H locs cells slots Q (F0 m (pc) ls (.ref (ad 17) :: rest)) := s_getr hF.1 hF.2.1 hF.2.2.2.2 hF.2.2.2.1 hK hI 17 (by decide) wM_17 rfl in_X2 28 (by decide) q1189 rfl 11 rfl hdg kk
set_option maxHeartbeats 4000000 in
theorem t_M_canHave (l : Launch) (D : va_G) (dA : Nat → ClassId) (ad : Nat → Nat) (S : St) (sz : Nat) (x1 : Int) (x2 : Int) (K : Int → Prop) (rx1 : InR x1) (rx2 : InR x2) (h : w_M_canHave x1 x2 S K) : Met l yX2_canHave (ws_ yX2_canHave cX2_canHave 5 (Option.some Jvm.ClassFile.FieldType.boolean)) (rmD 1 0 0) (va_Pc [.ref (ad 17), iV x1, iV x2] (sPre D dA wM ad S sz)) (va_Qi (fun r S' => (r.toInt = 0 ∨ r.toInt = 1) ∧ (S' = S ∧ K r.toInt)) (sPost D dA wM ad (wA wM ad S sz)) (wA wM ad S sz)) 0 0 (wA wM ad S sz) := by
  refine Met.ofW (cc := cX2_canHave) (maxL := 5) (ret := (Option.some Jvm.ClassFile.FieldType.boolean)) (by decide) rfl ?_
  intro p e s m args below meth c s₁ B hml hv
  obtain ⟨rfl, hsz, hK, hC⟩ := hv
  have hx := B.exec
  have hb := B.bytes
  have hr := B.returns
  have hlocks := B.notSynchronized
  have hts := atoms_spec (ws := (ws_ yX2_canHave cX2_canHave 5 (Option.some Jvm.ClassFile.FieldType.boolean))) B.pre
  have hts : ∀ w ∈ lw_all, w.before _ s = true := fun w h => hts w (List.mem_cons_of_mem _ h)
  have hown : s.vm.findClass RX2 = some m.cls := findClass_of_methodNamed B.named
  clear B
  subst hsz
  have hI : sI D dA wM ad (wA wM ad S s.heap.size) s.heap S s.heap [] := hC.start
  clear hC
  generalize wA wM ad S s.heap.size = A at hI ⊢
  have hl := lv_entry ([.ref (ad 17), iV x1, iV x2] : List Value) (n := 5) (Nat.le_of_ble_eq_true rfl)
  rw [lg_entry_eq]
  generalize (lg_sl ([.ref (ad 17), iV x1, iV x2] : List Value) ++ List.replicate (5 - (lg_sl ([.ref (ad 17), iV x1, iV x2] : List Value)).length) Slot.unset).toArray = ls at hl ⊢
  have hl : lv_has ls 5 [(0, .ref (ad 17)), (1, iV x1), (2, iV x2)] := hl
  have hF : CallFix p m c cX2_canHave 5 s _ lw_all RX2 := ⟨hx, hb, hml, hown, hts⟩
  have hR : (headSpec (ws_ yX2_canHave cX2_canHave 5 (Option.some Jvm.ClassFile.FieldType.boolean)) (rmD 1 0 0)).room.frames = 1 + 1 ∧ (headSpec (ws_ yX2_canHave cX2_canHave 5 (Option.some Jvm.ClassFile.FieldType.boolean)) (rmD 1 0 0)).room.locals = 64 * 1 + 64 := ⟨rfl, rfl⟩
  generalize (headSpec (ws_ yX2_canHave cX2_canHave 5 (Option.some Jvm.ClassFile.FieldType.boolean)) (rmD 1 0 0)).room = R at hR ⊢
  generalize ([.ref (ad 17), iV x1, iV x2] : List Value).toArray = args at hts hF ⊢
  generalize hQ : MQ below _ _ _ _ _ _ = Q
  have J88 : ∀ (x1 : Int) (x3 : Int) (H : Heap) (locs : List Loc) (ls : Array Slot), InR x1 → InR x3 → sI D dA wM ad A s.heap S H locs → lv_has ls 5 [(0, .ref (ad 17)), (1, iV x1), (3, iV x3)] → j_M_canHave_88 x1 x3 S K → W p l e R s m args below meth c H locs 0 0 Q (F0 m 88 ls []) := by
    intro x1 x3 H locs ls rx1 rx3 hI hl h
    unfold j_M_canHave_88 at h
    refine lv_iload_n hx hb dX2_canHave_88 rfl (lv_at hl 2 rfl) ?_
    refine lv_aload_n hx hb dX2_canHave_89 rfl (lv_at hl 0 rfl) ?_
    refine gMX2_49_17 hF hK hI dX2_canHave_90 ?_
    refine lv_iload_n hx hb dX2_canHave_93 rfl (lv_at hl 1 rfl) ?_
    have f1 := h.1; replace h := h.2
    refine s_iald hx hb hK hI 10 (by decide) wM_10 rx1 f1 dX2_canHave_94 (fun f2 => ?_)
    replace h := h f2
    refine nr_icmp_gt hx hb rx3 f2 dX2_canHave_95 (tgt := 102) (by decide) (fun c3 => ?_) (fun c3 => ?_)
    · replace h := h.1 c3
      refine nr_iconst hx hb dX2_canHave_102 ?_
      rw [← hQ]; exact s_zret (K := fun r S' => S' = S ∧ K r) hx hb hr hlocks hI (by decide) ⟨rfl, h⟩ dX2_canHave_103
    · replace h := h.2 c3
      refine nr_iconst hx hb dX2_canHave_98 ?_
      refine lv_goto (tgt := 103) hx hb dX2_canHave_99 (by decide) ?_
      rw [← hQ]; exact s_zret (K := fun r S' => S' = S ∧ K r) hx hb hr hlocks hI (by decide) ⟨rfl, h⟩ dX2_canHave_103
  have L5 : ∀ (x1 : Int) (x2 : Int), InR x1 → InR x2 → ∀ (n5 : Nat) (x3 : Int) (x4 : Int) (H : Heap) (locs : List Loc) (ls : Array Slot), InR x3 → InR x4 → sI D dA wM ad A s.heap S H locs → lv_has ls 5 [(0, .ref (ad 17)), (1, iV x1), (2, iV x2), (3, iV x3), (4, iV x4)] → l_M_canHave_5 x1 x2 S K (fun (z3 : Int) => j_M_canHave_88 x1 z3 S K) n5 x3 x4 → W p l e R s m args below meth c H locs 0 0 Q (F0 m 5 ls []) := by
    intro x1 x2 rx1 rx2 n5
    induction n5 with
    | zero => intro x3 x4 H locs ls rx3 rx4 hI hl h; exact False.elim h
    | succ n5 ih5 =>
      intro x3 x4 H locs ls rx3 rx4 hI hl h
      have J82 : ∀ (x3 : Int) (x4 : Int) (H : Heap) (locs : List Loc) (ls : Array Slot), InR x3 → InR x4 → sI D dA wM ad A s.heap S H locs → lv_has ls 5 [(0, .ref (ad 17)), (1, iV x1), (2, iV x2), (3, iV x3), (4, iV x4)] → j_M_canHave_82 x1 x2 x3 x4 S K (fun (z3 : Int) => j_M_canHave_88 x1 z3 S K) (l_M_canHave_5 x1 x2 S K (fun (z3 : Int) => j_M_canHave_88 x1 z3 S K) n5) → W p l e R s m args below meth c H locs 0 0 Q (F0 m 82 ls []) := by
        intro x3 x4 H locs ls rx3 rx4 hI hl h
        unfold j_M_canHave_82 at h
        have f4 := h.1; replace h := h.2
        refine nr_iinc (lv' := [(4, iV (x4 + 1)), (0, .ref (ad 17)), (1, iV x1), (2, iV x2), (3, iV x3)]) hx hb dX2_canHave_82 hl (k := 4) rfl (by decide) rfl (fun ls hl => ?_)
        refine lv_goto (tgt := 5) hx hb dX2_canHave_85 (by decide) ?_
        exact ih5 x3 (x4 + 1) _ _ _ rx3 f4 hI (lv_sub hl [1, 2, 3, 4, 0] rfl) h
      have J80 : ∀ (x4 : Int) (y0 : Int) (y1 : Int) (H : Heap) (locs : List Loc) (ls : Array Slot), InR x4 → InR y0 → InR y1 → sI D dA wM ad A s.heap S H locs → lv_has ls 5 [(0, .ref (ad 17)), (1, iV x1), (2, iV x2), (4, iV x4)] → j_M_canHave_80 x1 x2 x4 y0 y1 S K (fun (z3 : Int) => j_M_canHave_88 x1 z3 S K) (l_M_canHave_5 x1 x2 S K (fun (z3 : Int) => j_M_canHave_88 x1 z3 S K) n5) → W p l e R s m args below meth c H locs 0 0 Q (F0 m 80 ls [iV y1, iV y0]) := by
        intro x4 y0 y1 H locs ls rx4 ry0 ry1 hI hl h
        unfold j_M_canHave_80 at h
        have f5 := h.1; replace h := h.2
        refine nr_iadd hx hb dX2_canHave_80 ?_
        refine nr_topi (fun v6 ev6 => ?_)
        have rv6 : InR v6 := by rw [ev6]; exact f5
        replace h := h v6 ev6 rv6
        refine lv_istore_n (lv' := [(3, iV v6), (0, .ref (ad 17)), (1, iV x1), (2, iV x2), (4, iV x4)]) hx hb dX2_canHave_81 rfl hl (by decide) rfl (fun ls hl => ?_)
        exact J82 v6 x4 _ _ _ rv6 rx4 hI (lv_sub hl [1, 2, 3, 0, 4] rfl) h
      unfold l_M_canHave_5 at h
      refine lv_iload hx hb dX2_canHave_5 (lv_at hl 4 rfl) ?_
      refine lv_iload_n hx hb dX2_canHave_7 rfl (lv_at hl 1 rfl) ?_
      refine nr_icmp_ge hx hb rx4 rx1 dX2_canHave_8 (tgt := 88) (by decide) (fun c7 => ?_) (fun c7 => ?_)
      · replace h := h.1 c7
        exact J88 x1 x3 _ _ _ rx1 rx3 hI (lv_sub hl [0, 1, 3] rfl) h
      · replace h := h.2 c7
        refine lv_aload_n hx hb dX2_canHave_11 rfl (lv_at hl 0 rfl) ?_
        refine gMX2_52_17 hF hK hI dX2_canHave_12 ?_
        refine lv_iload hx hb dX2_canHave_15 (lv_at hl 4 rfl) ?_
        have f8 := h.1; replace h := h.2
        refine s_iald hx hb hK hI 11 (by decide) wM_11 rx4 f8 dX2_canHave_17 (fun f9 => ?_)
        replace h := h f9
        refine lv_iload_n hx hb dX2_canHave_18 rfl (lv_at hl 2 rfl) ?_
        refine nr_icmp_eq hx hb f9 rx2 dX2_canHave_19 (tgt := 25) (by decide) (fun c10 => ?_) (fun c10 => ?_)
        · replace h := h.1 c10
          refine lv_aload_n hx hb dX2_canHave_25 rfl (lv_at hl 0 rfl) ?_
          refine gMX2_46_17 hF hK hI dX2_canHave_26 ?_
          refine lv_iload_n hx hb dX2_canHave_29 rfl (lv_at hl 1 rfl) ?_
          have f11 := h.1; replace h := h.2
          refine s_iald hx hb hK hI 9 (by decide) wM_9 rx1 f11 dX2_canHave_30 (fun f12 => ?_)
          replace h := h f12
          refine lv_iload hx hb dX2_canHave_31 (lv_at hl 4 rfl) ?_
          have f13 := h.1; replace h := h.2
          refine nr_ishr hx hb f13 f12 dX2_canHave_33 ?_
          have f14 : InR ((aI S 9 x1) / 2 ^ (Int.toNat x4)) := ni_shrR f12
          refine nr_iconst hx hb dX2_canHave_34 ?_
          refine nr_mask hx hb 1 (by decide) (by decide) dX2_canHave_35 ?_
          have f15 : InR (((aI S 9 x1) / 2 ^ (Int.toNat x4)) % 2) := by omega
          refine nr_iconst hx hb dX2_canHave_36 ?_
          refine nr_icmp_ne hx hb f15 (by decide) dX2_canHave_37 (tgt := 42) (by decide) (fun c16 => ?_) (fun c16 => ?_)
          · replace h := h.1 c16
            refine lv_iload_n hx hb dX2_canHave_42 rfl (lv_at hl 3 rfl) ?_
            refine lv_aload_n hx hb dX2_canHave_43 rfl (lv_at hl 0 rfl) ?_
            refine gMX2_7_17 hF hK hI dX2_canHave_44 ?_
            refine lv_aload_n hx hb dX2_canHave_47 rfl (lv_at hl 0 rfl) ?_
            refine gMX2_43_17 hF hK hI dX2_canHave_48 ?_
            refine lv_iload hx hb dX2_canHave_51 (lv_at hl 4 rfl) ?_
            have f17 := h.1; replace h := h.2
            refine s_iald hx hb hK hI 8 (by decide) wM_8 rx4 f17 dX2_canHave_53 (fun f18 => ?_)
            replace h := h f18
            refine cMX2_87 hF hK hI hl.1 hR (by decide) (Nat.le_of_ble_eq_true rfl) ⟨Nat.zero_le _, Nat.zero_le _⟩ f18 h dX2_canHave_54 (fun r19 H locs fr19 h hI => ?_)
            replace h := h fr19
            have f21 := h.1; replace h := h.2
            refine s_iald hx hb hK hI 0 (by decide) wM_0 fr19 f21 dX2_canHave_57 (fun f22 => ?_)
            replace h := h f22
            refine lv_aload_n hx hb dX2_canHave_58 rfl (lv_at hl 0 rfl) ?_
            refine gMX2_7_17 hF hK hI dX2_canHave_59 ?_
            refine lv_aload_n hx hb dX2_canHave_62 rfl (lv_at hl 0 rfl) ?_
            refine gMX2_43_17 hF hK hI dX2_canHave_63 ?_
            refine lv_iload_n hx hb dX2_canHave_66 rfl (lv_at hl 1 rfl) ?_
            have f23 := h.1; replace h := h.2
            refine s_iald hx hb hK hI 8 (by decide) wM_8 rx1 f23 dX2_canHave_67 (fun f24 => ?_)
            replace h := h f24
            refine cMX2_87 hF hK hI hl.1 hR (by decide) (Nat.le_of_ble_eq_true rfl) ⟨Nat.zero_le _, Nat.zero_le _⟩ f24 h dX2_canHave_68 (fun r25 H locs fr25 h hI => ?_)
            replace h := h fr25
            have f27 := h.1; replace h := h.2
            refine s_iald hx hb hK hI 0 (by decide) wM_0 fr25 f27 dX2_canHave_71 (fun f28 => ?_)
            replace h := h f28
            refine nr_icmp_ne hx hb f22 f28 dX2_canHave_72 (tgt := 79) (by decide) (fun c29 => ?_) (fun c29 => ?_)
            · replace h := h.1 c29
              refine nr_iconst hx hb dX2_canHave_79 ?_
              exact J80 x4 x3 0 _ _ _ rx4 rx3 (by decide) hI (lv_sub hl [0, 1, 2, 4] rfl) h
            · replace h := h.2 c29
              refine nr_iconst hx hb dX2_canHave_75 ?_
              refine lv_goto (tgt := 80) hx hb dX2_canHave_76 (by decide) ?_
              exact J80 x4 x3 1 _ _ _ rx4 rx3 (by decide) hI (lv_sub hl [0, 1, 2, 4] rfl) h
          · replace h := h.2 c16
            refine nr_iconst hx hb dX2_canHave_40 ?_
            rw [← hQ]; exact s_zret (K := fun r S' => S' = S ∧ K r) hx hb hr hlocks hI (by decide) ⟨rfl, h⟩ dX2_canHave_41
        · replace h := h.2 c10
          refine lv_goto (tgt := 82) hx hb dX2_canHave_22 (by decide) ?_
          exact J82 x3 x4 _ _ _ rx3 rx4 hI (lv_sub hl [0, 1, 2, 3, 4] rfl) h
  unfold w_M_canHave at h
  refine nr_iconst hx hb dX2_canHave_0 ?_
  refine lv_istore_n (lv' := [(3, iV 1), (0, .ref (ad 17)), (1, iV x1), (2, iV x2)]) hx hb dX2_canHave_1 rfl hl (by decide) rfl (fun ls hl => ?_)
  refine nr_iconst hx hb dX2_canHave_2 ?_
  refine lv_istore (lv' := [(4, iV 0), (3, iV 1), (0, .ref (ad 17)), (1, iV x1), (2, iV x2)]) hx hb dX2_canHave_3 hl (by decide) rfl (fun ls hl => ?_)
  obtain ⟨n0, h⟩ := h
  exact L5 x1 x2 rx1 rx2 n0 1 0 _ _ _ (by decide) (by decide) hI (lv_sub hl [2, 3, 4, 1, 0] rfl) h
set_option maxHeartbeats 4000000 in
theorem t_M_used (l : Launch) (D : va_G) (dA : Nat → ClassId) (ad : Nat → Nat) (S : St) (sz : Nat) (x1 : Int) (K : Int → Prop) (rx1 : InR x1) (h : w_M_used x1 S K) : Met l yX2_used (ws_ yX2_used cX2_used 4 (Option.some Jvm.ClassFile.FieldType.int)) (rmD 0 0 0) (va_Pc [.ref (ad 17), iV x1] (sPre D dA wM ad S sz)) (va_Qi (fun r S' => S' = S ∧ K r.toInt) (sPost D dA wM ad (wA wM ad S sz)) (wA wM ad S sz)) 0 0 (wA wM ad S sz) := by
  refine Met.ofW (cc := cX2_used) (maxL := 4) (ret := (Option.some Jvm.ClassFile.FieldType.int)) (by decide) rfl ?_
  intro p e s m args below meth c s₁ B hml hv
  obtain ⟨rfl, hsz, hK, hC⟩ := hv
  have hx := B.exec
  have hb := B.bytes
  have hr := B.returns
  have hlocks := B.notSynchronized
  have hts := atoms_spec (ws := (ws_ yX2_used cX2_used 4 (Option.some Jvm.ClassFile.FieldType.int))) B.pre
  have hts : ∀ w ∈ lw_all, w.before _ s = true := fun w h => hts w (List.mem_cons_of_mem _ h)
  have hown : s.vm.findClass RX2 = some m.cls := findClass_of_methodNamed B.named
  clear B
  subst hsz
  have hI : sI D dA wM ad (wA wM ad S s.heap.size) s.heap S s.heap [] := hC.start
  clear hC
  generalize wA wM ad S s.heap.size = A at hI ⊢
  have hl := lv_entry ([.ref (ad 17), iV x1] : List Value) (n := 4) (Nat.le_of_ble_eq_true rfl)
  rw [lg_entry_eq]
  generalize (lg_sl ([.ref (ad 17), iV x1] : List Value) ++ List.replicate (4 - (lg_sl ([.ref (ad 17), iV x1] : List Value)).length) Slot.unset).toArray = ls at hl ⊢
  have hl : lv_has ls 4 [(0, .ref (ad 17)), (1, iV x1)] := hl
  have hF : CallFix p m c cX2_used 4 s _ lw_all RX2 := ⟨hx, hb, hml, hown, hts⟩
  have hR : (headSpec (ws_ yX2_used cX2_used 4 (Option.some Jvm.ClassFile.FieldType.int)) (rmD 0 0 0)).room.frames = 0 + 1 ∧ (headSpec (ws_ yX2_used cX2_used 4 (Option.some Jvm.ClassFile.FieldType.int)) (rmD 0 0 0)).room.locals = 64 * 0 + 64 := ⟨rfl, rfl⟩
  generalize (headSpec (ws_ yX2_used cX2_used 4 (Option.some Jvm.ClassFile.FieldType.int)) (rmD 0 0 0)).room = R at hR ⊢
  generalize ([.ref (ad 17), iV x1] : List Value).toArray = args at hts hF ⊢
  generalize hQ : MQ below _ _ _ _ _ _ = Q
  have L4 : ∀ (x1 : Int), InR x1 → ∀ (n4 : Nat) (x2 : Int) (x3 : Int) (H : Heap) (locs : List Loc) (ls : Array Slot), InR x2 → InR x3 → sI D dA wM ad A s.heap S H locs → lv_has ls 4 [(0, .ref (ad 17)), (1, iV x1), (2, iV x2), (3, iV x3)] → l_M_used_4 x1 S K n4 x2 x3 → W p l e R s m args below meth c H locs 0 0 Q (F0 m 4 ls []) := by
    intro x1 rx1 n4
    induction n4 with
    | zero => intro x2 x3 H locs ls rx2 rx3 hI hl h; exact False.elim h
    | succ n4 ih4 =>
      intro x2 x3 H locs ls rx2 rx3 hI hl h
      have J28 : ∀ (x2 : Int) (x3 : Int) (H : Heap) (locs : List Loc) (ls : Array Slot), InR x2 → InR x3 → sI D dA wM ad A s.heap S H locs → lv_has ls 4 [(0, .ref (ad 17)), (1, iV x1), (2, iV x2), (3, iV x3)] → j_M_used_28 x1 x2 x3 S K (l_M_used_4 x1 S K n4) → W p l e R s m args below meth c H locs 0 0 Q (F0 m 28 ls []) := by
        intro x2 x3 H locs ls rx2 rx3 hI hl h
        unfold j_M_used_28 at h
        have f1 := h.1; replace h := h.2
        refine nr_iinc (lv' := [(3, iV (x3 + 1)), (0, .ref (ad 17)), (1, iV x1), (2, iV x2)]) hx hb dX2_used_28 hl (k := 3) rfl (by decide) rfl (fun ls hl => ?_)
        refine lv_goto (tgt := 4) hx hb dX2_used_31 (by decide) ?_
        exact ih4 x2 (x3 + 1) _ _ _ rx2 f1 hI (lv_sub hl [1, 2, 3, 0] rfl) h
      unfold l_M_used_4 at h
      refine lv_iload_n hx hb dX2_used_4 rfl (lv_at hl 3 rfl) ?_
      refine lv_iload_n hx hb dX2_used_5 rfl (lv_at hl 1 rfl) ?_
      refine nr_icmp_ge hx hb rx3 rx1 dX2_used_6 (tgt := 34) (by decide) (fun c2 => ?_) (fun c2 => ?_)
      · replace h := h.1 c2
        refine lv_iload_n hx hb dX2_used_34 rfl (lv_at hl 2 rfl) ?_
        rw [← hQ]; exact s_iret (K := fun r S' => S' = S ∧ K r) hx hb hr hlocks hI rx2 ⟨rfl, h⟩ dX2_used_35
      · replace h := h.2 c2
        refine lv_aload_n hx hb dX2_used_9 rfl (lv_at hl 0 rfl) ?_
        refine gMX2_52_17 hF hK hI dX2_used_10 ?_
        refine lv_iload_n hx hb dX2_used_13 rfl (lv_at hl 3 rfl) ?_
        have f3 := h.1; replace h := h.2
        refine s_iald hx hb hK hI 11 (by decide) wM_11 rx3 f3 dX2_used_14 (fun f4 => ?_)
        replace h := h f4
        refine lv_iload_n hx hb dX2_used_15 rfl (lv_at hl 2 rfl) ?_
        refine nr_icmp_lt hx hb f4 rx2 dX2_used_16 (tgt := 28) (by decide) (fun c5 => ?_) (fun c5 => ?_)
        · replace h := h.1 c5
          exact J28 x2 x3 _ _ _ rx2 rx3 hI (lv_sub hl [0, 1, 2, 3] rfl) h
        · replace h := h.2 c5
          refine lv_aload_n hx hb dX2_used_19 rfl (lv_at hl 0 rfl) ?_
          refine gMX2_52_17 hF hK hI dX2_used_20 ?_
          refine lv_iload_n hx hb dX2_used_23 rfl (lv_at hl 3 rfl) ?_
          have f6 := h.1; replace h := h.2
          refine s_iald hx hb hK hI 11 (by decide) wM_11 rx3 f6 dX2_used_24 (fun f7 => ?_)
          refine nr_iconst hx hb dX2_used_25 ?_
          have f8 := h.1; replace h := h.2
          refine nr_iadd hx hb dX2_used_26 ?_
          refine nr_topi (fun v9 ev9 => ?_)
          have rv9 : InR v9 := by rw [ev9]; exact f8
          replace h := h v9 ev9 rv9
          refine lv_istore_n (lv' := [(2, iV v9), (0, .ref (ad 17)), (1, iV x1), (3, iV x3)]) hx hb dX2_used_27 rfl hl (by decide) rfl (fun ls hl => ?_)
          exact J28 v9 x3 _ _ _ rv9 rx3 hI (lv_sub hl [1, 2, 0, 3] rfl) h
  unfold w_M_used at h
  refine nr_iconst hx hb dX2_used_0 ?_
  refine lv_istore_n (lv' := [(2, iV 0), (0, .ref (ad 17)), (1, iV x1)]) hx hb dX2_used_1 rfl hl (by decide) rfl (fun ls hl => ?_)
  refine nr_iconst hx hb dX2_used_2 ?_
  refine lv_istore_n (lv' := [(3, iV 0), (2, iV 0), (0, .ref (ad 17)), (1, iV x1)]) hx hb dX2_used_3 rfl hl (by decide) rfl (fun ls hl => ?_)
  obtain ⟨n0, h⟩ := h
  exact L4 x1 rx1 n0 0 0 _ _ _ (by decide) (by decide) hI (lv_sub hl [2, 3, 1, 0] rfl) h
theorem cMX2_321 {p : Program} {l : Launch} {e : Env} {R : Room} {s : State} {m : MethodId} {args : Array Value} {below : List Frame} {meth : Method} {c : Code} {H : Heap} {locs : List Loc} {Q : State → Prop} {cc : ByteArray} {nL pc : Nat} {ls : Array Slot} {rest : List Value} {cells slots : Nat} {D : va_G} {dA : Nat → ClassId} {ad : Nat → Nat} {A : Nat → Prop} {H0 : Heap} {S : St} {dk : Nat} (hF : CallFix p m c cc nL s args lw_all RX2) (hK : gK D dA s) (hI : sI D dA wM ad A H0 S H locs) (hls : ls.size = nL) (hR : R.frames = dk + 1 ∧ R.locals = 64 * dk + 64) (hd : 1 + 1 ≤ dk) (hW : (rest.map fun v => v.category).sum ≤ 8) (hf : cells ≤ R.cells ∧ slots ≤ R.slots) {x1 : Int} {x2 : Int} {K : Int → Prop} (r1 : InR x1) (r2 : InR x2) (h : w_M_canHave x1 x2 S K) (hdg : decode cc pc = .ok (.invokevirtual 321, 3)) (kk : ∀ (r : Int) (H1 : Heap) (locs1 : List Loc), (r = 0 ∨ r = 1) → K r → sI D dA wM ad A H0 S H1 locs1 → W p l e R s m args below meth c H1 locs1 cells slots Q (F0 m (pc + 3) ls (iV r :: rest))) : W p l e R s m args below meth c H locs cells slots Q (F0 m (pc) ls (iV x2 :: iV x1 :: .ref (ad 17) :: rest)) := s_callVz (As := [iV x1, iV x2]) (rest := rest) (K := fun r S' => S' = S ∧ K r) hF (t_M_canHave l D dA ad S H.size x1 x2 K r1 r2 h) (s_recv hK hI 17 (by decide) wM_17 rfl) (cwV 2 hF.2.2.2.2 (lw_V q1556 q1558 qs92 q109 q1559) rfl rfl rfl (by decide +kernel) ⟨by have h1 := hR.1; have h2 : (rmD 1 0 0).frames = 1 + 1 := rfl; omega, by have h1 := hR.2; have h2 : (rmD 1 0 0).locals = 64 * 1 + 64 := rfl; omega⟩) hK hI rfl hls rfl hW hdg hf (fun r S1 H1 locs1 f hk hI1 => by obtain ⟨rfl, hk⟩ := hk; exact kk r H1 locs1 f hk hI1)
theorem cMX2_318 {p : Program} {l : Launch} {e : Env} {R : Room} {s : State} {m : MethodId} {args : Array Value} {below : List Frame} {meth : Method} {c : Code} {H : Heap} {locs : List Loc} {Q : State → Prop} {cc : ByteArray} {nL pc : Nat} {ls : Array Slot} {rest : List Value} {cells slots : Nat} {D : va_G} {dA : Nat → ClassId} {ad : Nat → Nat} {A : Nat → Prop} {H0 : Heap} {S : St} {dk : Nat} (hF : CallFix p m c cc nL s args lw_all RX2) (hK : gK D dA s) (hI : sI D dA wM ad A H0 S H locs) (hls : ls.size = nL) (hR : R.frames = dk + 1 ∧ R.locals = 64 * dk + 64) (hd : 0 + 1 ≤ dk) (hW : (rest.map fun v => v.category).sum ≤ 8) (hf : cells ≤ R.cells ∧ slots ≤ R.slots) {x1 : Int} {K : Int → Prop} (r1 : InR x1) (h : w_M_used x1 S K) (hdg : decode cc pc = .ok (.invokevirtual 318, 3)) (kk : ∀ (r : Int) (H1 : Heap) (locs1 : List Loc), InR r → K r → sI D dA wM ad A H0 S H1 locs1 → W p l e R s m args below meth c H1 locs1 cells slots Q (F0 m (pc + 3) ls (iV r :: rest))) : W p l e R s m args below meth c H locs cells slots Q (F0 m (pc) ls (iV x1 :: .ref (ad 17) :: rest)) := s_callVi (As := [iV x1]) (rest := rest) (K := fun r S' => S' = S ∧ K r) hF (t_M_used l D dA ad S H.size x1 K r1 h) (s_recv hK hI 17 (by decide) wM_17 rfl) (cwV 1 hF.2.2.2.2 (lw_V q1552 q1554 qs91 q109 q1555) rfl rfl rfl (by decide +kernel) ⟨by have h1 := hR.1; have h2 : (rmD 0 0 0).frames = 0 + 1 := rfl; omega, by have h1 := hR.2; have h2 : (rmD 0 0 0).locals = 64 * 0 + 64 := rfl; omega⟩) hK hI rfl hls rfl hW hdg hf (fun r S1 H1 locs1 f hk hI1 => by obtain ⟨rfl, hk⟩ := hk; exact kk r H1 locs1 f hk hI1)
set_option maxHeartbeats 4000000 in
theorem t_M_share (l : Launch) (D : va_G) (dA : Nat → ClassId) (ad : Nat → Nat) (S : St) (sz : Nat) (x1 : Int) (K : Int → St → Prop) (rx1 : InR x1) (h : w_M_share x1 S K) : Met l yX2_share (ws_ yX2_share cX2_share 4 (Option.some Jvm.ClassFile.FieldType.boolean)) (rmD 2 0 0) (va_Pc [.ref (ad 17), iV x1] (sPre D dA wM ad S sz)) (va_Qi (fun r S' => (r.toInt = 0 ∨ r.toInt = 1) ∧ (K r.toInt S')) (sPost D dA wM ad (wA wM ad S sz)) (wA wM ad S sz)) 0 0 (wA wM ad S sz) := by
  refine Met.ofW (cc := cX2_share) (maxL := 4) (ret := (Option.some Jvm.ClassFile.FieldType.boolean)) (by decide) rfl ?_
  intro p e s m args below meth c s₁ B hml hv
  obtain ⟨rfl, hsz, hK, hC⟩ := hv
  have hx := B.exec
  have hb := B.bytes
  have hr := B.returns
  have hlocks := B.notSynchronized
  have hts := atoms_spec (ws := (ws_ yX2_share cX2_share 4 (Option.some Jvm.ClassFile.FieldType.boolean))) B.pre
  have hts : ∀ w ∈ lw_all, w.before _ s = true := fun w h => hts w (List.mem_cons_of_mem _ h)
  have hown : s.vm.findClass RX2 = some m.cls := findClass_of_methodNamed B.named
  clear B
  subst hsz
  have hI : sI D dA wM ad (wA wM ad S s.heap.size) s.heap S s.heap [] := hC.start
  clear hC
  generalize wA wM ad S s.heap.size = A at hI ⊢
  have hl := lv_entry ([.ref (ad 17), iV x1] : List Value) (n := 4) (Nat.le_of_ble_eq_true rfl)
  rw [lg_entry_eq]
  generalize (lg_sl ([.ref (ad 17), iV x1] : List Value) ++ List.replicate (4 - (lg_sl ([.ref (ad 17), iV x1] : List Value)).length) Slot.unset).toArray = ls at hl ⊢
  have hl : lv_has ls 4 [(0, .ref (ad 17)), (1, iV x1)] := hl
  have hF : CallFix p m c cX2_share 4 s _ lw_all RX2 := ⟨hx, hb, hml, hown, hts⟩
  have hR : (headSpec (ws_ yX2_share cX2_share 4 (Option.some Jvm.ClassFile.FieldType.boolean)) (rmD 2 0 0)).room.frames = 2 + 1 ∧ (headSpec (ws_ yX2_share cX2_share 4 (Option.some Jvm.ClassFile.FieldType.boolean)) (rmD 2 0 0)).room.locals = 64 * 2 + 64 := ⟨rfl, rfl⟩
  generalize (headSpec (ws_ yX2_share cX2_share 4 (Option.some Jvm.ClassFile.FieldType.boolean)) (rmD 2 0 0)).room = R at hR ⊢
  generalize ([.ref (ad 17), iV x1] : List Value).toArray = args at hts hF ⊢
  generalize hQ : MQ below _ _ _ _ _ _ = Q
  have L9 : ∀ (x1 : Int), InR x1 → ∀ (n9 : Nat) (x2 : Int) (S : St) (H : Heap) (locs : List Loc) (ls : Array Slot), InR x2 → sI D dA wM ad A s.heap S H locs → lv_has ls 4 [(0, .ref (ad 17)), (1, iV x1), (2, iV x2)] → l_M_share_9 x1 K n9 x2 S → W p l e R s m args below meth c H locs 0 0 Q (F0 m 9 ls []) := by
    intro x1 rx1 n9
    induction n9 with
    | zero => intro x2 S H locs ls rx2 hI hl h; exact False.elim h
    | succ n9 ih9 =>
      intro x2 S H locs ls rx2 hI hl h
      have J104 : ∀ (x2 : Int) (S : St) (H : Heap) (locs : List Loc) (ls : Array Slot), InR x2 → sI D dA wM ad A s.heap S H locs → lv_has ls 4 [(0, .ref (ad 17)), (1, iV x1), (2, iV x2)] → j_M_share_104 x1 x2 S K (l_M_share_9 x1 K n9) → W p l e R s m args below meth c H locs 0 0 Q (F0 m 104 ls []) := by
        intro x2 S H locs ls rx2 hI hl h
        unfold j_M_share_104 at h
        have f1 := h.1; replace h := h.2
        refine nr_iinc (lv' := [(2, iV (x2 + (-1))), (0, .ref (ad 17)), (1, iV x1)]) hx hb dX2_share_104 hl (k := 2) rfl (by decide) rfl (fun ls hl => ?_)
        refine lv_goto (tgt := 9) hx hb dX2_share_107 (by decide) ?_
        exact ih9 (x2 + (-1)) S _ _ _ f1 hI (lv_sub hl [1, 2, 0] rfl) h
      have J84 : ∀ (x2 : Int) (x3 : Int) (S : St) (H : Heap) (locs : List Loc) (ls : Array Slot), InR x2 → InR x3 → sI D dA wM ad A s.heap S H locs → lv_has ls 4 [(0, .ref (ad 17)), (1, iV x1), (2, iV x2), (3, iV x3)] → j_M_share_84 x1 x2 x3 S K (l_M_share_9 x1 K n9) → W p l e R s m args below meth c H locs 0 0 Q (F0 m 84 ls []) := by
        intro x2 x3 S H locs ls rx2 rx3 hI hl h
        unfold j_M_share_84 at h
        refine lv_aload_n hx hb dX2_share_84 rfl (lv_at hl 0 rfl) ?_
        refine gMX2_52_17 hF hK hI dX2_share_85 ?_
        refine lv_iload_n hx hb dX2_share_88 rfl (lv_at hl 2 rfl) ?_
        have f2 := h.1; replace h := h.2
        refine s_iald hx hb hK hI 11 (by decide) wM_11 rx2 f2 dX2_share_89 (fun f3 => ?_)
        replace h := h f3
        refine lv_iload_n hx hb dX2_share_90 rfl (lv_at hl 3 rfl) ?_
        refine nr_icmp_gt hx hb f3 rx3 dX2_share_91 (tgt := 104) (by decide) (fun c4 => ?_) (fun c4 => ?_)
        · replace h := h.1 c4
          exact J104 x2 S _ _ _ rx2 hI (lv_sub hl [0, 1, 2] rfl) h
        · replace h := h.2 c4
          refine lv_aload_n hx hb dX2_share_94 rfl (lv_at hl 0 rfl) ?_
          refine gMX2_52_17 hF hK hI dX2_share_95 ?_
          refine lv_iload_n hx hb dX2_share_98 rfl (lv_at hl 2 rfl) ?_
          have f5 := h.1; replace h := h.2
          refine s_iald hx hb hK hI 11 (by decide) wM_11 rx2 f5 dX2_share_99 (fun f6 => ?_)
          refine lv_iload_n hx hb dX2_share_100 rfl (lv_at hl 1 rfl) ?_
          refine nr_icmp_lt hx hb f3 rx1 dX2_share_101 (tgt := 110) (by decide) (fun c7 => ?_) (fun c7 => ?_)
          · replace h := h.1 c7
            have f8 := h.1; replace h := h.2
            refine nr_iinc (lv' := [(2, iV (x2 + 1)), (0, .ref (ad 17)), (1, iV x1), (3, iV x3)]) hx hb dX2_share_110 hl (k := 2) rfl (by decide) rfl (fun ls hl => ?_)
            refine lv_aload_n hx hb dX2_share_113 rfl (lv_at hl 1 rfl) ?_
            refine gMX2_52_17 hF hK hI dX2_share_114 ?_
            refine lv_iload_n hx hb dX2_share_117 rfl (lv_at hl 0 rfl) ?_
            refine nr_iconst hx hb dX2_share_118 ?_
            have f9 := h.1; replace h := h.2
            refine s_iast hx hb hK hI 11 (by decide) wM_11 f8 f9 (show InR ((-1)) by decide) dX2_share_119 (fun S10 H locs eS10 hI => ?_)
            replace h := h S10 eS10
            refine lv_goto (tgt := 9) hx hb dX2_share_120 (by decide) ?_
            exact ih9 (x2 + 1) S10 _ _ _ f8 hI (lv_sub hl [1, 2, 0] rfl) h
          · replace h := h.2 c7
            exact J104 x2 S _ _ _ rx2 hI (lv_sub hl [0, 1, 2] rfl) h
      have L37 : ∀ (x2 : Int) (x3 : Int), InR x2 → InR x3 → ∀ (n37 : Nat) (S : St) (H : Heap) (locs : List Loc) (ls : Array Slot), sI D dA wM ad A s.heap S H locs → lv_has ls 4 [(0, .ref (ad 17)), (1, iV x1), (2, iV x2), (3, iV x3)] → l_M_share_37 x1 x2 x3 K (fun (zS : St) => j_M_share_84 x1 x2 x3 zS K (l_M_share_9 x1 K n9)) n37 S → W p l e R s m args below meth c H locs 0 0 Q (F0 m 37 ls []) := by
        intro x2 x3 rx2 rx3 n37
        induction n37 with
        | zero => intro S H locs ls hI hl h; exact False.elim h
        | succ n37 ih37 =>
          intro S H locs ls hI hl h
          unfold l_M_share_37 at h
          refine lv_aload_n hx hb dX2_share_37 rfl (lv_at hl 0 rfl) ?_
          refine gMX2_52_17 hF hK hI dX2_share_38 ?_
          refine lv_iload_n hx hb dX2_share_41 rfl (lv_at hl 2 rfl) ?_
          have f11 := h.1; replace h := h.2
          refine s_iald hx hb hK hI 11 (by decide) wM_11 rx2 f11 dX2_share_42 (fun f12 => ?_)
          replace h := h f12
          refine lv_iload_n hx hb dX2_share_43 rfl (lv_at hl 3 rfl) ?_
          refine nr_icmp_gt hx hb f12 rx3 dX2_share_44 (tgt := 84) (by decide) (fun c13 => ?_) (fun c13 => ?_)
          · replace h := h.1 c13
            exact J84 x2 x3 S _ _ _ rx2 rx3 hI (lv_sub hl [0, 1, 2, 3] rfl) h
          · replace h := h.2 c13
            refine lv_aload_n hx hb dX2_share_47 rfl (lv_at hl 0 rfl) ?_
            refine gMX2_52_17 hF hK hI dX2_share_48 ?_
            refine lv_iload_n hx hb dX2_share_51 rfl (lv_at hl 2 rfl) ?_
            have f14 := h.1; replace h := h.2
            refine s_iald hx hb hK hI 11 (by decide) wM_11 rx2 f14 dX2_share_52 (fun f15 => ?_)
            refine lv_iload_n hx hb dX2_share_53 rfl (lv_at hl 1 rfl) ?_
            refine nr_icmp_ge hx hb f12 rx1 dX2_share_54 (tgt := 84) (by decide) (fun c16 => ?_) (fun c16 => ?_)
            · replace h := h.1 c16
              exact J84 x2 x3 S _ _ _ rx2 rx3 hI (lv_sub hl [0, 1, 2, 3] rfl) h
            · replace h := h.2 c16
              refine lv_aload_n hx hb dX2_share_57 rfl (lv_at hl 0 rfl) ?_
              refine lv_iload_n hx hb dX2_share_58 rfl (lv_at hl 2 rfl) ?_
              refine lv_aload_n hx hb dX2_share_59 rfl (lv_at hl 0 rfl) ?_
              refine gMX2_52_17 hF hK hI dX2_share_60 ?_
              refine lv_iload_n hx hb dX2_share_63 rfl (lv_at hl 2 rfl) ?_
              have f17 := h.1; replace h := h.2
              refine s_iald hx hb hK hI 11 (by decide) wM_11 rx2 f17 dX2_share_64 (fun f18 => ?_)
              refine cMX2_321 hF hK hI hl.1 hR (by decide) (Nat.le_of_ble_eq_true rfl) ⟨Nat.zero_le _, Nat.zero_le _⟩ rx2 f12 h dX2_share_65 (fun r19 H locs fr19 h hI => ?_)
              replace h := h fr19
              have gr19 : InR r19 := kdP_R (k := 2) (by decide) fr19
              refine nr_if_ne hx hb gr19 dX2_share_68 (tgt := 84) (by decide) (fun c21 => ?_) (fun c21 => ?_)
              · replace h := h.1 c21
                exact J84 x2 x3 S _ _ _ rx2 rx3 hI (lv_sub hl [0, 1, 2, 3] rfl) h
              · replace h := h.2 c21
                refine lv_aload_n hx hb dX2_share_71 rfl (lv_at hl 0 rfl) ?_
                refine gMX2_52_17 hF hK hI dX2_share_72 ?_
                refine lv_iload_n hx hb dX2_share_75 rfl (lv_at hl 2 rfl) ?_
                refine lv_dup2_11 hx hb dX2_share_76 rfl rfl ?_
                have f22 := h.1; replace h := h.2
                refine s_iald hx hb hK hI 11 (by decide) wM_11 rx2 f22 dX2_share_77 (fun f23 => ?_)
                refine nr_iconst hx hb dX2_share_78 ?_
                have f24 := h.1; replace h := h.2
                refine nr_iadd hx hb dX2_share_79 ?_
                have f25 := h.1; replace h := h.2
                refine s_iast hx hb hK hI 11 (by decide) wM_11 rx2 f25 f24 dX2_share_80 (fun S26 H locs eS26 hI => ?_)
                replace h := h S26 eS26
                refine lv_goto (tgt := 37) hx hb dX2_share_81 (by decide) ?_
                exact ih37 S26 _ _ _ hI (lv_sub hl [0, 1, 2, 3] rfl) h
      unfold l_M_share_9 at h
      refine lv_iload_n hx hb dX2_share_9 rfl (lv_at hl 2 rfl) ?_
      refine nr_if_lt hx hb rx2 dX2_share_10 (tgt := 123) (by decide) (fun c27 => ?_) (fun c27 => ?_)
      · replace h := h.1 c27
        refine lv_iload_n hx hb dX2_share_123 rfl (lv_at hl 2 rfl) ?_
        refine nr_if_lt hx hb rx2 dX2_share_124 (tgt := 131) (by decide) (fun c28 => ?_) (fun c28 => ?_)
        · replace h := h.1 c28
          refine nr_iconst hx hb dX2_share_131 ?_
          rw [← hQ]; exact s_zret (K := K) hx hb hr hlocks hI (by decide) h dX2_share_132
        · replace h := h.2 c28
          refine nr_iconst hx hb dX2_share_127 ?_
          refine lv_goto (tgt := 132) hx hb dX2_share_128 (by decide) ?_
          rw [← hQ]; exact s_zret (K := K) hx hb hr hlocks hI (by decide) h dX2_share_132
      · replace h := h.2 c27
        refine lv_iload_n hx hb dX2_share_13 rfl (lv_at hl 2 rfl) ?_
        refine lv_aload_n hx hb dX2_share_14 rfl (lv_at hl 0 rfl) ?_
        refine gMX2_309_17 hF hK hI dX2_share_15 (fun f29 => ?_)
        replace h := h f29
        refine nr_icmp_ge hx hb rx2 f29 dX2_share_18 (tgt := 123) (by decide) (fun c30 => ?_) (fun c30 => ?_)
        · replace h := h.1 c30
          refine lv_iload_n hx hb dX2_share_123 rfl (lv_at hl 2 rfl) ?_
          refine nr_if_lt hx hb rx2 dX2_share_124 (tgt := 131) (by decide) (fun c31 => ?_) (fun c31 => ?_)
          · replace h := h.1 c31
            refine nr_iconst hx hb dX2_share_131 ?_
            rw [← hQ]; exact s_zret (K := K) hx hb hr hlocks hI (by decide) h dX2_share_132
          · replace h := h.2 c31
            refine nr_iconst hx hb dX2_share_127 ?_
            refine lv_goto (tgt := 132) hx hb dX2_share_128 (by decide) ?_
            rw [← hQ]; exact s_zret (K := K) hx hb hr hlocks hI (by decide) h dX2_share_132
        · replace h := h.2 c30
          refine lv_aload_n hx hb dX2_share_21 rfl (lv_at hl 0 rfl) ?_
          refine lv_iload_n hx hb dX2_share_22 rfl (lv_at hl 2 rfl) ?_
          refine cMX2_318 hF hK hI hl.1 hR (by decide) (Nat.le_of_ble_eq_true rfl) ⟨Nat.zero_le _, Nat.zero_le _⟩ rx2 h dX2_share_23 (fun r32 H locs fr32 h hI => ?_)
          replace h := h fr32
          refine lv_istore_n (lv' := [(3, iV r32), (0, .ref (ad 17)), (1, iV x1), (2, iV x2)]) hx hb dX2_share_26 rfl hl (by decide) rfl (fun ls hl => ?_)
          refine lv_aload_n hx hb dX2_share_27 rfl (lv_at hl 1 rfl) ?_
          refine gMX2_52_17 hF hK hI dX2_share_28 ?_
          refine lv_iload_n hx hb dX2_share_31 rfl (lv_at hl 3 rfl) ?_
          refine lv_dup2_11 hx hb dX2_share_32 rfl rfl ?_
          have f34 := h.1; replace h := h.2
          refine s_iald hx hb hK hI 11 (by decide) wM_11 rx2 f34 dX2_share_33 (fun f35 => ?_)
          replace h := h f35
          refine nr_iconst hx hb dX2_share_34 ?_
          have f36 := h.1; replace h := h.2
          refine nr_iadd hx hb dX2_share_35 ?_
          have f37 := h.1; replace h := h.2
          refine s_iast hx hb hK hI 11 (by decide) wM_11 rx2 f37 f36 dX2_share_36 (fun S38 H locs eS38 hI => ?_)
          replace h := h S38 eS38
          obtain ⟨n0, h⟩ := h
          exact L37 x2 r32 rx2 fr32 n0 S38 _ _ _ hI (lv_sub hl [1, 2, 3, 0] rfl) h
  unfold w_M_share at h
  refine nr_iconst hx hb dX2_share_0 ?_
  refine lv_istore_n (lv' := [(2, iV 0), (0, .ref (ad 17)), (1, iV x1)]) hx hb dX2_share_1 rfl hl (by decide) rfl (fun ls hl => ?_)
  refine lv_aload_n hx hb dX2_share_2 rfl (lv_at hl 1 rfl) ?_
  refine gMX2_52_17 hF hK hI dX2_share_3 ?_
  refine nr_iconst hx hb dX2_share_6 ?_
  refine nr_iconst hx hb dX2_share_7 ?_
  refine s_iast hx hb hK hI 11 (by decide) wM_11 (by decide) (by decide) (show InR ((-1)) by decide) dX2_share_8 (fun S39 H locs eS39 hI => ?_)
  replace h := h S39 eS39
  obtain ⟨n0, h⟩ := h
  exact L9 x1 rx1 n0 0 S39 _ _ _ (by decide) hI (lv_sub hl [1, 2, 0] rfl) h
theorem cMX2_330 {p : Program} {l : Launch} {e : Env} {R : Room} {s : State} {m : MethodId} {args : Array Value} {below : List Frame} {meth : Method} {c : Code} {H : Heap} {locs : List Loc} {Q : State → Prop} {cc : ByteArray} {nL pc : Nat} {ls : Array Slot} {rest : List Value} {cells slots : Nat} {D : va_G} {dA : Nat → ClassId} {ad : Nat → Nat} {A : Nat → Prop} {H0 : Heap} {S : St} {dk : Nat} (hF : CallFix p m c cc nL s args lw_all RX2) (hK : gK D dA s) (hI : sI D dA wM ad A H0 S H locs) (hls : ls.size = nL) (hR : R.frames = dk + 1 ∧ R.locals = 64 * dk + 64) (hd : 2 + 1 ≤ dk) (hW : (rest.map fun v => v.category).sum ≤ 8) (hf : cells ≤ R.cells ∧ slots ≤ R.slots) {x1 : Int} {K : Int → St → Prop} (r1 : InR x1) (h : w_M_share x1 S K) (hdg : decode cc pc = .ok (.invokevirtual 330, 3)) (kk : ∀ (r : Int) (S1 : St) (H1 : Heap) (locs1 : List Loc), (r = 0 ∨ r = 1) → K r S1 → sI D dA wM ad A H0 S1 H1 locs1 → W p l e R s m args below meth c H1 locs1 cells slots Q (F0 m (pc + 3) ls (iV r :: rest))) : W p l e R s m args below meth c H locs cells slots Q (F0 m (pc) ls (iV x1 :: .ref (ad 17) :: rest)) := s_callVz (As := [iV x1]) (rest := rest) (K := K) hF (t_M_share l D dA ad S H.size x1 K r1 h) (s_recv hK hI 17 (by decide) wM_17 rfl) (cwV 1 hF.2.2.2.2 (lw_V q1548 q1550 qs90 q109 q1551) rfl rfl rfl (by decide +kernel) ⟨by have h1 := hR.1; have h2 : (rmD 2 0 0).frames = 2 + 1 := rfl; omega, by have h1 := hR.2; have h2 : (rmD 2 0 0).locals = 64 * 2 + 64 := rfl; omega⟩) hK hI rfl hls rfl hW hdg hf kk
theorem cMX2_324 {p : Program} {l : Launch} {e : Env} {R : Room} {s : State} {m : MethodId} {args : Array Value} {below : List Frame} {meth : Method} {c : Code} {H : Heap} {locs : List Loc} {Q : State → Prop} {cc : ByteArray} {nL pc : Nat} {ls : Array Slot} {rest : List Value} {cells slots : Nat} {D : va_G} {dA : Nat → ClassId} {ad : Nat → Nat} {A : Nat → Prop} {H0 : Heap} {S : St} {dk : Nat} (hF : CallFix p m c cc nL s args lw_all RX2) (hK : gK D dA s) (hI : sI D dA wM ad A H0 S H locs) (hls : ls.size = nL) (hR : R.frames = dk + 1 ∧ R.locals = 64 * dk + 64) (hd : 4 + 1 ≤ dk) (hW : (rest.map fun v => v.category).sum ≤ 8) (hf : cells ≤ R.cells ∧ slots ≤ R.slots) {x1 : Int} {K : St → Prop} (r1 : InR x1) (h : w_M_findAsked x1 S K) (hdg : decode cc pc = .ok (.invokevirtual 324, 3)) (kk : ∀ (S1 : St) (H1 : Heap) (locs1 : List Loc), K S1 → sI D dA wM ad A H0 S1 H1 locs1 → W p l e R s m args below meth c H1 locs1 cells slots Q (F0 m (pc + 3) ls (rest))) : W p l e R s m args below meth c H locs cells slots Q (F0 m (pc) ls (iV x1 :: .ref (ad 17) :: rest)) := s_callVv (As := [iV x1]) (rest := rest) (K := K) hF (t_M_findAsked l D dA ad S H.size x1 K r1 h) (s_recv hK hI 17 (by decide) wM_17 rfl) (cwV 1 hF.2.2.2.2 (lw_V q1532 q1534 qs86 q109 q1535) rfl rfl rfl (by decide +kernel) ⟨by have h1 := hR.1; have h2 : (rmD 4 0 0).frames = 4 + 1 := rfl; omega, by have h1 := hR.2; have h2 : (rmD 4 0 0).locals = 64 * 4 + 64 := rfl; omega⟩) hK hI rfl hls rfl hW hdg hf kk
theorem cMX2_327 {p : Program} {l : Launch} {e : Env} {R : Room} {s : State} {m : MethodId} {args : Array Value} {below : List Frame} {meth : Method} {c : Code} {H : Heap} {locs : List Loc} {Q : State → Prop} {cc : ByteArray} {nL pc : Nat} {ls : Array Slot} {rest : List Value} {cells slots : Nat} {D : va_G} {dA : Nat → ClassId} {ad : Nat → Nat} {A : Nat → Prop} {H0 : Heap} {S : St} {dk : Nat} (hF : CallFix p m c cc nL s args lw_all RX2) (hK : gK D dA s) (hI : sI D dA wM ad A H0 S H locs) (hls : ls.size = nL) (hR : R.frames = dk + 1 ∧ R.locals = 64 * dk + 64) (hd : 4 + 1 ≤ dk) (hW : (rest.map fun v => v.category).sum ≤ 8) (hf : cells ≤ R.cells ∧ slots ≤ R.slots) {K : St → Prop} (h : w_M_findBarred S K) (hdg : decode cc pc = .ok (.invokevirtual 327, 3)) (kk : ∀ (S1 : St) (H1 : Heap) (locs1 : List Loc), K S1 → sI D dA wM ad A H0 S1 H1 locs1 → W p l e R s m args below meth c H1 locs1 cells slots Q (F0 m (pc + 3) ls (rest))) : W p l e R s m args below meth c H locs cells slots Q (F0 m (pc) ls (.ref (ad 17) :: rest)) := s_callVv (As := []) (rest := rest) (K := K) hF (t_M_findBarred l D dA ad S H.size K h) (s_recv hK hI 17 (by decide) wM_17 rfl) (cwV 0 hF.2.2.2.2 (lw_V q1536 q1538 qs87 q109 q1539) rfl rfl rfl (by decide +kernel) ⟨by have h1 := hR.1; have h2 : (rmD 4 0 0).frames = 4 + 1 := rfl; omega, by have h1 := hR.2; have h2 : (rmD 4 0 0).locals = 64 * 4 + 64 := rfl; omega⟩) hK hI rfl hls rfl hW hdg hf kk
set_option maxHeartbeats 4000000 in
theorem t_M_saints (l : Launch) (D : va_G) (dA : Nat → ClassId) (ad : Nat → Nat) (S : St) (sz : Nat) (x1 : Int) (x2 : Int) (K : Int → St → Prop) (rx1 : InR x1) (rx2 : InR x2) (h : w_M_saints x1 x2 S K) : Met l yX2_saints (ws_ yX2_saints cX2_saints 5 (Option.some Jvm.ClassFile.FieldType.int)) (rmD 5 0 0) (va_Pc [.ref (ad 17), iV x1, iV x2] (sPre D dA wM ad S sz)) (va_Qi (fun r S' => K r.toInt S') (sPost D dA wM ad (wA wM ad S sz)) (wA wM ad S sz)) 0 0 (wA wM ad S sz) := by
  refine Met.ofW (cc := cX2_saints) (maxL := 5) (ret := (Option.some Jvm.ClassFile.FieldType.int)) (by decide) rfl ?_
  intro p e s m args below meth c s₁ B hml hv
  obtain ⟨rfl, hsz, hK, hC⟩ := hv
  have hx := B.exec
  have hb := B.bytes
  have hr := B.returns
  have hlocks := B.notSynchronized
  have hts := atoms_spec (ws := (ws_ yX2_saints cX2_saints 5 (Option.some Jvm.ClassFile.FieldType.int))) B.pre
  have hts : ∀ w ∈ lw_all, w.before _ s = true := fun w h => hts w (List.mem_cons_of_mem _ h)
  have hown : s.vm.findClass RX2 = some m.cls := findClass_of_methodNamed B.named
  clear B
  subst hsz
  have hI : sI D dA wM ad (wA wM ad S s.heap.size) s.heap S s.heap [] := hC.start
  clear hC
  generalize wA wM ad S s.heap.size = A at hI ⊢
  have hl := lv_entry ([.ref (ad 17), iV x1, iV x2] : List Value) (n := 5) (Nat.le_of_ble_eq_true rfl)
  rw [lg_entry_eq]
  generalize (lg_sl ([.ref (ad 17), iV x1, iV x2] : List Value) ++ List.replicate (5 - (lg_sl ([.ref (ad 17), iV x1, iV x2] : List Value)).length) Slot.unset).toArray = ls at hl ⊢
  have hl : lv_has ls 5 [(0, .ref (ad 17)), (1, iV x1), (2, iV x2)] := hl
  have hF : CallFix p m c cX2_saints 5 s _ lw_all RX2 := ⟨hx, hb, hml, hown, hts⟩
  have hR : (headSpec (ws_ yX2_saints cX2_saints 5 (Option.some Jvm.ClassFile.FieldType.int)) (rmD 5 0 0)).room.frames = 5 + 1 ∧ (headSpec (ws_ yX2_saints cX2_saints 5 (Option.some Jvm.ClassFile.FieldType.int)) (rmD 5 0 0)).room.locals = 64 * 5 + 64 := ⟨rfl, rfl⟩
  generalize (headSpec (ws_ yX2_saints cX2_saints 5 (Option.some Jvm.ClassFile.FieldType.int)) (rmD 5 0 0)).room = R at hR ⊢
  generalize ([.ref (ad 17), iV x1, iV x2] : List Value).toArray = args at hts hF ⊢
  generalize hQ : MQ below _ _ _ _ _ _ = Q
  have L81 : ∀ (x2 : Int) (S : St), InR x2 → ∀ (n81 : Nat) (x4 : Int) (H : Heap) (locs : List Loc) (ls : Array Slot), InR x4 → sI D dA wM ad A s.heap S H locs → lv_has ls 5 [(0, .ref (ad 17)), (2, iV x2), (4, iV x4)] → l_M_saints_81 x2 S K n81 x4 → W p l e R s m args below meth c H locs 0 0 Q (F0 m 81 ls []) := by
    intro x2 S rx2 n81
    induction n81 with
    | zero => intro x4 H locs ls rx4 hI hl h; exact False.elim h
    | succ n81 ih81 =>
      intro x4 H locs ls rx4 hI hl h
      unfold l_M_saints_81 at h
      refine lv_iload hx hb dX2_saints_81 (lv_at hl 2 rfl) ?_
      refine lv_aload_n hx hb dX2_saints_83 rfl (lv_at hl 0 rfl) ?_
      refine gMX2_309_17 hF hK hI dX2_saints_84 (fun f1 => ?_)
      replace h := h f1
      refine nr_icmp_ge hx hb rx4 f1 dX2_saints_87 (tgt := 115) (by decide) (fun c2 => ?_) (fun c2 => ?_)
      · replace h := h.1 c2
        refine nr_iconst hx hb dX2_saints_115 ?_
        rw [← hQ]; exact s_iret (K := K) hx hb hr hlocks hI (by decide) h dX2_saints_116
      · replace h := h.2 c2
        refine lv_aload_n hx hb dX2_saints_90 rfl (lv_at hl 0 rfl) ?_
        refine gMX2_43_17 hF hK hI dX2_saints_91 ?_
        refine lv_iload hx hb dX2_saints_94 (lv_at hl 2 rfl) ?_
        have f3 := h.1; replace h := h.2
        refine s_iald hx hb hK hI 8 (by decide) wM_8 rx4 f3 dX2_saints_96 (fun f4 => ?_)
        replace h := h f4
        refine lv_iload_n hx hb dX2_saints_97 rfl (lv_at hl 1 rfl) ?_
        refine nr_icmp_ne hx hb f4 rx2 dX2_saints_98 (tgt := 109) (by decide) (fun c5 => ?_) (fun c5 => ?_)
        · replace h := h.1 c5
          have f6 := h.1; replace h := h.2
          refine nr_iinc (lv' := [(4, iV (x4 + 1)), (0, .ref (ad 17)), (2, iV x2)]) hx hb dX2_saints_109 hl (k := 2) rfl (by decide) rfl (fun ls hl => ?_)
          refine lv_goto (tgt := 81) hx hb dX2_saints_112 (by decide) ?_
          exact ih81 (x4 + 1) _ _ _ f6 hI (lv_sub hl [1, 2, 0] rfl) h
        · replace h := h.2 c5
          refine lv_aload_n hx hb dX2_saints_101 rfl (lv_at hl 0 rfl) ?_
          refine gMX2_52_17 hF hK hI dX2_saints_102 ?_
          refine lv_iload hx hb dX2_saints_105 (lv_at hl 2 rfl) ?_
          have f7 := h.1; replace h := h.2
          refine s_iald hx hb hK hI 11 (by decide) wM_11 rx4 f7 dX2_saints_107 (fun f8 => ?_)
          replace h := h f8
          rw [← hQ]; exact s_iret (K := K) hx hb hr hlocks hI f8 h dX2_saints_108
  have J71 : ∀ (x2 : Int) (x3 : Int) (S : St) (H : Heap) (locs : List Loc) (ls : Array Slot), InR x2 → InR x3 → sI D dA wM ad A s.heap S H locs → lv_has ls 5 [(0, .ref (ad 17)), (2, iV x2), (3, iV x3)] → j_M_saints_71 x2 x3 S K → W p l e R s m args below meth c H locs 0 0 Q (F0 m 71 ls []) := by
    intro x2 x3 S H locs ls rx2 rx3 hI hl h
    unfold j_M_saints_71 at h
    refine lv_iload_n hx hb dX2_saints_71 rfl (lv_at hl 1 rfl) ?_
    refine nr_iconst hx hb dX2_saints_72 ?_
    refine nr_icmp_ne hx hb rx2 (by decide) dX2_saints_73 (tgt := 78) (by decide) (fun c9 => ?_) (fun c9 => ?_)
    · replace h := h.1 c9
      refine nr_iconst hx hb dX2_saints_78 ?_
      refine lv_istore (lv' := [(4, iV 0), (0, .ref (ad 17)), (2, iV x2), (3, iV x3)]) hx hb dX2_saints_79 hl (by decide) rfl (fun ls hl => ?_)
      obtain ⟨n0, h⟩ := h
      exact L81 x2 S rx2 n0 0 _ _ _ (by decide) hI (lv_sub hl [1, 2, 0] rfl) h
    · replace h := h.2 c9
      refine lv_iload_n hx hb dX2_saints_76 rfl (lv_at hl 2 rfl) ?_
      rw [← hQ]; exact s_iret (K := K) hx hb hr hlocks hI rx3 h dX2_saints_77
  have L57 : ∀ (x2 : Int), InR x2 → ∀ (n57 : Nat) (x3 : Int) (S : St) (H : Heap) (locs : List Loc) (ls : Array Slot), InR x3 → sI D dA wM ad A s.heap S H locs → lv_has ls 5 [(0, .ref (ad 17)), (2, iV x2), (3, iV x3)] → l_M_saints_57 x2 K (fun (z3 : Int) (zS : St) => j_M_saints_71 x2 z3 zS K) n57 x3 S → W p l e R s m args below meth c H locs 0 0 Q (F0 m 57 ls []) := by
    intro x2 rx2 n57
    induction n57 with
    | zero => intro x3 S H locs ls rx3 hI hl h; exact False.elim h
    | succ n57 ih57 =>
      intro x3 S H locs ls rx3 hI hl h
      unfold l_M_saints_57 at h
      refine lv_aload_n hx hb dX2_saints_57 rfl (lv_at hl 0 rfl) ?_
      refine lv_iload_n hx hb dX2_saints_58 rfl (lv_at hl 2 rfl) ?_
      refine cMX2_330 hF hK hI hl.1 hR (by decide) (Nat.le_of_ble_eq_true rfl) ⟨Nat.zero_le _, Nat.zero_le _⟩ rx3 h dX2_saints_59 (fun r10 S11 H locs fr10 h hI => ?_)
      replace h := h fr10
      have gr10 : InR r10 := kdP_R (k := 2) (by decide) fr10
      refine nr_if_ne hx hb gr10 dX2_saints_62 (tgt := 71) (by decide) (fun c12 => ?_) (fun c12 => ?_)
      · replace h := h.1 c12
        exact J71 x2 x3 S11 _ _ _ rx2 rx3 hI (lv_sub hl [0, 1, 2] rfl) h
      · replace h := h.2 c12
        have f13 := h.1; replace h := h.2
        refine nr_iinc (lv' := [(3, iV (x3 + 1)), (0, .ref (ad 17)), (2, iV x2)]) hx hb dX2_saints_65 hl (k := 2) rfl (by decide) rfl (fun ls hl => ?_)
        refine lv_goto (tgt := 57) hx hb dX2_saints_68 (by decide) ?_
        exact ih57 (x3 + 1) S11 _ _ _ f13 hI (lv_sub hl [1, 2, 0] rfl) h
  have J34 : ∀ (x1 : Int) (x2 : Int) (S : St) (H : Heap) (locs : List Loc) (ls : Array Slot), InR x1 → InR x2 → sI D dA wM ad A s.heap S H locs → lv_has ls 5 [(0, .ref (ad 17)), (1, iV x1), (2, iV x2)] → j_M_saints_34 x1 x2 S K → W p l e R s m args below meth c H locs 0 0 Q (F0 m 34 ls []) := by
    intro x1 x2 S H locs ls rx1 rx2 hI hl h
    unfold j_M_saints_34 at h
    refine lv_aload_n hx hb dX2_saints_34 rfl (lv_at hl 0 rfl) ?_
    refine lv_iload_n hx hb dX2_saints_35 rfl (lv_at hl 1 rfl) ?_
    refine cMX2_324 hF hK hI hl.1 hR (by decide) (Nat.le_of_ble_eq_true rfl) ⟨Nat.zero_le _, Nat.zero_le _⟩ rx1 h dX2_saints_36 (fun S15 H locs h hI => ?_)
    refine lv_aload_n hx hb dX2_saints_39 rfl (lv_at hl 0 rfl) ?_
    refine gMX2_309_17 hF hK hI dX2_saints_40 (fun f16 => ?_)
    replace h := h f16
    refine nr_bipush hx hb dX2_saints_43 (by decide) ?_
    refine nr_icmp_le hx hb f16 (by decide) dX2_saints_45 (tgt := 51) (by decide) (fun c17 => ?_) (fun c17 => ?_)
    · replace h := h.1 c17
      refine lv_aload_n hx hb dX2_saints_51 rfl (lv_at hl 0 rfl) ?_
      refine cMX2_327 hF hK hI hl.1 hR (by decide) (Nat.le_of_ble_eq_true rfl) ⟨Nat.zero_le _, Nat.zero_le _⟩ h dX2_saints_52 (fun S19 H locs h hI => ?_)
      refine nr_iconst hx hb dX2_saints_55 ?_
      refine lv_istore_n (lv' := [(3, iV 0), (0, .ref (ad 17)), (1, iV x1), (2, iV x2)]) hx hb dX2_saints_56 rfl hl (by decide) rfl (fun ls hl => ?_)
      obtain ⟨n0, h⟩ := h
      exact L57 x2 rx2 n0 0 S19 _ _ _ (by decide) hI (lv_sub hl [1, 3, 0] rfl) h
    · replace h := h.2 c17
      refine nr_bipush hx hb dX2_saints_48 (by decide) ?_
      rw [← hQ]; exact s_iret (K := K) hx hb hr hlocks hI (by decide) h dX2_saints_50
  unfold w_M_saints at h
  refine lv_iload_n hx hb dX2_saints_0 rfl (lv_at hl 1 rfl) ?_
  refine nr_iconst hx hb dX2_saints_1 ?_
  refine nr_iconst hx hb dX2_saints_2 ?_
  refine lv_aload_n hx hb dX2_saints_3 rfl (lv_at hl 0 rfl) ?_
  refine gMX2_7_17 hF hK hI dX2_saints_4 ?_
  refine nr_iconst hx hb dX2_saints_7 ?_
  refine s_iald hx hb hK hI 0 (by decide) wM_0 (by decide) (by decide) dX2_saints_8 (fun f20 => ?_)
  replace h := h f20
  have f21 := h.1; replace h := h.2
  have f22 := h.1; replace h := h.2
  refine nr_ishl hx hb f21 f22 dX2_saints_9 ?_
  refine nr_iconst hx hb dX2_saints_10 ?_
  have f23 := h.1; replace h := h.2
  refine nr_isub hx hb dX2_saints_11 ?_
  refine cMX2_75 hF hK hI hl.1 hR (by decide) (Nat.le_of_ble_eq_true rfl) ⟨Nat.zero_le _, Nat.zero_le _⟩ rx1 (by decide) f23 h dX2_saints_12 (fun r24 H locs fr24 h hI => ?_)
  replace h := h fr24
  have gr24 : InR r24 := kdP_R (k := 2) (by decide) fr24
  refine nr_if_eq hx hb gr24 dX2_saints_15 (tgt := 31) (by decide) (fun c26 => ?_) (fun c26 => ?_)
  · replace h := h.1 c26
    refine nr_bipush hx hb dX2_saints_31 (by decide) ?_
    rw [← hQ]; exact s_iret (K := K) hx hb hr hlocks hI (by decide) h dX2_saints_33
  · replace h := h.2 c26
    refine lv_iload_n hx hb dX2_saints_18 rfl (lv_at hl 2 rfl) ?_
    refine nr_iconst hx hb dX2_saints_19 ?_
    refine nr_icmp_eq hx hb rx2 (by decide) dX2_saints_20 (tgt := 34) (by decide) (fun c27 => ?_) (fun c27 => ?_)
    · replace h := h.1 c27
      exact J34 x1 x2 S _ _ _ rx1 rx2 hI (lv_sub hl [0, 1, 2] rfl) h
    · replace h := h.2 c27
      refine lv_aload_n hx hb dX2_saints_23 rfl (lv_at hl 0 rfl) ?_
      refine lv_iload_n hx hb dX2_saints_24 rfl (lv_at hl 2 rfl) ?_
      refine cMX2_91 hF hK hI hl.1 hR (by decide) (Nat.le_of_ble_eq_true rfl) ⟨Nat.zero_le _, Nat.zero_le _⟩ rx2 h dX2_saints_25 (fun r28 H locs fr28 h hI => ?_)
      replace h := h fr28
      have gr28 : InR r28 := kdP_R (k := 2) (by decide) fr28
      refine nr_if_ne hx hb gr28 dX2_saints_28 (tgt := 34) (by decide) (fun c30 => ?_) (fun c30 => ?_)
      · replace h := h.1 c30
        exact J34 x1 x2 S _ _ _ rx1 rx2 hI (lv_sub hl [0, 1, 2] rfl) h
      · replace h := h.2 c30
        refine nr_bipush hx hb dX2_saints_31 (by decide) ?_
        rw [← hQ]; exact s_iret (K := K) hx hb hr hlocks hI (by decide) h dX2_saints_33
set_option maxHeartbeats 4000000 in
theorem t_M_rules (l : Launch) (D : va_G) (dA : Nat → ClassId) (ad : Nat → Nat) (S : St) (sz : Nat) (x1 : Int) (x2 : Int) (K : Int → St → Prop) (rx1 : InR x1) (rx2 : InR x2) (h : w_M_rules x1 x2 S K) : Met l yX2_rules (ws_ yX2_rules cX2_rules 3 (Option.some Jvm.ClassFile.FieldType.boolean)) (rmD 1 0 0) (va_Pc [.ref (ad 17), iV x1, iV x2] (sPre D dA wM ad S sz)) (va_Qi (fun r S' => (r.toInt = 0 ∨ r.toInt = 1) ∧ (K r.toInt S')) (sPost D dA wM ad (wA wM ad S sz)) (wA wM ad S sz)) 0 0 (wA wM ad S sz) := by
  refine Met.ofW (cc := cX2_rules) (maxL := 3) (ret := (Option.some Jvm.ClassFile.FieldType.boolean)) (by decide) rfl ?_
  intro p e s m args below meth c s₁ B hml hv
  obtain ⟨rfl, hsz, hK, hC⟩ := hv
  have hx := B.exec
  have hb := B.bytes
  have hr := B.returns
  have hlocks := B.notSynchronized
  have hts := atoms_spec (ws := (ws_ yX2_rules cX2_rules 3 (Option.some Jvm.ClassFile.FieldType.boolean))) B.pre
  have hts : ∀ w ∈ lw_all, w.before _ s = true := fun w h => hts w (List.mem_cons_of_mem _ h)
  have hown : s.vm.findClass RX2 = some m.cls := findClass_of_methodNamed B.named
  clear B
  subst hsz
  have hI : sI D dA wM ad (wA wM ad S s.heap.size) s.heap S s.heap [] := hC.start
  clear hC
  generalize wA wM ad S s.heap.size = A at hI ⊢
  have hl := lv_entry ([.ref (ad 17), iV x1, iV x2] : List Value) (n := 3) (Nat.le_of_ble_eq_true rfl)
  rw [lg_entry_eq]
  generalize (lg_sl ([.ref (ad 17), iV x1, iV x2] : List Value) ++ List.replicate (3 - (lg_sl ([.ref (ad 17), iV x1, iV x2] : List Value)).length) Slot.unset).toArray = ls at hl ⊢
  have hl : lv_has ls 3 [(0, .ref (ad 17)), (1, iV x1), (2, iV x2)] := hl
  have hF : CallFix p m c cX2_rules 3 s _ lw_all RX2 := ⟨hx, hb, hml, hown, hts⟩
  have hR : (headSpec (ws_ yX2_rules cX2_rules 3 (Option.some Jvm.ClassFile.FieldType.boolean)) (rmD 1 0 0)).room.frames = 1 + 1 ∧ (headSpec (ws_ yX2_rules cX2_rules 3 (Option.some Jvm.ClassFile.FieldType.boolean)) (rmD 1 0 0)).room.locals = 64 * 1 + 64 := ⟨rfl, rfl⟩
  generalize (headSpec (ws_ yX2_rules cX2_rules 3 (Option.some Jvm.ClassFile.FieldType.boolean)) (rmD 1 0 0)).room = R at hR ⊢
  generalize ([.ref (ad 17), iV x1, iV x2] : List Value).toArray = args at hts hF ⊢
  generalize hQ : MQ below _ _ _ _ _ _ = Q
  unfold w_M_rules at h
  refine lv_iload_n hx hb dX2_rules_0 rfl (lv_at hl 1 rfl) ?_
  refine nr_iconst hx hb dX2_rules_1 ?_
  refine nr_bipush hx hb dX2_rules_2 (by decide) ?_
  refine cMX2_75 hF hK hI hl.1 hR (by decide) (Nat.le_of_ble_eq_true rfl) ⟨Nat.zero_le _, Nat.zero_le _⟩ rx1 (by decide) (by decide) h dX2_rules_4 (fun r1 H locs fr1 h hI => ?_)
  replace h := h fr1
  have gr1 : InR r1 := kdP_R (k := 2) (by decide) fr1
  refine nr_if_eq hx hb gr1 dX2_rules_7 (tgt := 20) (by decide) (fun c3 => ?_) (fun c3 => ?_)
  · replace h := h.1 c3
    refine nr_iconst hx hb dX2_rules_20 ?_
    rw [← hQ]; exact s_zret (K := K) hx hb hr hlocks hI (by decide) h dX2_rules_21
  · replace h := h.2 c3
    refine lv_iload_n hx hb dX2_rules_10 rfl (lv_at hl 2 rfl) ?_
    refine nr_iconst hx hb dX2_rules_11 ?_
    refine nr_bipush hx hb dX2_rules_12 (by decide) ?_
    refine cMX2_75 hF hK hI hl.1 hR (by decide) (Nat.le_of_ble_eq_true rfl) ⟨Nat.zero_le _, Nat.zero_le _⟩ rx2 (by decide) (by decide) h dX2_rules_14 (fun r4 H locs fr4 h hI => ?_)
    replace h := h fr4
    have gr4 : InR r4 := kdP_R (k := 2) (by decide) fr4
    refine nr_if_ne hx hb gr4 dX2_rules_17 (tgt := 22) (by decide) (fun c6 => ?_) (fun c6 => ?_)
    · replace h := h.1 c6
      refine lv_aload_n hx hb dX2_rules_22 rfl (lv_at hl 0 rfl) ?_
      refine gMX2_7_17 hF hK hI dX2_rules_23 ?_
      refine nr_bipush hx hb dX2_rules_26 (by decide) ?_
      refine lv_iload_n hx hb dX2_rules_28 rfl (lv_at hl 1 rfl) ?_
      refine s_iast hx hb hK hI 0 (by decide) wM_0 (by decide) (by decide) rx1 dX2_rules_29 (fun S7 H locs eS7 hI => ?_)
      replace h := h S7 eS7
      refine lv_aload_n hx hb dX2_rules_30 rfl (lv_at hl 0 rfl) ?_
      refine gMX2_7_17 hF hK hI dX2_rules_31 ?_
      refine nr_bipush hx hb dX2_rules_34 (by decide) ?_
      refine lv_iload_n hx hb dX2_rules_36 rfl (lv_at hl 2 rfl) ?_
      refine s_iast hx hb hK hI 0 (by decide) wM_0 (by decide) (by decide) rx2 dX2_rules_37 (fun S8 H locs eS8 hI => ?_)
      replace h := h S8 eS8
      refine nr_iconst hx hb dX2_rules_38 ?_
      rw [← hQ]; exact s_zret (K := K) hx hb hr hlocks hI (by decide) h dX2_rules_39
    · replace h := h.2 c6
      refine nr_iconst hx hb dX2_rules_20 ?_
      rw [← hQ]; exact s_zret (K := K) hx hb hr hlocks hI (by decide) h dX2_rules_21
set_option maxHeartbeats 4000000 in
theorem t_M_seen (l : Launch) (D : va_G) (dA : Nat → ClassId) (ad : Nat → Nat) (S : St) (sz : Nat) (x1 : Int) (x2 : Int) (x3 : Int) (x4 : Int) (K : Int → St → Prop) (rx1 : InR x1) (rx2 : InR x2) (rx3 : InR x3) (rx4 : InR x4) (h : w_M_seen x1 x2 x3 x4 S K) : Met l yX2_seen (ws_ yX2_seen cX2_seen 6 (Option.some Jvm.ClassFile.FieldType.int)) (rmD 2 0 0) (va_Pc [.ref (ad 17), iV x1, iV x2, iV x3, iV x4] (sPre D dA wM ad S sz)) (va_Qi (fun r S' => K r.toInt S') (sPost D dA wM ad (wA wM ad S sz)) (wA wM ad S sz)) 0 0 (wA wM ad S sz) := by
  refine Met.ofW (cc := cX2_seen) (maxL := 6) (ret := (Option.some Jvm.ClassFile.FieldType.int)) (by decide) rfl ?_
  intro p e s m args below meth c s₁ B hml hv
  obtain ⟨rfl, hsz, hK, hC⟩ := hv
  have hx := B.exec
  have hb := B.bytes
  have hr := B.returns
  have hlocks := B.notSynchronized
  have hts := atoms_spec (ws := (ws_ yX2_seen cX2_seen 6 (Option.some Jvm.ClassFile.FieldType.int))) B.pre
  have hts : ∀ w ∈ lw_all, w.before _ s = true := fun w h => hts w (List.mem_cons_of_mem _ h)
  have hown : s.vm.findClass RX2 = some m.cls := findClass_of_methodNamed B.named
  clear B
  subst hsz
  have hI : sI D dA wM ad (wA wM ad S s.heap.size) s.heap S s.heap [] := hC.start
  clear hC
  generalize wA wM ad S s.heap.size = A at hI ⊢
  have hl := lv_entry ([.ref (ad 17), iV x1, iV x2, iV x3, iV x4] : List Value) (n := 6) (Nat.le_of_ble_eq_true rfl)
  rw [lg_entry_eq]
  generalize (lg_sl ([.ref (ad 17), iV x1, iV x2, iV x3, iV x4] : List Value) ++ List.replicate (6 - (lg_sl ([.ref (ad 17), iV x1, iV x2, iV x3, iV x4] : List Value)).length) Slot.unset).toArray = ls at hl ⊢
  have hl : lv_has ls 6 [(0, .ref (ad 17)), (1, iV x1), (2, iV x2), (3, iV x3), (4, iV x4)] := hl
  have hF : CallFix p m c cX2_seen 6 s _ lw_all RX2 := ⟨hx, hb, hml, hown, hts⟩
  have hR : (headSpec (ws_ yX2_seen cX2_seen 6 (Option.some Jvm.ClassFile.FieldType.int)) (rmD 2 0 0)).room.frames = 2 + 1 ∧ (headSpec (ws_ yX2_seen cX2_seen 6 (Option.some Jvm.ClassFile.FieldType.int)) (rmD 2 0 0)).room.locals = 64 * 2 + 64 := ⟨rfl, rfl⟩
  generalize (headSpec (ws_ yX2_seen cX2_seen 6 (Option.some Jvm.ClassFile.FieldType.int)) (rmD 2 0 0)).room = R at hR ⊢
  generalize ([.ref (ad 17), iV x1, iV x2, iV x3, iV x4] : List Value).toArray = args at hts hF ⊢
  generalize hQ : MQ below _ _ _ _ _ _ = Q
  unfold w_M_seen at h
  refine lv_aload_n hx hb dX2_seen_0 rfl (lv_at hl 0 rfl) ?_
  refine lv_iload_n hx hb dX2_seen_1 rfl (lv_at hl 1 rfl) ?_
  refine cMX2_83 hF hK hI hl.1 hR (by decide) (Nat.le_of_ble_eq_true rfl) ⟨Nat.zero_le _, Nat.zero_le _⟩ rx1 h dX2_seen_2 (fun r1 H locs fr1 h hI => ?_)
  replace h := h fr1
  have gr1 : InR r1 := kdP_R (k := 2) (by decide) fr1
  refine nr_if_eq hx hb gr1 dX2_seen_5 (tgt := 53) (by decide) (fun c3 => ?_) (fun c3 => ?_)
  · replace h := h.1 c3
    refine nr_iconst hx hb dX2_seen_53 ?_
    rw [← hQ]; exact s_iret (K := K) hx hb hr hlocks hI (by decide) h dX2_seen_54
  · replace h := h.2 c3
    refine lv_iload_n hx hb dX2_seen_8 rfl (lv_at hl 2 rfl) ?_
    refine nr_iconst hx hb dX2_seen_9 ?_
    refine nr_bipush hx hb dX2_seen_10 (by decide) ?_
    refine cMX2_75 hF hK hI hl.1 hR (by decide) (Nat.le_of_ble_eq_true rfl) ⟨Nat.zero_le _, Nat.zero_le _⟩ rx2 (by decide) (by decide) h dX2_seen_12 (fun r4 H locs fr4 h hI => ?_)
    replace h := h fr4
    have gr4 : InR r4 := kdP_R (k := 2) (by decide) fr4
    refine nr_if_eq hx hb gr4 dX2_seen_15 (tgt := 53) (by decide) (fun c6 => ?_) (fun c6 => ?_)
    · replace h := h.1 c6
      refine nr_iconst hx hb dX2_seen_53 ?_
      rw [← hQ]; exact s_iret (K := K) hx hb hr hlocks hI (by decide) h dX2_seen_54
    · replace h := h.2 c6
      refine lv_iload_n hx hb dX2_seen_18 rfl (lv_at hl 3 rfl) ?_
      refine nr_iconst hx hb dX2_seen_19 ?_
      refine nr_sipush hx hb dX2_seen_20 (by decide) ?_
      refine cMX2_75 hF hK hI hl.1 hR (by decide) (Nat.le_of_ble_eq_true rfl) ⟨Nat.zero_le _, Nat.zero_le _⟩ rx3 (by decide) (by decide) h dX2_seen_23 (fun r7 H locs fr7 h hI => ?_)
      replace h := h fr7
      have gr7 : InR r7 := kdP_R (k := 2) (by decide) fr7
      refine nr_if_eq hx hb gr7 dX2_seen_26 (tgt := 53) (by decide) (fun c9 => ?_) (fun c9 => ?_)
      · replace h := h.1 c9
        refine nr_iconst hx hb dX2_seen_53 ?_
        rw [← hQ]; exact s_iret (K := K) hx hb hr hlocks hI (by decide) h dX2_seen_54
      · replace h := h.2 c9
        refine lv_iload hx hb dX2_seen_29 (lv_at hl 4 rfl) ?_
        refine nr_iconst hx hb dX2_seen_31 ?_
        refine nr_sipush hx hb dX2_seen_32 (by decide) ?_
        refine cMX2_75 hF hK hI hl.1 hR (by decide) (Nat.le_of_ble_eq_true rfl) ⟨Nat.zero_le _, Nat.zero_le _⟩ rx4 (by decide) (by decide) h dX2_seen_35 (fun r10 H locs fr10 h hI => ?_)
        replace h := h fr10
        have gr10 : InR r10 := kdP_R (k := 2) (by decide) fr10
        refine nr_if_eq hx hb gr10 dX2_seen_38 (tgt := 53) (by decide) (fun c12 => ?_) (fun c12 => ?_)
        · replace h := h.1 c12
          refine nr_iconst hx hb dX2_seen_53 ?_
          rw [← hQ]; exact s_iret (K := K) hx hb hr hlocks hI (by decide) h dX2_seen_54
        · replace h := h.2 c12
          refine lv_aload_n hx hb dX2_seen_41 rfl (lv_at hl 0 rfl) ?_
          refine gMX2_7_17 hF hK hI dX2_seen_42 ?_
          refine nr_bipush hx hb dX2_seen_45 (by decide) ?_
          refine s_iald hx hb hK hI 0 (by decide) wM_0 (by decide) (by decide) dX2_seen_47 (fun f13 => ?_)
          replace h := h f13
          refine nr_bipush hx hb dX2_seen_48 (by decide) ?_
          refine nr_icmp_ne hx hb f13 (by decide) dX2_seen_50 (tgt := 55) (by decide) (fun c14 => ?_) (fun c14 => ?_)
          · replace h := h.1 c14
            refine nr_bipush hx hb dX2_seen_55 (by decide) ?_
            refine nr_iconst hx hb dX2_seen_57 ?_
            refine lv_aload_n hx hb dX2_seen_58 rfl (lv_at hl 0 rfl) ?_
            refine gMX2_7_17 hF hK hI dX2_seen_59 ?_
            refine nr_bipush hx hb dX2_seen_62 (by decide) ?_
            refine s_iald hx hb hK hI 0 (by decide) wM_0 (by decide) (by decide) dX2_seen_64 (fun f15 => ?_)
            have f16 := h.1; replace h := h.2
            refine nr_imul hx hb dX2_seen_65 ?_
            have f17 := h.1; replace h := h.2
            refine nr_iadd hx hb dX2_seen_66 ?_
            refine nr_topi (fun v18 ev18 => ?_)
            have rv18 : InR v18 := by rw [ev18]; exact f17
            replace h := h v18 ev18 rv18
            refine lv_istore (lv' := [(5, iV v18), (0, .ref (ad 17)), (1, iV x1), (2, iV x2), (3, iV x3), (4, iV x4)]) hx hb dX2_seen_67 hl (by decide) rfl (fun ls hl => ?_)
            refine lv_aload_n hx hb dX2_seen_69 rfl (lv_at hl 1 rfl) ?_
            refine gMX2_7_17 hF hK hI dX2_seen_70 ?_
            refine lv_iload hx hb dX2_seen_73 (lv_at hl 0 rfl) ?_
            refine lv_iload_n hx hb dX2_seen_75 rfl (lv_at hl 2 rfl) ?_
            have f19 := h.1; replace h := h.2
            refine s_iast hx hb hK hI 0 (by decide) wM_0 rv18 f19 rx1 dX2_seen_76 (fun S20 H locs eS20 hI => ?_)
            replace h := h S20 eS20
            refine lv_aload_n hx hb dX2_seen_77 rfl (lv_at hl 1 rfl) ?_
            refine gMX2_7_17 hF hK hI dX2_seen_78 ?_
            refine lv_iload hx hb dX2_seen_81 (lv_at hl 0 rfl) ?_
            refine nr_iconst hx hb dX2_seen_83 ?_
            have f21 := h.1; replace h := h.2
            refine nr_iadd hx hb dX2_seen_84 ?_
            refine lv_iload_n hx hb dX2_seen_85 rfl (lv_at hl 3 rfl) ?_
            have f22 := h.1; replace h := h.2
            refine s_iast hx hb hK hI 0 (by decide) wM_0 f21 f22 rx2 dX2_seen_86 (fun S23 H locs eS23 hI => ?_)
            replace h := h S23 eS23
            refine lv_aload_n hx hb dX2_seen_87 rfl (lv_at hl 1 rfl) ?_
            refine gMX2_7_17 hF hK hI dX2_seen_88 ?_
            refine lv_iload hx hb dX2_seen_91 (lv_at hl 0 rfl) ?_
            refine nr_iconst hx hb dX2_seen_93 ?_
            have f24 := h.1; replace h := h.2
            refine nr_iadd hx hb dX2_seen_94 ?_
            refine lv_iload_n hx hb dX2_seen_95 rfl (lv_at hl 4 rfl) ?_
            have f25 := h.1; replace h := h.2
            refine s_iast hx hb hK hI 0 (by decide) wM_0 f24 f25 rx3 dX2_seen_96 (fun S26 H locs eS26 hI => ?_)
            replace h := h S26 eS26
            refine lv_aload_n hx hb dX2_seen_97 rfl (lv_at hl 1 rfl) ?_
            refine gMX2_7_17 hF hK hI dX2_seen_98 ?_
            refine lv_iload hx hb dX2_seen_101 (lv_at hl 0 rfl) ?_
            refine nr_iconst hx hb dX2_seen_103 ?_
            have f27 := h.1; replace h := h.2
            refine nr_iadd hx hb dX2_seen_104 ?_
            refine lv_iload hx hb dX2_seen_105 (lv_at hl 5 rfl) ?_
            have f28 := h.1; replace h := h.2
            refine s_iast hx hb hK hI 0 (by decide) wM_0 f27 f28 rx4 dX2_seen_107 (fun S29 H locs eS29 hI => ?_)
            replace h := h S29 eS29
            refine lv_aload_n hx hb dX2_seen_108 rfl (lv_at hl 1 rfl) ?_
            refine gMX2_7_17 hF hK hI dX2_seen_109 ?_
            refine nr_bipush hx hb dX2_seen_112 (by decide) ?_
            refine lv_dup2_11 hx hb dX2_seen_114 rfl rfl ?_
            refine s_iald hx hb hK hI 0 (by decide) wM_0 (by decide) (by decide) dX2_seen_115 (fun f30 => ?_)
            replace h := h f30
            refine nr_iconst hx hb dX2_seen_116 ?_
            have f31 := h.1; replace h := h.2
            refine nr_iadd hx hb dX2_seen_117 ?_
            refine s_iast hx hb hK hI 0 (by decide) wM_0 (by decide) (by decide) f31 dX2_seen_118 (fun S32 H locs eS32 hI => ?_)
            replace h := h S32 eS32
            refine lv_aload_n hx hb dX2_seen_119 rfl (lv_at hl 1 rfl) ?_
            refine gMX2_7_17 hF hK hI dX2_seen_120 ?_
            refine nr_bipush hx hb dX2_seen_123 (by decide) ?_
            refine s_iald hx hb hK hI 0 (by decide) wM_0 (by decide) (by decide) dX2_seen_125 (fun f33 => ?_)
            replace h := h f33
            refine nr_iconst hx hb dX2_seen_126 ?_
            have f34 := h.1; replace h := h.2
            refine nr_isub hx hb dX2_seen_127 ?_
            rw [← hQ]; exact s_iret (K := K) hx hb hr hlocks hI f34 h dX2_seen_128
          · replace h := h.2 c14
            refine nr_iconst hx hb dX2_seen_53 ?_
            rw [← hQ]; exact s_iret (K := K) hx hb hr hlocks hI (by decide) h dX2_seen_54
set_option maxHeartbeats 4000000 in
theorem t_M_forget (l : Launch) (D : va_G) (dA : Nat → ClassId) (ad : Nat → Nat) (S : St) (sz : Nat) (K : Int → St → Prop) (h : w_M_forget S K) : Met l yX2_forget (ws_ yX2_forget cX2_forget 2 (Option.some Jvm.ClassFile.FieldType.int)) (rmD 0 0 0) (va_Pc [.ref (ad 17)] (sPre D dA wM ad S sz)) (va_Qi (fun r S' => K r.toInt S') (sPost D dA wM ad (wA wM ad S sz)) (wA wM ad S sz)) 0 0 (wA wM ad S sz) := by
  refine Met.ofW (cc := cX2_forget) (maxL := 2) (ret := (Option.some Jvm.ClassFile.FieldType.int)) (by decide) rfl ?_
  intro p e s m args below meth c s₁ B hml hv
  obtain ⟨rfl, hsz, hK, hC⟩ := hv
  have hx := B.exec
  have hb := B.bytes
  have hr := B.returns
  have hlocks := B.notSynchronized
  have hts := atoms_spec (ws := (ws_ yX2_forget cX2_forget 2 (Option.some Jvm.ClassFile.FieldType.int))) B.pre
  have hts : ∀ w ∈ lw_all, w.before _ s = true := fun w h => hts w (List.mem_cons_of_mem _ h)
  have hown : s.vm.findClass RX2 = some m.cls := findClass_of_methodNamed B.named
  clear B
  subst hsz
  have hI : sI D dA wM ad (wA wM ad S s.heap.size) s.heap S s.heap [] := hC.start
  clear hC
  generalize wA wM ad S s.heap.size = A at hI ⊢
  have hl := lv_entry ([.ref (ad 17)] : List Value) (n := 2) (Nat.le_of_ble_eq_true rfl)
  rw [lg_entry_eq]
  generalize (lg_sl ([.ref (ad 17)] : List Value) ++ List.replicate (2 - (lg_sl ([.ref (ad 17)] : List Value)).length) Slot.unset).toArray = ls at hl ⊢
  have hl : lv_has ls 2 [(0, .ref (ad 17))] := hl
  have hF : CallFix p m c cX2_forget 2 s _ lw_all RX2 := ⟨hx, hb, hml, hown, hts⟩
  have hR : (headSpec (ws_ yX2_forget cX2_forget 2 (Option.some Jvm.ClassFile.FieldType.int)) (rmD 0 0 0)).room.frames = 0 + 1 ∧ (headSpec (ws_ yX2_forget cX2_forget 2 (Option.some Jvm.ClassFile.FieldType.int)) (rmD 0 0 0)).room.locals = 64 * 0 + 64 := ⟨rfl, rfl⟩
  generalize (headSpec (ws_ yX2_forget cX2_forget 2 (Option.some Jvm.ClassFile.FieldType.int)) (rmD 0 0 0)).room = R at hR ⊢
  generalize ([.ref (ad 17)] : List Value).toArray = args at hts hF ⊢
  generalize hQ : MQ below _ _ _ _ _ _ = Q
  unfold w_M_forget at h
  refine lv_aload_n hx hb dX2_forget_0 rfl (lv_at hl 0 rfl) ?_
  refine gMX2_7_17 hF hK hI dX2_forget_1 ?_
  refine nr_bipush hx hb dX2_forget_4 (by decide) ?_
  refine s_iald hx hb hK hI 0 (by decide) wM_0 (by decide) (by decide) dX2_forget_6 (fun f1 => ?_)
  replace h := h f1
  refine nr_topi (fun v2 ev2 => ?_)
  have rv2 : InR v2 := by rw [ev2]; exact f1
  replace h := h v2 ev2 rv2
  refine lv_istore_n (lv' := [(1, iV v2), (0, .ref (ad 17))]) hx hb dX2_forget_7 rfl hl (by decide) rfl (fun ls hl => ?_)
  refine lv_aload_n hx hb dX2_forget_8 rfl (lv_at hl 1 rfl) ?_
  refine gMX2_7_17 hF hK hI dX2_forget_9 ?_
  refine nr_bipush hx hb dX2_forget_12 (by decide) ?_
  refine nr_iconst hx hb dX2_forget_14 ?_
  refine s_iast hx hb hK hI 0 (by decide) wM_0 (by decide) (by decide) (show InR (0) by decide) dX2_forget_15 (fun S3 H locs eS3 hI => ?_)
  replace h := h S3 eS3
  refine lv_iload_n hx hb dX2_forget_16 rfl (lv_at hl 0 rfl) ?_
  rw [← hQ]; exact s_iret (K := K) hx hb hr hlocks hI rv2 h dX2_forget_17
set_option maxHeartbeats 4000000 in
theorem t_M_apart (l : Launch) (x0 : Int) (x1 : Int) (K : Int → Prop) (rx0 : InR x0) (rx1 : InR x1) (h : w_M_apart x0 x1 K) : Met l yX2_apart (ws_ yX2_apart cX2_apart 2 (Option.some Jvm.ClassFile.FieldType.int)) (rmD 0 0 0) (va_Pc [iV x0, iV x1] (fun _ => True)) (va_Qi (fun r (_ : Unit) => K r.toInt) (fun _ _ => True) (fun _ => False)) 0 0 (fun _ => False) := by
  refine Met.ofW (cc := cX2_apart) (maxL := 2) (ret := (Option.some Jvm.ClassFile.FieldType.int)) (by decide) rfl ?_
  intro p e s m args below meth c s₁ B hml hv
  obtain ⟨rfl, -⟩ := hv
  have hx := B.exec
  have hb := B.bytes
  have hr := B.returns
  have hlocks := B.notSynchronized
  have hts := atoms_spec (ws := (ws_ yX2_apart cX2_apart 2 (Option.some Jvm.ClassFile.FieldType.int))) B.pre
  have hts : ∀ w ∈ lw_all, w.before _ s = true := fun w h => hts w (List.mem_cons_of_mem _ h)
  have hown : s.vm.findClass RX2 = some m.cls := findClass_of_methodNamed B.named
  clear B
  have hI : va_S (fun _ => False) s.heap s.heap [] := va_S.rf
  have hl := lv_entry ([iV x0, iV x1] : List Value) (n := 2) (Nat.le_of_ble_eq_true rfl)
  rw [lg_entry_eq]
  generalize (lg_sl ([iV x0, iV x1] : List Value) ++ List.replicate (2 - (lg_sl ([iV x0, iV x1] : List Value)).length) Slot.unset).toArray = ls at hl ⊢
  have hl : lv_has ls 2 [(0, iV x0), (1, iV x1)] := hl
  have hF : CallFix p m c cX2_apart 2 s _ lw_all RX2 := ⟨hx, hb, hml, hown, hts⟩
  have hR : (headSpec (ws_ yX2_apart cX2_apart 2 (Option.some Jvm.ClassFile.FieldType.int)) (rmD 0 0 0)).room.frames = 0 + 1 ∧ (headSpec (ws_ yX2_apart cX2_apart 2 (Option.some Jvm.ClassFile.FieldType.int)) (rmD 0 0 0)).room.locals = 64 * 0 + 64 := ⟨rfl, rfl⟩
  generalize (headSpec (ws_ yX2_apart cX2_apart 2 (Option.some Jvm.ClassFile.FieldType.int)) (rmD 0 0 0)).room = R at hR ⊢
  generalize ([iV x0, iV x1] : List Value).toArray = args at hts hF ⊢
  generalize hQ : MQ below _ _ _ _ _ _ = Q
  unfold w_M_apart at h
  refine lv_iload_n hx hb dX2_apart_0 rfl (lv_at hl 0 rfl) ?_
  refine lv_iload_n hx hb dX2_apart_1 rfl (lv_at hl 1 rfl) ?_
  refine nr_icmp_ge hx hb rx0 rx1 dX2_apart_2 (tgt := 11) (by decide) (fun c1 => ?_) (fun c1 => ?_)
  · replace h := h.1 c1
    refine lv_iload_n hx hb dX2_apart_11 rfl (lv_at hl 0 rfl) ?_
    refine lv_iload_n hx hb dX2_apart_12 rfl (lv_at hl 1 rfl) ?_
    have f2 := h.1; replace h := h.2
    refine nr_isub hx hb dX2_apart_13 ?_
    rw [← hQ]; exact p_iret (K := K) hx hb hr hlocks hI f2 h dX2_apart_14
  · replace h := h.2 c1
    refine lv_iload_n hx hb dX2_apart_5 rfl (lv_at hl 1 rfl) ?_
    refine lv_iload_n hx hb dX2_apart_6 rfl (lv_at hl 0 rfl) ?_
    have f3 := h.1; replace h := h.2
    refine nr_isub hx hb dX2_apart_7 ?_
    refine lv_goto (tgt := 14) hx hb dX2_apart_8 (by decide) ?_
    rw [← hQ]; exact p_iret (K := K) hx hb hr hlocks hI f3 h dX2_apart_14
theorem cMX2_79 {p : Program} {l : Launch} {e : Env} {R : Room} {s : State} {m : MethodId} {args : Array Value} {below : List Frame} {meth : Method} {c : Code} {H : Heap} {locs : List Loc} {Q : State → Prop} {cc : ByteArray} {nL pc : Nat} {ls : Array Slot} {rest : List Value} {cells slots : Nat} {D : va_G} {dA : Nat → ClassId} {ad : Nat → Nat} {A : Nat → Prop} {H0 : Heap} {S : St} {dk : Nat} (hF : CallFix p m c cc nL s args lw_all RX2) (hK : gK D dA s) (hI : sI D dA wM ad A H0 S H locs) (hls : ls.size = nL) (hR : R.frames = dk + 1 ∧ R.locals = 64 * dk + 64) (hd : 0 + 1 ≤ dk) (hW : (rest.map fun v => v.category).sum ≤ 8) (hf : cells ≤ R.cells ∧ slots ≤ R.slots) {x0 : Int} {x1 : Int} {K : Int → Prop} (r0 : InR x0) (r1 : InR x1) (h : w_M_apart x0 x1 K) (hdg : decode cc pc = .ok (.invokestatic 79, 3)) (kk : ∀ (r : Int) (H1 : Heap) (locs1 : List Loc), InR r → K r → sI D dA wM ad A H0 S H1 locs1 → W p l e R s m args below meth c H1 locs1 cells slots Q (F0 m (pc + 3) ls (iV r :: rest))) : W p l e R s m args below meth c H locs cells slots Q (F0 m (pc) ls (iV x1 :: iV x0 :: rest)) := s_callPi (As := [iV x0, iV x1]) (rest := rest) hF (t_M_apart l x0 x1 K r0 r1 h) (va_cwS 2 hF.2.2.2.2 (lw_S q1580 q1581 q109 q1582) rfl rfl rfl (by decide +kernel) ⟨by have h1 := hR.1; have h2 : (rmD 0 0 0).frames = 0 + 1 := rfl; omega, by have h1 := hR.2; have h2 : (rmD 0 0 0).locals = 64 * 0 + 64 := rfl; omega⟩) hI rfl hls rfl hW hdg hf kk
set_option maxHeartbeats 4000000 in
theorem t_M_miles (l : Launch) (D : va_G) (dA : Nat → ClassId) (ad : Nat → Nat) (S : St) (sz : Nat) (x1 : Int) (x2 : Int) (K : Int → Prop) (rx1 : InR x1) (rx2 : InR x2) (h : w_M_miles x1 x2 S K) : Met l yX2_miles (ws_ yX2_miles cX2_miles 3 (Option.some Jvm.ClassFile.FieldType.int)) (rmD 1 0 0) (va_Pc [.ref (ad 17), iV x1, iV x2] (sPre D dA wM ad S sz)) (va_Qi (fun r S' => S' = S ∧ K r.toInt) (sPost D dA wM ad (wA wM ad S sz)) (wA wM ad S sz)) 0 0 (wA wM ad S sz) := by
  refine Met.ofW (cc := cX2_miles) (maxL := 3) (ret := (Option.some Jvm.ClassFile.FieldType.int)) (by decide) rfl ?_
  intro p e s m args below meth c s₁ B hml hv
  obtain ⟨rfl, hsz, hK, hC⟩ := hv
  have hx := B.exec
  have hb := B.bytes
  have hr := B.returns
  have hlocks := B.notSynchronized
  have hts := atoms_spec (ws := (ws_ yX2_miles cX2_miles 3 (Option.some Jvm.ClassFile.FieldType.int))) B.pre
  have hts : ∀ w ∈ lw_all, w.before _ s = true := fun w h => hts w (List.mem_cons_of_mem _ h)
  have hown : s.vm.findClass RX2 = some m.cls := findClass_of_methodNamed B.named
  clear B
  subst hsz
  have hI : sI D dA wM ad (wA wM ad S s.heap.size) s.heap S s.heap [] := hC.start
  clear hC
  generalize wA wM ad S s.heap.size = A at hI ⊢
  have hl := lv_entry ([.ref (ad 17), iV x1, iV x2] : List Value) (n := 3) (Nat.le_of_ble_eq_true rfl)
  rw [lg_entry_eq]
  generalize (lg_sl ([.ref (ad 17), iV x1, iV x2] : List Value) ++ List.replicate (3 - (lg_sl ([.ref (ad 17), iV x1, iV x2] : List Value)).length) Slot.unset).toArray = ls at hl ⊢
  have hl : lv_has ls 3 [(0, .ref (ad 17)), (1, iV x1), (2, iV x2)] := hl
  have hF : CallFix p m c cX2_miles 3 s _ lw_all RX2 := ⟨hx, hb, hml, hown, hts⟩
  have hR : (headSpec (ws_ yX2_miles cX2_miles 3 (Option.some Jvm.ClassFile.FieldType.int)) (rmD 1 0 0)).room.frames = 1 + 1 ∧ (headSpec (ws_ yX2_miles cX2_miles 3 (Option.some Jvm.ClassFile.FieldType.int)) (rmD 1 0 0)).room.locals = 64 * 1 + 64 := ⟨rfl, rfl⟩
  generalize (headSpec (ws_ yX2_miles cX2_miles 3 (Option.some Jvm.ClassFile.FieldType.int)) (rmD 1 0 0)).room = R at hR ⊢
  generalize ([.ref (ad 17), iV x1, iV x2] : List Value).toArray = args at hts hF ⊢
  generalize hQ : MQ below _ _ _ _ _ _ = Q
  unfold w_M_miles at h
  refine lv_aload_n hx hb dX2_miles_0 rfl (lv_at hl 0 rfl) ?_
  refine gMX2_7_17 hF hK hI dX2_miles_1 ?_
  refine nr_bipush hx hb dX2_miles_4 (by decide) ?_
  refine nr_iconst hx hb dX2_miles_6 ?_
  refine lv_iload_n hx hb dX2_miles_7 rfl (lv_at hl 1 rfl) ?_
  have f1 := h.1; replace h := h.2
  refine nr_imul hx hb dX2_miles_8 ?_
  have f2 := h.1; replace h := h.2
  refine nr_iadd hx hb dX2_miles_9 ?_
  have f3 := h.1; replace h := h.2
  refine s_iald hx hb hK hI 0 (by decide) wM_0 f2 f3 dX2_miles_10 (fun f4 => ?_)
  replace h := h f4
  refine lv_aload_n hx hb dX2_miles_11 rfl (lv_at hl 0 rfl) ?_
  refine gMX2_7_17 hF hK hI dX2_miles_12 ?_
  refine nr_bipush hx hb dX2_miles_15 (by decide) ?_
  refine nr_iconst hx hb dX2_miles_17 ?_
  refine lv_iload_n hx hb dX2_miles_18 rfl (lv_at hl 2 rfl) ?_
  have f5 := h.1; replace h := h.2
  refine nr_imul hx hb dX2_miles_19 ?_
  have f6 := h.1; replace h := h.2
  refine nr_iadd hx hb dX2_miles_20 ?_
  have f7 := h.1; replace h := h.2
  refine s_iald hx hb hK hI 0 (by decide) wM_0 f6 f7 dX2_miles_21 (fun f8 => ?_)
  replace h := h f8
  refine cMX2_79 hF hK hI hl.1 hR (by decide) (Nat.le_of_ble_eq_true rfl) ⟨Nat.zero_le _, Nat.zero_le _⟩ f4 f8 h dX2_miles_22 (fun r9 H locs fr9 h hI => ?_)
  replace h := h fr9
  refine lv_aload_n hx hb dX2_miles_25 rfl (lv_at hl 0 rfl) ?_
  refine gMX2_7_17 hF hK hI dX2_miles_26 ?_
  refine nr_bipush hx hb dX2_miles_29 (by decide) ?_
  refine nr_iconst hx hb dX2_miles_31 ?_
  refine lv_iload_n hx hb dX2_miles_32 rfl (lv_at hl 1 rfl) ?_
  refine nr_imul hx hb dX2_miles_33 ?_
  refine nr_iadd hx hb dX2_miles_34 ?_
  refine nr_iconst hx hb dX2_miles_35 ?_
  have f11 := h.1; replace h := h.2
  refine nr_iadd hx hb dX2_miles_36 ?_
  have f12 := h.1; replace h := h.2
  refine s_iald hx hb hK hI 0 (by decide) wM_0 f11 f12 dX2_miles_37 (fun f13 => ?_)
  replace h := h f13
  refine lv_aload_n hx hb dX2_miles_38 rfl (lv_at hl 0 rfl) ?_
  refine gMX2_7_17 hF hK hI dX2_miles_39 ?_
  refine nr_bipush hx hb dX2_miles_42 (by decide) ?_
  refine nr_iconst hx hb dX2_miles_44 ?_
  refine lv_iload_n hx hb dX2_miles_45 rfl (lv_at hl 2 rfl) ?_
  refine nr_imul hx hb dX2_miles_46 ?_
  refine nr_iadd hx hb dX2_miles_47 ?_
  refine nr_iconst hx hb dX2_miles_48 ?_
  have f14 := h.1; replace h := h.2
  refine nr_iadd hx hb dX2_miles_49 ?_
  have f15 := h.1; replace h := h.2
  refine s_iald hx hb hK hI 0 (by decide) wM_0 f14 f15 dX2_miles_50 (fun f16 => ?_)
  replace h := h f16
  refine cMX2_79 hF hK hI hl.1 hR (by decide) (Nat.le_of_ble_eq_true rfl) ⟨Nat.zero_le _, Nat.zero_le _⟩ f13 f16 h dX2_miles_51 (fun r17 H locs fr17 h hI => ?_)
  replace h := h fr17
  have f19 := h.1; replace h := h.2
  refine nr_iadd hx hb dX2_miles_54 ?_
  rw [← hQ]; exact s_iret (K := fun r S' => S' = S ∧ K r) hx hb hr hlocks hI f19 ⟨rfl, h⟩ dX2_miles_55
theorem cMX2_333 {p : Program} {l : Launch} {e : Env} {R : Room} {s : State} {m : MethodId} {args : Array Value} {below : List Frame} {meth : Method} {c : Code} {H : Heap} {locs : List Loc} {Q : State → Prop} {cc : ByteArray} {nL pc : Nat} {ls : Array Slot} {rest : List Value} {cells slots : Nat} {D : va_G} {dA : Nat → ClassId} {ad : Nat → Nat} {A : Nat → Prop} {H0 : Heap} {S : St} {dk : Nat} (hF : CallFix p m c cc nL s args lw_all RX2) (hK : gK D dA s) (hI : sI D dA wM ad A H0 S H locs) (hls : ls.size = nL) (hR : R.frames = dk + 1 ∧ R.locals = 64 * dk + 64) (hd : 1 + 1 ≤ dk) (hW : (rest.map fun v => v.category).sum ≤ 8) (hf : cells ≤ R.cells ∧ slots ≤ R.slots) {x1 : Int} {x2 : Int} {K : Int → Prop} (r1 : InR x1) (r2 : InR x2) (h : w_M_miles x1 x2 S K) (hdg : decode cc pc = .ok (.invokevirtual 333, 3)) (kk : ∀ (r : Int) (H1 : Heap) (locs1 : List Loc), InR r → K r → sI D dA wM ad A H0 S H1 locs1 → W p l e R s m args below meth c H1 locs1 cells slots Q (F0 m (pc + 3) ls (iV r :: rest))) : W p l e R s m args below meth c H locs cells slots Q (F0 m (pc) ls (iV x2 :: iV x1 :: .ref (ad 17) :: rest)) := s_callVi (As := [iV x1, iV x2]) (rest := rest) (K := fun r S' => S' = S ∧ K r) hF (t_M_miles l D dA ad S H.size x1 x2 K r1 r2 h) (s_recv hK hI 17 (by decide) wM_17 rfl) (cwV 2 hF.2.2.2.2 (lw_V q1576 q1578 qs93 q109 q1579) rfl rfl rfl (by decide +kernel) ⟨by have h1 := hR.1; have h2 : (rmD 1 0 0).frames = 1 + 1 := rfl; omega, by have h1 := hR.2; have h2 : (rmD 1 0 0).locals = 64 * 1 + 64 := rfl; omega⟩) hK hI rfl hls rfl hW hdg hf (fun r S1 H1 locs1 f hk hI1 => by obtain ⟨rfl, hk⟩ := hk; exact kk r H1 locs1 f hk hI1)
set_option maxHeartbeats 4000000 in
theorem t_M_same (l : Launch) (D : va_G) (dA : Nat → ClassId) (ad : Nat → Nat) (S : St) (sz : Nat) (x1 : Int) (x2 : Int) (K : Int → Prop) (rx1 : InR x1) (rx2 : InR x2) (h : w_M_same x1 x2 S K) : Met l yX2_same (ws_ yX2_same cX2_same 6 (Option.some Jvm.ClassFile.FieldType.boolean)) (rmD 2 0 0) (va_Pc [.ref (ad 17), iV x1, iV x2] (sPre D dA wM ad S sz)) (va_Qi (fun r S' => (r.toInt = 0 ∨ r.toInt = 1) ∧ (S' = S ∧ K r.toInt)) (sPost D dA wM ad (wA wM ad S sz)) (wA wM ad S sz)) 0 0 (wA wM ad S sz) := by
  refine Met.ofW (cc := cX2_same) (maxL := 6) (ret := (Option.some Jvm.ClassFile.FieldType.boolean)) (by decide) rfl ?_
  intro p e s m args below meth c s₁ B hml hv
  obtain ⟨rfl, hsz, hK, hC⟩ := hv
  have hx := B.exec
  have hb := B.bytes
  have hr := B.returns
  have hlocks := B.notSynchronized
  have hts := atoms_spec (ws := (ws_ yX2_same cX2_same 6 (Option.some Jvm.ClassFile.FieldType.boolean))) B.pre
  have hts : ∀ w ∈ lw_all, w.before _ s = true := fun w h => hts w (List.mem_cons_of_mem _ h)
  have hown : s.vm.findClass RX2 = some m.cls := findClass_of_methodNamed B.named
  clear B
  subst hsz
  have hI : sI D dA wM ad (wA wM ad S s.heap.size) s.heap S s.heap [] := hC.start
  clear hC
  generalize wA wM ad S s.heap.size = A at hI ⊢
  have hl := lv_entry ([.ref (ad 17), iV x1, iV x2] : List Value) (n := 6) (Nat.le_of_ble_eq_true rfl)
  rw [lg_entry_eq]
  generalize (lg_sl ([.ref (ad 17), iV x1, iV x2] : List Value) ++ List.replicate (6 - (lg_sl ([.ref (ad 17), iV x1, iV x2] : List Value)).length) Slot.unset).toArray = ls at hl ⊢
  have hl : lv_has ls 6 [(0, .ref (ad 17)), (1, iV x1), (2, iV x2)] := hl
  have hF : CallFix p m c cX2_same 6 s _ lw_all RX2 := ⟨hx, hb, hml, hown, hts⟩
  have hR : (headSpec (ws_ yX2_same cX2_same 6 (Option.some Jvm.ClassFile.FieldType.boolean)) (rmD 2 0 0)).room.frames = 2 + 1 ∧ (headSpec (ws_ yX2_same cX2_same 6 (Option.some Jvm.ClassFile.FieldType.boolean)) (rmD 2 0 0)).room.locals = 64 * 2 + 64 := ⟨rfl, rfl⟩
  generalize (headSpec (ws_ yX2_same cX2_same 6 (Option.some Jvm.ClassFile.FieldType.boolean)) (rmD 2 0 0)).room = R at hR ⊢
  generalize ([.ref (ad 17), iV x1, iV x2] : List Value).toArray = args at hts hF ⊢
  generalize hQ : MQ below _ _ _ _ _ _ = Q
  unfold w_M_same at h
  refine lv_iload_n hx hb dX2_same_0 rfl (lv_at hl 1 rfl) ?_
  refine nr_iconst hx hb dX2_same_1 ?_
  refine lv_aload_n hx hb dX2_same_2 rfl (lv_at hl 0 rfl) ?_
  refine gMX2_7_17 hF hK hI dX2_same_3 ?_
  refine nr_bipush hx hb dX2_same_6 (by decide) ?_
  refine s_iald hx hb hK hI 0 (by decide) wM_0 (by decide) (by decide) dX2_same_8 (fun f1 => ?_)
  replace h := h f1
  refine nr_iconst hx hb dX2_same_9 ?_
  have f2 := h.1; replace h := h.2
  refine nr_isub hx hb dX2_same_10 ?_
  refine cMX2_75 hF hK hI hl.1 hR (by decide) (Nat.le_of_ble_eq_true rfl) ⟨Nat.zero_le _, Nat.zero_le _⟩ rx1 (by decide) f2 h dX2_same_11 (fun r3 H locs fr3 h hI => ?_)
  replace h := h fr3
  have gr3 : InR r3 := kdP_R (k := 2) (by decide) fr3
  refine nr_if_eq hx hb gr3 dX2_same_14 (tgt := 34) (by decide) (fun c5 => ?_) (fun c5 => ?_)
  · replace h := h.1 c5
    refine nr_iconst hx hb dX2_same_34 ?_
    rw [← hQ]; exact s_zret (K := fun r S' => S' = S ∧ K r) hx hb hr hlocks hI (by decide) ⟨rfl, h⟩ dX2_same_35
  · replace h := h.2 c5
    refine lv_iload_n hx hb dX2_same_17 rfl (lv_at hl 2 rfl) ?_
    refine nr_iconst hx hb dX2_same_18 ?_
    refine lv_aload_n hx hb dX2_same_19 rfl (lv_at hl 0 rfl) ?_
    refine gMX2_7_17 hF hK hI dX2_same_20 ?_
    refine nr_bipush hx hb dX2_same_23 (by decide) ?_
    refine s_iald hx hb hK hI 0 (by decide) wM_0 (by decide) (by decide) dX2_same_25 (fun f6 => ?_)
    refine nr_iconst hx hb dX2_same_26 ?_
    refine nr_isub hx hb dX2_same_27 ?_
    refine cMX2_75 hF hK hI hl.1 hR (by decide) (Nat.le_of_ble_eq_true rfl) ⟨Nat.zero_le _, Nat.zero_le _⟩ rx2 (by decide) f2 h dX2_same_28 (fun r7 H locs fr7 h hI => ?_)
    replace h := h fr7
    have gr7 : InR r7 := kdP_R (k := 2) (by decide) fr7
    refine nr_if_ne hx hb gr7 dX2_same_31 (tgt := 36) (by decide) (fun c9 => ?_) (fun c9 => ?_)
    · replace h := h.1 c9
      refine nr_bipush hx hb dX2_same_36 (by decide) ?_
      refine nr_iconst hx hb dX2_same_38 ?_
      refine lv_iload_n hx hb dX2_same_39 rfl (lv_at hl 1 rfl) ?_
      have f10 := h.1; replace h := h.2
      refine nr_imul hx hb dX2_same_40 ?_
      have f11 := h.1; replace h := h.2
      refine nr_iadd hx hb dX2_same_41 ?_
      refine nr_topi (fun v12 ev12 => ?_)
      have rv12 : InR v12 := by rw [ev12]; exact f11
      replace h := h v12 ev12 rv12
      refine lv_istore_n (lv' := [(3, iV v12), (0, .ref (ad 17)), (1, iV x1), (2, iV x2)]) hx hb dX2_same_42 rfl hl (by decide) rfl (fun ls hl => ?_)
      refine nr_bipush hx hb dX2_same_43 (by decide) ?_
      refine nr_iconst hx hb dX2_same_45 ?_
      refine lv_iload_n hx hb dX2_same_46 rfl (lv_at hl 3 rfl) ?_
      have f13 := h.1; replace h := h.2
      refine nr_imul hx hb dX2_same_47 ?_
      have f14 := h.1; replace h := h.2
      refine nr_iadd hx hb dX2_same_48 ?_
      refine nr_topi (fun v15 ev15 => ?_)
      have rv15 : InR v15 := by rw [ev15]; exact f14
      replace h := h v15 ev15 rv15
      refine lv_istore (lv' := [(4, iV v15), (3, iV v12), (0, .ref (ad 17)), (1, iV x1), (2, iV x2)]) hx hb dX2_same_49 hl (by decide) rfl (fun ls hl => ?_)
      refine lv_aload_n hx hb dX2_same_51 rfl (lv_at hl 2 rfl) ?_
      refine gMX2_7_17 hF hK hI dX2_same_52 ?_
      refine lv_iload hx hb dX2_same_55 (lv_at hl 0 rfl) ?_
      refine nr_iconst hx hb dX2_same_57 ?_
      have f16 := h.1; replace h := h.2
      refine nr_iadd hx hb dX2_same_58 ?_
      have f17 := h.1; replace h := h.2
      refine s_iald hx hb hK hI 0 (by decide) wM_0 f16 f17 dX2_same_59 (fun f18 => ?_)
      replace h := h f18
      refine lv_aload_n hx hb dX2_same_60 rfl (lv_at hl 2 rfl) ?_
      refine gMX2_7_17 hF hK hI dX2_same_61 ?_
      refine lv_iload_n hx hb dX2_same_64 rfl (lv_at hl 1 rfl) ?_
      refine nr_iconst hx hb dX2_same_65 ?_
      have f19 := h.1; replace h := h.2
      refine nr_iadd hx hb dX2_same_66 ?_
      have f20 := h.1; replace h := h.2
      refine s_iald hx hb hK hI 0 (by decide) wM_0 f19 f20 dX2_same_67 (fun f21 => ?_)
      replace h := h f21
      have f22 := h.1; replace h := h.2
      refine nr_isub hx hb dX2_same_68 ?_
      refine nr_topi (fun v23 ev23 => ?_)
      have rv23 : InR v23 := by rw [ev23]; exact f22
      replace h := h v23 ev23 rv23
      refine lv_istore (lv' := [(5, iV v23), (4, iV v15), (3, iV v12), (0, .ref (ad 17)), (1, iV x1), (2, iV x2)]) hx hb dX2_same_69 hl (by decide) rfl (fun ls hl => ?_)
      refine lv_aload_n hx hb dX2_same_71 rfl (lv_at hl 3 rfl) ?_
      refine gMX2_7_17 hF hK hI dX2_same_72 ?_
      refine lv_iload_n hx hb dX2_same_75 rfl (lv_at hl 2 rfl) ?_
      refine nr_iconst hx hb dX2_same_76 ?_
      have f24 := h.1; replace h := h.2
      refine nr_iadd hx hb dX2_same_77 ?_
      have f25 := h.1; replace h := h.2
      refine s_iald hx hb hK hI 0 (by decide) wM_0 f24 f25 dX2_same_78 (fun f26 => ?_)
      replace h := h f26
      refine lv_aload_n hx hb dX2_same_79 rfl (lv_at hl 3 rfl) ?_
      refine gMX2_7_17 hF hK hI dX2_same_80 ?_
      refine lv_iload hx hb dX2_same_83 (lv_at hl 1 rfl) ?_
      refine nr_iconst hx hb dX2_same_85 ?_
      have f27 := h.1; replace h := h.2
      refine nr_iadd hx hb dX2_same_86 ?_
      have f28 := h.1; replace h := h.2
      refine s_iald hx hb hK hI 0 (by decide) wM_0 f27 f28 dX2_same_87 (fun f29 => ?_)
      replace h := h f29
      refine nr_icmp_ne hx hb f26 f29 dX2_same_88 (tgt := 131) (by decide) (fun c30 => ?_) (fun c30 => ?_)
      · replace h := h.1 c30
        refine nr_iconst hx hb dX2_same_131 ?_
        rw [← hQ]; exact s_zret (K := fun r S' => S' = S ∧ K r) hx hb hr hlocks hI (by decide) ⟨rfl, h⟩ dX2_same_132
      · replace h := h.2 c30
        refine lv_iload hx hb dX2_same_91 (lv_at hl 0 rfl) ?_
        refine nr_if_le hx hb rv23 dX2_same_93 (tgt := 131) (by decide) (fun c31 => ?_) (fun c31 => ?_)
        · replace h := h.1 c31
          refine nr_iconst hx hb dX2_same_131 ?_
          rw [← hQ]; exact s_zret (K := fun r S' => S' = S ∧ K r) hx hb hr hlocks hI (by decide) ⟨rfl, h⟩ dX2_same_132
        · replace h := h.2 c31
          refine lv_aload_n hx hb dX2_same_96 rfl (lv_at hl 3 rfl) ?_
          refine gMX2_7_17 hF hK hI dX2_same_97 ?_
          refine lv_iload_n hx hb dX2_same_100 rfl (lv_at hl 2 rfl) ?_
          refine nr_iconst hx hb dX2_same_101 ?_
          have f32 := h.1; replace h := h.2
          refine nr_iadd hx hb dX2_same_102 ?_
          have f33 := h.1; replace h := h.2
          refine s_iald hx hb hK hI 0 (by decide) wM_0 f32 f33 dX2_same_103 (fun f34 => ?_)
          replace h := h f34
          refine lv_aload_n hx hb dX2_same_104 rfl (lv_at hl 3 rfl) ?_
          refine gMX2_7_17 hF hK hI dX2_same_105 ?_
          refine lv_iload hx hb dX2_same_108 (lv_at hl 1 rfl) ?_
          refine nr_iconst hx hb dX2_same_110 ?_
          have f35 := h.1; replace h := h.2
          refine nr_iadd hx hb dX2_same_111 ?_
          have f36 := h.1; replace h := h.2
          refine s_iald hx hb hK hI 0 (by decide) wM_0 f35 f36 dX2_same_112 (fun f37 => ?_)
          replace h := h f37
          have f38 := h.1; replace h := h.2
          refine nr_isub hx hb dX2_same_113 ?_
          refine nr_iconst hx hb dX2_same_114 ?_
          refine lv_aload_n hx hb dX2_same_115 rfl (lv_at hl 3 rfl) ?_
          refine gMX2_7_17 hF hK hI dX2_same_116 ?_
          refine nr_bipush hx hb dX2_same_119 (by decide) ?_
          refine s_iald hx hb hK hI 0 (by decide) wM_0 (by decide) (by decide) dX2_same_121 (fun f39 => ?_)
          replace h := h f39
          refine lv_iload hx hb dX2_same_122 (lv_at hl 0 rfl) ?_
          have f40 := h.1; replace h := h.2
          refine nr_imul hx hb dX2_same_124 ?_
          refine cMX2_75 hF hK hI hl.1 hR (by decide) (Nat.le_of_ble_eq_true rfl) ⟨Nat.zero_le _, Nat.zero_le _⟩ f38 (by decide) f40 h dX2_same_125 (fun r41 H locs fr41 h hI => ?_)
          replace h := h fr41
          have gr41 : InR r41 := kdP_R (k := 2) (by decide) fr41
          refine nr_if_ne hx hb gr41 dX2_same_128 (tgt := 133) (by decide) (fun c43 => ?_) (fun c43 => ?_)
          · replace h := h.1 c43
            refine lv_aload_n hx hb dX2_same_133 rfl (lv_at hl 3 rfl) ?_
            refine lv_aload_n hx hb dX2_same_134 rfl (lv_at hl 3 rfl) ?_
            refine gMX2_7_17 hF hK hI dX2_same_135 ?_
            refine lv_iload_n hx hb dX2_same_138 rfl (lv_at hl 2 rfl) ?_
            have f44 := h.1; replace h := h.2
            refine s_iald hx hb hK hI 0 (by decide) wM_0 rv12 f44 dX2_same_139 (fun f45 => ?_)
            replace h := h f45
            refine lv_aload_n hx hb dX2_same_140 rfl (lv_at hl 3 rfl) ?_
            refine gMX2_7_17 hF hK hI dX2_same_141 ?_
            refine lv_iload hx hb dX2_same_144 (lv_at hl 1 rfl) ?_
            have f46 := h.1; replace h := h.2
            refine s_iald hx hb hK hI 0 (by decide) wM_0 rv15 f46 dX2_same_146 (fun f47 => ?_)
            replace h := h f47
            refine cMX2_333 hF hK hI hl.1 hR (by decide) (Nat.le_of_ble_eq_true rfl) ⟨Nat.zero_le _, Nat.zero_le _⟩ f45 f47 h dX2_same_147 (fun r48 H locs fr48 h hI => ?_)
            replace h := h fr48
            refine lv_aload_n hx hb dX2_same_150 rfl (lv_at hl 3 rfl) ?_
            refine gMX2_7_17 hF hK hI dX2_same_151 ?_
            refine nr_bipush hx hb dX2_same_154 (by decide) ?_
            refine s_iald hx hb hK hI 0 (by decide) wM_0 (by decide) (by decide) dX2_same_156 (fun f50 => ?_)
            replace h := h f50
            have f51 := h.1; replace h := h.2
            have f52 := h.1; replace h := h.2
            refine nr_idiv hx hb fr48 f50 f51 dX2_same_157 ?_
            refine lv_iload hx hb dX2_same_158 (lv_at hl 0 rfl) ?_
            refine nr_icmp_gt hx hb f52 rv23 dX2_same_160 (tgt := 167) (by decide) (fun c53 => ?_) (fun c53 => ?_)
            · replace h := h.1 c53
              refine nr_iconst hx hb dX2_same_167 ?_
              rw [← hQ]; exact s_zret (K := fun r S' => S' = S ∧ K r) hx hb hr hlocks hI (by decide) ⟨rfl, h⟩ dX2_same_168
            · replace h := h.2 c53
              refine nr_iconst hx hb dX2_same_163 ?_
              refine lv_goto (tgt := 168) hx hb dX2_same_164 (by decide) ?_
              rw [← hQ]; exact s_zret (K := fun r S' => S' = S ∧ K r) hx hb hr hlocks hI (by decide) ⟨rfl, h⟩ dX2_same_168
          · replace h := h.2 c43
            refine nr_iconst hx hb dX2_same_131 ?_
            rw [← hQ]; exact s_zret (K := fun r S' => S' = S ∧ K r) hx hb hr hlocks hI (by decide) ⟨rfl, h⟩ dX2_same_132
    · replace h := h.2 c9
      refine nr_iconst hx hb dX2_same_34 ?_
      rw [← hQ]; exact s_zret (K := fun r S' => S' = S ∧ K r) hx hb hr hlocks hI (by decide) ⟨rfl, h⟩ dX2_same_35
set_option maxHeartbeats 4000000 in
theorem t_M_behind (l : Launch) (D : va_G) (dA : Nat → ClassId) (ad : Nat → Nat) (S : St) (sz : Nat) (x1 : Int) (x2 : Int) (x3 : Int) (K : Int → Prop) (rx1 : InR x1) (rx2 : InR x2) (rx3 : InR x3) (h : w_M_behind x1 x2 x3 S K) : Met l yX2_behind (ws_ yX2_behind cX2_behind 4 (Option.some Jvm.ClassFile.FieldType.int)) (rmD 0 0 0) (va_Pc [.ref (ad 17), iV x1, iV x2, iV x3] (sPre D dA wM ad S sz)) (va_Qi (fun r S' => S' = S ∧ K r.toInt) (sPost D dA wM ad (wA wM ad S sz)) (wA wM ad S sz)) 0 0 (wA wM ad S sz) := by
  refine Met.ofW (cc := cX2_behind) (maxL := 4) (ret := (Option.some Jvm.ClassFile.FieldType.int)) (by decide) rfl ?_
  intro p e s m args below meth c s₁ B hml hv
  obtain ⟨rfl, hsz, hK, hC⟩ := hv
  have hx := B.exec
  have hb := B.bytes
  have hr := B.returns
  have hlocks := B.notSynchronized
  have hts := atoms_spec (ws := (ws_ yX2_behind cX2_behind 4 (Option.some Jvm.ClassFile.FieldType.int))) B.pre
  have hts : ∀ w ∈ lw_all, w.before _ s = true := fun w h => hts w (List.mem_cons_of_mem _ h)
  have hown : s.vm.findClass RX2 = some m.cls := findClass_of_methodNamed B.named
  clear B
  subst hsz
  have hI : sI D dA wM ad (wA wM ad S s.heap.size) s.heap S s.heap [] := hC.start
  clear hC
  generalize wA wM ad S s.heap.size = A at hI ⊢
  have hl := lv_entry ([.ref (ad 17), iV x1, iV x2, iV x3] : List Value) (n := 4) (Nat.le_of_ble_eq_true rfl)
  rw [lg_entry_eq]
  generalize (lg_sl ([.ref (ad 17), iV x1, iV x2, iV x3] : List Value) ++ List.replicate (4 - (lg_sl ([.ref (ad 17), iV x1, iV x2, iV x3] : List Value)).length) Slot.unset).toArray = ls at hl ⊢
  have hl : lv_has ls 4 [(0, .ref (ad 17)), (1, iV x1), (2, iV x2), (3, iV x3)] := hl
  have hF : CallFix p m c cX2_behind 4 s _ lw_all RX2 := ⟨hx, hb, hml, hown, hts⟩
  have hR : (headSpec (ws_ yX2_behind cX2_behind 4 (Option.some Jvm.ClassFile.FieldType.int)) (rmD 0 0 0)).room.frames = 0 + 1 ∧ (headSpec (ws_ yX2_behind cX2_behind 4 (Option.some Jvm.ClassFile.FieldType.int)) (rmD 0 0 0)).room.locals = 64 * 0 + 64 := ⟨rfl, rfl⟩
  generalize (headSpec (ws_ yX2_behind cX2_behind 4 (Option.some Jvm.ClassFile.FieldType.int)) (rmD 0 0 0)).room = R at hR ⊢
  generalize ([.ref (ad 17), iV x1, iV x2, iV x3] : List Value).toArray = args at hts hF ⊢
  generalize hQ : MQ below _ _ _ _ _ _ = Q
  unfold w_M_behind at h
  refine nr_sipush hx hb dX2_behind_0 (by decide) ?_
  refine lv_iload_n hx hb dX2_behind_3 rfl (lv_at hl 1 rfl) ?_
  refine nr_iconst hx hb dX2_behind_4 ?_
  have f1 := h.1; replace h := h.2
  refine nr_iadd hx hb dX2_behind_5 ?_
  have f2 := h.1; replace h := h.2
  refine nr_imul hx hb dX2_behind_6 ?_
  refine lv_iload_n hx hb dX2_behind_7 rfl (lv_at hl 2 rfl) ?_
  refine nr_if_ge hx hb rx2 dX2_behind_8 (tgt := 15) (by decide) (fun c3 => ?_) (fun c3 => ?_)
  · replace h := h.1 c3
    refine lv_iload_n hx hb dX2_behind_15 rfl (lv_at hl 3 rfl) ?_
    refine nr_iconst hx hb dX2_behind_16 ?_
    refine lv_iload_n hx hb dX2_behind_17 rfl (lv_at hl 2 rfl) ?_
    have f4 := h.1; replace h := h.2
    have f5 := h.1; replace h := h.2
    refine nr_ishl hx hb f4 f5 dX2_behind_18 ?_
    refine nr_ior hx hb dX2_behind_19 ?_
    have f6 := h.1; replace h := h.2
    refine nr_iadd hx hb dX2_behind_20 ?_
    rw [← hQ]; exact s_iret (K := fun r S' => S' = S ∧ K r) hx hb hr hlocks hI f6 ⟨rfl, h⟩ dX2_behind_21
  · replace h := h.2 c3
    refine lv_iload_n hx hb dX2_behind_11 rfl (lv_at hl 3 rfl) ?_
    refine lv_goto (tgt := 20) hx hb dX2_behind_12 (by decide) ?_
    have f7 := h.1; replace h := h.2
    refine nr_iadd hx hb dX2_behind_20 ?_
    rw [← hQ]; exact s_iret (K := fun r S' => S' = S ∧ K r) hx hb hr hlocks hI f7 ⟨rfl, h⟩ dX2_behind_21
