set_option maxRecDepth 100000
set_option maxHeartbeats 4000000 in
theorem t_M_costOf (l : Launch) (D : va_G) (dA : Nat → ClassId) (ad : Nat → Nat) (S : St) (sz : Nat) (x1 : Int) (x2 : Int) (K : Int → Prop) (rx1 : InR x1) (rx2 : InR x2) (h : w_M_costOf x1 x2 S K) : Met l yX2_costOf (ws_ yX2_costOf cX2_costOf 3 (Option.some Jvm.ClassFile.FieldType.int)) (rmD 0 0 0) (va_Pc [.ref (ad 17), iV x1, iV x2] (sPre D dA wM ad S sz)) (va_Qi (fun r S' => S' = S ∧ K r.toInt) (sPost D dA wM ad (wA wM ad S sz)) (wA wM ad S sz)) 0 0 (wA wM ad S sz) := by
  refine Met.ofW (cc := cX2_costOf) (maxL := 3) (ret := (Option.some Jvm.ClassFile.FieldType.int)) (by decide) rfl ?_
  intro p e s m args below meth c s₁ B hml hv
  obtain ⟨rfl, hsz, hK, hC⟩ := hv
  have hx := B.exec
  have hb := B.bytes
  have hr := B.returns
  have hlocks := B.notSynchronized
  have hts := atoms_spec (ws := (ws_ yX2_costOf cX2_costOf 3 (Option.some Jvm.ClassFile.FieldType.int))) B.pre
  have hts : ∀ w ∈ lw_all, w.before _ s = true := fun w h => hts w (List.mem_cons_of_mem _ h)
  have hown : s.vm.findClass RX2 = some m.cls := findClass_of_methodNamed B.named
  clear B
  subst hsz
  have hI : sI D dA wM ad (wA wM ad S s.heap.size) s.heap S s.heap [] := hC.start
  clear hC
  generalize wA wM ad S s.heap.size = A at hI ⊢
  have hl := lv_entry ([.ref (ad 17), iV x1, iV x2] : List Value) (n := 3) (Nat.le_of_ble_eq_true rfl)
  rw [lg_entry_eq]
  generalize (lg_sl ([.ref (ad 17), iV x1, iV x2] : List Value) ++ List.replicate (3 - (lg_sl ([.ref (ad 17), iV x1, iV x2] : List Value)).length) Slot.unset).toArray = ls at hl ⊢
  have hl : lv_has ls 3 [(0, .ref (ad 17)), (1, iV x1), (2, iV x2)] := hl
  have hF : CallFix p m c cX2_costOf 3 s _ lw_all RX2 := ⟨hx, hb, hml, hown, hts⟩
  have hR : (headSpec (ws_ yX2_costOf cX2_costOf 3 (Option.some Jvm.ClassFile.FieldType.int)) (rmD 0 0 0)).room.frames = 0 + 1 ∧ (headSpec (ws_ yX2_costOf cX2_costOf 3 (Option.some Jvm.ClassFile.FieldType.int)) (rmD 0 0 0)).room.locals = 64 * 0 + 64 := ⟨rfl, rfl⟩
  generalize (headSpec (ws_ yX2_costOf cX2_costOf 3 (Option.some Jvm.ClassFile.FieldType.int)) (rmD 0 0 0)).room = R at hR ⊢
  generalize ([.ref (ad 17), iV x1, iV x2] : List Value).toArray = args at hts hF ⊢
  generalize hQ : MQ below _ _ _ _ _ _ = Q
  unfold w_M_costOf at h
  refine lv_iload_n hx hb dX2_costOf_0 rfl (lv_at hl 2 rfl) ?_
  refine nr_if_ge hx hb rx2 dX2_costOf_1 (tgt := 9) (by decide) (fun c1 => ?_) (fun c1 => ?_)
  · replace h := h.1 c1
    refine lv_aload_n hx hb dX2_costOf_9 rfl (lv_at hl 0 rfl) ?_
    refine gMX2_7_17 hF hK hI dX2_costOf_10 ?_
    refine nr_bipush hx hb dX2_costOf_13 (by decide) ?_
    refine nr_iconst hx hb dX2_costOf_15 ?_
    refine lv_iload_n hx hb dX2_costOf_16 rfl (lv_at hl 1 rfl) ?_
    have f2 := h.1; replace h := h.2
    refine nr_imul hx hb dX2_costOf_17 ?_
    have f3 := h.1; replace h := h.2
    refine nr_iadd hx hb dX2_costOf_18 ?_
    have f4 := h.1; replace h := h.2
    refine s_iald hx hb hK hI 0 (by decide) wM_0 f3 f4 dX2_costOf_19 (fun f5 => ?_)
    replace h := h f5
    refine lv_aload_n hx hb dX2_costOf_20 rfl (lv_at hl 0 rfl) ?_
    refine gMX2_7_17 hF hK hI dX2_costOf_21 ?_
    refine nr_bipush hx hb dX2_costOf_24 (by decide) ?_
    refine nr_iconst hx hb dX2_costOf_26 ?_
    refine lv_iload_n hx hb dX2_costOf_27 rfl (lv_at hl 2 rfl) ?_
    have f6 := h.1; replace h := h.2
    refine nr_imul hx hb dX2_costOf_28 ?_
    have f7 := h.1; replace h := h.2
    refine nr_iadd hx hb dX2_costOf_29 ?_
    have f8 := h.1; replace h := h.2
    refine s_iald hx hb hK hI 0 (by decide) wM_0 f7 f8 dX2_costOf_30 (fun f9 => ?_)
    replace h := h f9
    refine nr_icmp_eq hx hb f5 f9 dX2_costOf_31 (tgt := 38) (by decide) (fun c10 => ?_) (fun c10 => ?_)
    · replace h := h.1 c10
      refine nr_iconst hx hb dX2_costOf_38 ?_
      rw [← hQ]; exact s_iret (K := fun r S' => S' = S ∧ K r) hx hb hr hlocks hI (by decide) ⟨rfl, h⟩ dX2_costOf_39
    · replace h := h.2 c10
      refine nr_iconst hx hb dX2_costOf_34 ?_
      refine lv_goto (tgt := 39) hx hb dX2_costOf_35 (by decide) ?_
      rw [← hQ]; exact s_iret (K := fun r S' => S' = S ∧ K r) hx hb hr hlocks hI (by decide) ⟨rfl, h⟩ dX2_costOf_39
  · replace h := h.2 c1
    refine nr_bipush hx hb dX2_costOf_4 (by decide) ?_
    refine lv_goto (tgt := 39) hx hb dX2_costOf_6 (by decide) ?_
    rw [← hQ]; exact s_iret (K := fun r S' => S' = S ∧ K r) hx hb hr hlocks hI (by decide) ⟨rfl, h⟩ dX2_costOf_39
theorem gMX2_62_17 {p : Program} {l : Launch} {e : Env} {R : Room} {s : State} {m : MethodId} {args : Array Value} {below : List Frame} {meth : Method} {c : Code} {H : Heap} {locs : List Loc} {Q : State → Prop} {cc : ByteArray} {nL pc : Nat} {ls : Array Slot} {rest : List Value} {cells slots : Nat} {D : va_G} {dA : Nat → ClassId} {ad : Nat → Nat} {A : Nat → Prop} {H0 : Heap} {S : St} (hF : CallFix p m c cc nL s args lw_all RX2) (hK : gK D dA s) (hI : sI D dA wM ad A H0 S H locs) (hdg : decode cc pc = .ok (.getfield 62, 3)) (kk : W p l e R s m args below meth c H locs cells slots Q (F0 m (pc + 3) ls (.ref (ad 14) :: rest))) : W p l e R s m args below meth c H locs cells slots Q (F0 m (pc) ls (.ref (ad 17) :: rest)) := s_getr hF.1 hF.2.1 hF.2.2.2.2 hF.2.2.2.1 hK hI 17 (by decide) wM_17 rfl in_X2 32 (by decide) q1193 rfl 14 rfl hdg kk
set_option maxHeartbeats 4000000 in
theorem t_M_mayBe (l : Launch) (D : va_G) (dA : Nat → ClassId) (ad : Nat → Nat) (S : St) (sz : Nat) (x1 : Int) (x2 : Int) (x3 : Int) (K : Int → Prop) (rx1 : InR x1) (rx2 : InR x2) (rx3 : InR x3) (h : w_M_mayBe x1 x2 x3 S K) : Met l yX2_mayBe (ws_ yX2_mayBe cX2_mayBe 4 (Option.some Jvm.ClassFile.FieldType.boolean)) (rmD 0 0 0) (va_Pc [.ref (ad 17), iV x1, iV x2, iV x3] (sPre D dA wM ad S sz)) (va_Qi (fun r S' => (r.toInt = 0 ∨ r.toInt = 1) ∧ (S' = S ∧ K r.toInt)) (sPost D dA wM ad (wA wM ad S sz)) (wA wM ad S sz)) 0 0 (wA wM ad S sz) := by
  refine Met.ofW (cc := cX2_mayBe) (maxL := 4) (ret := (Option.some Jvm.ClassFile.FieldType.boolean)) (by decide) rfl ?_
  intro p e s m args below meth c s₁ B hml hv
  obtain ⟨rfl, hsz, hK, hC⟩ := hv
  have hx := B.exec
  have hb := B.bytes
  have hr := B.returns
  have hlocks := B.notSynchronized
  have hts := atoms_spec (ws := (ws_ yX2_mayBe cX2_mayBe 4 (Option.some Jvm.ClassFile.FieldType.boolean))) B.pre
  have hts : ∀ w ∈ lw_all, w.before _ s = true := fun w h => hts w (List.mem_cons_of_mem _ h)
  have hown : s.vm.findClass RX2 = some m.cls := findClass_of_methodNamed B.named
  clear B
  subst hsz
  have hI : sI D dA wM ad (wA wM ad S s.heap.size) s.heap S s.heap [] := hC.start
  clear hC
  generalize wA wM ad S s.heap.size = A at hI ⊢
  have hl := lv_entry ([.ref (ad 17), iV x1, iV x2, iV x3] : List Value) (n := 4) (Nat.le_of_ble_eq_true rfl)
  rw [lg_entry_eq]
  generalize (lg_sl ([.ref (ad 17), iV x1, iV x2, iV x3] : List Value) ++ List.replicate (4 - (lg_sl ([.ref (ad 17), iV x1, iV x2, iV x3] : List Value)).length) Slot.unset).toArray = ls at hl ⊢
  have hl : lv_has ls 4 [(0, .ref (ad 17)), (1, iV x1), (2, iV x2), (3, iV x3)] := hl
  have hF : CallFix p m c cX2_mayBe 4 s _ lw_all RX2 := ⟨hx, hb, hml, hown, hts⟩
  have hR : (headSpec (ws_ yX2_mayBe cX2_mayBe 4 (Option.some Jvm.ClassFile.FieldType.boolean)) (rmD 0 0 0)).room.frames = 0 + 1 ∧ (headSpec (ws_ yX2_mayBe cX2_mayBe 4 (Option.some Jvm.ClassFile.FieldType.boolean)) (rmD 0 0 0)).room.locals = 64 * 0 + 64 := ⟨rfl, rfl⟩
  generalize (headSpec (ws_ yX2_mayBe cX2_mayBe 4 (Option.some Jvm.ClassFile.FieldType.boolean)) (rmD 0 0 0)).room = R at hR ⊢
  generalize ([.ref (ad 17), iV x1, iV x2, iV x3] : List Value).toArray = args at hts hF ⊢
  generalize hQ : MQ below _ _ _ _ _ _ = Q
  unfold w_M_mayBe at h
  refine lv_iload_n hx hb dX2_mayBe_0 rfl (lv_at hl 2 rfl) ?_
  refine nr_if_lt hx hb rx2 dX2_mayBe_1 (tgt := 26) (by decide) (fun c1 => ?_) (fun c1 => ?_)
  · replace h := h.1 c1
    refine nr_iconst hx hb dX2_mayBe_26 ?_
    refine lv_goto (tgt := 31) hx hb dX2_mayBe_27 (by decide) ?_
    rw [← hQ]; exact s_zret (K := fun r S' => S' = S ∧ K r) hx hb hr hlocks hI (by decide) ⟨rfl, h⟩ dX2_mayBe_31
  · replace h := h.2 c1
    refine lv_iload_n hx hb dX2_mayBe_4 rfl (lv_at hl 3 rfl) ?_
    refine lv_iload_n hx hb dX2_mayBe_5 rfl (lv_at hl 2 rfl) ?_
    have f2 := h.1; replace h := h.2
    refine nr_ishr hx hb f2 rx3 dX2_mayBe_6 ?_
    have f3 : InR (x3 / 2 ^ (Int.toNat x2)) := ni_shrR rx3
    refine nr_iconst hx hb dX2_mayBe_7 ?_
    refine nr_mask hx hb 1 (by decide) (by decide) dX2_mayBe_8 ?_
    have f4 : InR ((x3 / 2 ^ (Int.toNat x2)) % 2) := by omega
    refine nr_if_ne hx hb f4 dX2_mayBe_9 (tgt := 30) (by decide) (fun c5 => ?_) (fun c5 => ?_)
    · replace h := h.1 c5
      refine nr_iconst hx hb dX2_mayBe_30 ?_
      rw [← hQ]; exact s_zret (K := fun r S' => S' = S ∧ K r) hx hb hr hlocks hI (by decide) ⟨rfl, h⟩ dX2_mayBe_31
    · replace h := h.2 c5
      refine lv_aload_n hx hb dX2_mayBe_12 rfl (lv_at hl 0 rfl) ?_
      refine gMX2_62_17 hF hK hI dX2_mayBe_13 ?_
      refine nr_bipush hx hb dX2_mayBe_16 (by decide) ?_
      refine lv_iload_n hx hb dX2_mayBe_18 rfl (lv_at hl 2 rfl) ?_
      have f6 := h.1; replace h := h.2
      refine nr_imul hx hb dX2_mayBe_19 ?_
      refine lv_iload_n hx hb dX2_mayBe_20 rfl (lv_at hl 1 rfl) ?_
      have f7 := h.1; replace h := h.2
      refine nr_iadd hx hb dX2_mayBe_21 ?_
      have f8 := h.1; replace h := h.2
      refine s_zald hx hb hK hI 14 (by decide) wM_14 f7 f8 dX2_mayBe_22 (fun f9 f9z => ?_)
      replace h := h f9
      replace h := h f9z
      refine nr_if_eq hx hb f9 dX2_mayBe_23 (tgt := 30) (by decide) (fun c10 => ?_) (fun c10 => ?_)
      · replace h := h.1 c10
        refine nr_iconst hx hb dX2_mayBe_30 ?_
        rw [← hQ]; exact s_zret (K := fun r S' => S' = S ∧ K r) hx hb hr hlocks hI (by decide) ⟨rfl, h⟩ dX2_mayBe_31
      · replace h := h.2 c10
        refine nr_iconst hx hb dX2_mayBe_26 ?_
        refine lv_goto (tgt := 31) hx hb dX2_mayBe_27 (by decide) ?_
        rw [← hQ]; exact s_zret (K := fun r S' => S' = S ∧ K r) hx hb hr hlocks hI (by decide) ⟨rfl, h⟩ dX2_mayBe_31
theorem gMX2_56_17 {p : Program} {l : Launch} {e : Env} {R : Room} {s : State} {m : MethodId} {args : Array Value} {below : List Frame} {meth : Method} {c : Code} {H : Heap} {locs : List Loc} {Q : State → Prop} {cc : ByteArray} {nL pc : Nat} {ls : Array Slot} {rest : List Value} {cells slots : Nat} {D : va_G} {dA : Nat → ClassId} {ad : Nat → Nat} {A : Nat → Prop} {H0 : Heap} {S : St} (hF : CallFix p m c cc nL s args lw_all RX2) (hK : gK D dA s) (hI : sI D dA wM ad A H0 S H locs) (hdg : decode cc pc = .ok (.getfield 56, 3)) (kk : W p l e R s m args below meth c H locs cells slots Q (F0 m (pc + 3) ls (.ref (ad 12) :: rest))) : W p l e R s m args below meth c H locs cells slots Q (F0 m (pc) ls (.ref (ad 17) :: rest)) := s_getr hF.1 hF.2.1 hF.2.2.2.2 hF.2.2.2.1 hK hI 17 (by decide) wM_17 rfl in_X2 30 (by decide) q1191 rfl 12 rfl hdg kk
theorem gMX2_59_17 {p : Program} {l : Launch} {e : Env} {R : Room} {s : State} {m : MethodId} {args : Array Value} {below : List Frame} {meth : Method} {c : Code} {H : Heap} {locs : List Loc} {Q : State → Prop} {cc : ByteArray} {nL pc : Nat} {ls : Array Slot} {rest : List Value} {cells slots : Nat} {D : va_G} {dA : Nat → ClassId} {ad : Nat → Nat} {A : Nat → Prop} {H0 : Heap} {S : St} (hF : CallFix p m c cc nL s args lw_all RX2) (hK : gK D dA s) (hI : sI D dA wM ad A H0 S H locs) (hdg : decode cc pc = .ok (.getfield 59, 3)) (kk : W p l e R s m args below meth c H locs cells slots Q (F0 m (pc + 3) ls (.ref (ad 13) :: rest))) : W p l e R s m args below meth c H locs cells slots Q (F0 m (pc) ls (.ref (ad 17) :: rest)) := s_getr hF.1 hF.2.1 hF.2.2.2.2 hF.2.2.2.1 hK hI 17 (by decide) wM_17 rfl in_X2 31 (by decide) q1192 rfl 13 rfl hdg kk
theorem cMX2_343 {p : Program} {l : Launch} {e : Env} {R : Room} {s : State} {m : MethodId} {args : Array Value} {below : List Frame} {meth : Method} {c : Code} {H : Heap} {locs : List Loc} {Q : State → Prop} {cc : ByteArray} {nL pc : Nat} {ls : Array Slot} {rest : List Value} {cells slots : Nat} {D : va_G} {dA : Nat → ClassId} {ad : Nat → Nat} {A : Nat → Prop} {H0 : Heap} {S : St} {dk : Nat} (hF : CallFix p m c cc nL s args lw_all RX2) (hK : gK D dA s) (hI : sI D dA wM ad A H0 S H locs) (hls : ls.size = nL) (hR : R.frames = dk + 1 ∧ R.locals = 64 * dk + 64) (hd : 0 + 1 ≤ dk) (hW : (rest.map fun v => v.category).sum ≤ 8) (hf : cells ≤ R.cells ∧ slots ≤ R.slots) {x1 : Int} {x2 : Int} {x3 : Int} {K : Int → Prop} (r1 : InR x1) (r2 : InR x2) (r3 : InR x3) (h : w_M_mayBe x1 x2 x3 S K) (hdg : decode cc pc = .ok (.invokevirtual 343, 3)) (kk : ∀ (r : Int) (H1 : Heap) (locs1 : List Loc), (r = 0 ∨ r = 1) → K r → sI D dA wM ad A H0 S H1 locs1 → W p l e R s m args below meth c H1 locs1 cells slots Q (F0 m (pc + 3) ls (iV r :: rest))) : W p l e R s m args below meth c H locs cells slots Q (F0 m (pc) ls (iV x3 :: iV x2 :: iV x1 :: .ref (ad 17) :: rest)) := s_callVz (As := [iV x1, iV x2, iV x3]) (rest := rest) (K := fun r S' => S' = S ∧ K r) hF (t_M_mayBe l D dA ad S H.size x1 x2 x3 K r1 r2 r3 h) (s_recv hK hI 17 (by decide) wM_17 rfl) (cwV 3 hF.2.2.2.2 (lw_V q1597 q1599 qs96 q109 q1600) rfl rfl rfl (by decide +kernel) ⟨by have h1 := hR.1; have h2 : (rmD 0 0 0).frames = 0 + 1 := rfl; omega, by have h1 := hR.2; have h2 : (rmD 0 0 0).locals = 64 * 0 + 64 := rfl; omega⟩) hK hI rfl hls rfl hW hdg hf (fun r S1 H1 locs1 f hk hI1 => by obtain ⟨rfl, hk⟩ := hk; exact kk r H1 locs1 f hk hI1)
theorem cMX2_346 {p : Program} {l : Launch} {e : Env} {R : Room} {s : State} {m : MethodId} {args : Array Value} {below : List Frame} {meth : Method} {c : Code} {H : Heap} {locs : List Loc} {Q : State → Prop} {cc : ByteArray} {nL pc : Nat} {ls : Array Slot} {rest : List Value} {cells slots : Nat} {D : va_G} {dA : Nat → ClassId} {ad : Nat → Nat} {A : Nat → Prop} {H0 : Heap} {S : St} {dk : Nat} (hF : CallFix p m c cc nL s args lw_all RX2) (hK : gK D dA s) (hI : sI D dA wM ad A H0 S H locs) (hls : ls.size = nL) (hR : R.frames = dk + 1 ∧ R.locals = 64 * dk + 64) (hd : 0 + 1 ≤ dk) (hW : (rest.map fun v => v.category).sum ≤ 8) (hf : cells ≤ R.cells ∧ slots ≤ R.slots) {x1 : Int} {x2 : Int} {x3 : Int} {K : Int → Prop} (r1 : InR x1) (r2 : InR x2) (r3 : InR x3) (h : w_M_behind x1 x2 x3 S K) (hdg : decode cc pc = .ok (.invokevirtual 346, 3)) (kk : ∀ (r : Int) (H1 : Heap) (locs1 : List Loc), InR r → K r → sI D dA wM ad A H0 S H1 locs1 → W p l e R s m args below meth c H1 locs1 cells slots Q (F0 m (pc + 3) ls (iV r :: rest))) : W p l e R s m args below meth c H locs cells slots Q (F0 m (pc) ls (iV x3 :: iV x2 :: iV x1 :: .ref (ad 17) :: rest)) := s_callVi (As := [iV x1, iV x2, iV x3]) (rest := rest) (K := fun r S' => S' = S ∧ K r) hF (t_M_behind l D dA ad S H.size x1 x2 x3 K r1 r2 r3 h) (s_recv hK hI 17 (by decide) wM_17 rfl) (cwV 3 hF.2.2.2.2 (lw_V q1601 q1603 qs97 q109 q1604) rfl rfl rfl (by decide +kernel) ⟨by have h1 := hR.1; have h2 : (rmD 0 0 0).frames = 0 + 1 := rfl; omega, by have h1 := hR.2; have h2 : (rmD 0 0 0).locals = 64 * 0 + 64 := rfl; omega⟩) hK hI rfl hls rfl hW hdg hf (fun r S1 H1 locs1 f hk hI1 => by obtain ⟨rfl, hk⟩ := hk; exact kk r H1 locs1 f hk hI1)
theorem cMX2_349 {p : Program} {l : Launch} {e : Env} {R : Room} {s : State} {m : MethodId} {args : Array Value} {below : List Frame} {meth : Method} {c : Code} {H : Heap} {locs : List Loc} {Q : State → Prop} {cc : ByteArray} {nL pc : Nat} {ls : Array Slot} {rest : List Value} {cells slots : Nat} {D : va_G} {dA : Nat → ClassId} {ad : Nat → Nat} {A : Nat → Prop} {H0 : Heap} {S : St} {dk : Nat} (hF : CallFix p m c cc nL s args lw_all RX2) (hK : gK D dA s) (hI : sI D dA wM ad A H0 S H locs) (hls : ls.size = nL) (hR : R.frames = dk + 1 ∧ R.locals = 64 * dk + 64) (hd : 0 + 1 ≤ dk) (hW : (rest.map fun v => v.category).sum ≤ 8) (hf : cells ≤ R.cells ∧ slots ≤ R.slots) {x1 : Int} {x2 : Int} {K : Int → Prop} (r1 : InR x1) (r2 : InR x2) (h : w_M_costOf x1 x2 S K) (hdg : decode cc pc = .ok (.invokevirtual 349, 3)) (kk : ∀ (r : Int) (H1 : Heap) (locs1 : List Loc), InR r → K r → sI D dA wM ad A H0 S H1 locs1 → W p l e R s m args below meth c H1 locs1 cells slots Q (F0 m (pc + 3) ls (iV r :: rest))) : W p l e R s m args below meth c H locs cells slots Q (F0 m (pc) ls (iV x2 :: iV x1 :: .ref (ad 17) :: rest)) := s_callVi (As := [iV x1, iV x2]) (rest := rest) (K := fun r S' => S' = S ∧ K r) hF (t_M_costOf l D dA ad S H.size x1 x2 K r1 r2 h) (s_recv hK hI 17 (by decide) wM_17 rfl) (cwV 2 hF.2.2.2.2 (lw_V q1605 q1607 qs98 q109 q1608) rfl rfl rfl (by decide +kernel) ⟨by have h1 := hR.1; have h2 : (rmD 0 0 0).frames = 0 + 1 := rfl; omega, by have h1 := hR.2; have h2 : (rmD 0 0 0).locals = 64 * 0 + 64 := rfl; omega⟩) hK hI rfl hls rfl hW hdg hf (fun r S1 H1 locs1 f hk hI1 => by obtain ⟨rfl, hk⟩ := hk; exact kk r H1 locs1 f hk hI1)
set_option maxHeartbeats 4000000 in
theorem t_M_reckonOne (l : Launch) (D : va_G) (dA : Nat → ClassId) (ad : Nat → Nat) (S : St) (sz : Nat) (x1 : Int) (x2 : Int) (K : St → Prop) (rx1 : InR x1) (rx2 : InR x2) (h : w_M_reckonOne x1 x2 S K) : Met l yX2_reckonOne (ws_ yX2_reckonOne cX2_reckonOne 9 (Option.none : Option Jvm.ClassFile.FieldType)) (rmD 1 0 0) (va_Pc [.ref (ad 17), iV x1, iV x2] (sPre D dA wM ad S sz)) (va_Qv (fun S' => K S') (sPost D dA wM ad (wA wM ad S sz)) (wA wM ad S sz)) 0 0 (wA wM ad S sz) := by
  refine Met.ofW (cc := cX2_reckonOne) (maxL := 9) (ret := (Option.none : Option Jvm.ClassFile.FieldType)) (by decide) rfl ?_
  intro p e s m args below meth c s₁ B hml hv
  obtain ⟨rfl, hsz, hK, hC⟩ := hv
  have hx := B.exec
  have hb := B.bytes
  have hr := B.returns
  have hlocks := B.notSynchronized
  have hts := atoms_spec (ws := (ws_ yX2_reckonOne cX2_reckonOne 9 (Option.none : Option Jvm.ClassFile.FieldType))) B.pre
  have hts : ∀ w ∈ lw_all, w.before _ s = true := fun w h => hts w (List.mem_cons_of_mem _ h)
  have hown : s.vm.findClass RX2 = some m.cls := findClass_of_methodNamed B.named
  clear B
  subst hsz
  have hI : sI D dA wM ad (wA wM ad S s.heap.size) s.heap S s.heap [] := hC.start
  clear hC
  generalize wA wM ad S s.heap.size = A at hI ⊢
  have hl := lv_entry ([.ref (ad 17), iV x1, iV x2] : List Value) (n := 9) (Nat.le_of_ble_eq_true rfl)
  rw [lg_entry_eq]
  generalize (lg_sl ([.ref (ad 17), iV x1, iV x2] : List Value) ++ List.replicate (9 - (lg_sl ([.ref (ad 17), iV x1, iV x2] : List Value)).length) Slot.unset).toArray = ls at hl ⊢
  have hl : lv_has ls 9 [(0, .ref (ad 17)), (1, iV x1), (2, iV x2)] := hl
  have hF : CallFix p m c cX2_reckonOne 9 s _ lw_all RX2 := ⟨hx, hb, hml, hown, hts⟩
  have hR : (headSpec (ws_ yX2_reckonOne cX2_reckonOne 9 (Option.none : Option Jvm.ClassFile.FieldType)) (rmD 1 0 0)).room.frames = 1 + 1 ∧ (headSpec (ws_ yX2_reckonOne cX2_reckonOne 9 (Option.none : Option Jvm.ClassFile.FieldType)) (rmD 1 0 0)).room.locals = 64 * 1 + 64 := ⟨rfl, rfl⟩
  generalize (headSpec (ws_ yX2_reckonOne cX2_reckonOne 9 (Option.none : Option Jvm.ClassFile.FieldType)) (rmD 1 0 0)).room = R at hR ⊢
  generalize ([.ref (ad 17), iV x1, iV x2] : List Value).toArray = args at hts hF ⊢
  generalize hQ : MQ below _ _ _ _ _ _ = Q
  have J109 : ∀ (x1 : Int) (x2 : Int) (x3 : Int) (x4 : Int) (S : St) (H : Heap) (locs : List Loc) (ls : Array Slot), InR x1 → InR x2 → InR x3 → InL x4 → sI D dA wM ad A s.heap S H locs → lv_has ls 9 [(0, .ref (ad 17)), (1, iV x1), (2, iV x2), (3, iV x3), (4, jV x4)] → j_M_reckonOne_109 x1 x2 x3 x4 S K → W p l e R s m args below meth c H locs 0 0 Q (F0 m 109 ls []) := by
    intro x1 x2 x3 x4 S H locs ls rx1 rx2 rx3 rx4 hI hl h
    unfold j_M_reckonOne_109 at h
    refine lv_aload_n hx hb dX2_reckonOne_109 rfl (lv_at hl 0 rfl) ?_
    refine gMX2_56_17 hF hK hI dX2_reckonOne_110 ?_
    refine nr_sipush hx hb dX2_reckonOne_113 (by decide) ?_
    refine lv_iload_n hx hb dX2_reckonOne_116 rfl (lv_at hl 1 rfl) ?_
    have f1 := h.1; replace h := h.2
    refine nr_imul hx hb dX2_reckonOne_117 ?_
    refine lv_iload_n hx hb dX2_reckonOne_118 rfl (lv_at hl 2 rfl) ?_
    have f2 := h.1; replace h := h.2
    refine nr_iadd hx hb dX2_reckonOne_119 ?_
    refine lv_iload_n hx hb dX2_reckonOne_120 rfl (lv_at hl 3 rfl) ?_
    have f3 := h.1; replace h := h.2
    refine s_iast hx hb hK hI 12 (by decide) wM_12 f2 f3 rx3 dX2_reckonOne_121 (fun S4 H locs eS4 hI => ?_)
    replace h := h S4 eS4
    refine lv_aload_n hx hb dX2_reckonOne_122 rfl (lv_at hl 0 rfl) ?_
    refine gMX2_59_17 hF hK hI dX2_reckonOne_123 ?_
    refine nr_sipush hx hb dX2_reckonOne_126 (by decide) ?_
    refine lv_iload_n hx hb dX2_reckonOne_129 rfl (lv_at hl 1 rfl) ?_
    refine nr_imul hx hb dX2_reckonOne_130 ?_
    refine lv_iload_n hx hb dX2_reckonOne_131 rfl (lv_at hl 2 rfl) ?_
    refine nr_iadd hx hb dX2_reckonOne_132 ?_
    refine lv_lload hx hb dX2_reckonOne_133 (lv_at hl 4 rfl) ?_
    have f5 := h.1; replace h := h.2
    refine s_last hx hb hK hI 13 (by decide) wM_13 f2 f5 rx4 dX2_reckonOne_135 (fun S6 H locs eS6 hI => ?_)
    replace h := h S6 eS6
    rw [← hQ]; exact s_vret (K := K) hx hb hr hlocks hI  h dX2_reckonOne_136
  have L10 : ∀ (x1 : Int) (x2 : Int) (S : St), InR x1 → InR x2 → ∀ (n10 : Nat) (x3 : Int) (x4 : Int) (x6 : Int) (H : Heap) (locs : List Loc) (ls : Array Slot), InR x3 → InL x4 → InR x6 → sI D dA wM ad A s.heap S H locs → lv_has ls 9 [(0, .ref (ad 17)), (1, iV x1), (2, iV x2), (3, iV x3), (4, jV x4), (6, iV x6)] → l_M_reckonOne_10 x1 x2 S K (fun (z3 : Int) (z4 : Int) => j_M_reckonOne_109 x1 x2 z3 z4 S K) n10 x3 x4 x6 → W p l e R s m args below meth c H locs 0 0 Q (F0 m 10 ls []) := by
    intro x1 x2 S rx1 rx2 n10
    induction n10 with
    | zero => intro x3 x4 x6 H locs ls rx3 rx4 rx6 hI hl h; exact False.elim h
    | succ n10 ih10 =>
      intro x3 x4 x6 H locs ls rx3 rx4 rx6 hI hl h
      have J103 : ∀ (x3 : Int) (x4 : Int) (x6 : Int) (H : Heap) (locs : List Loc) (ls : Array Slot), InR x3 → InL x4 → InR x6 → sI D dA wM ad A s.heap S H locs → lv_has ls 9 [(0, .ref (ad 17)), (1, iV x1), (2, iV x2), (3, iV x3), (4, jV x4), (6, iV x6)] → j_M_reckonOne_103 x1 x2 x3 x4 x6 S K (fun (z3 : Int) (z4 : Int) => j_M_reckonOne_109 x1 x2 z3 z4 S K) (l_M_reckonOne_10 x1 x2 S K (fun (z3 : Int) (z4 : Int) => j_M_reckonOne_109 x1 x2 z3 z4 S K) n10) → W p l e R s m args below meth c H locs 0 0 Q (F0 m 103 ls []) := by
        intro x3 x4 x6 H locs ls rx3 rx4 rx6 hI hl h
        unfold j_M_reckonOne_103 at h
        have f7 := h.1; replace h := h.2
        refine nr_iinc (lv' := [(6, iV (x6 + 1)), (0, .ref (ad 17)), (1, iV x1), (2, iV x2), (3, iV x3), (4, jV x4)]) hx hb dX2_reckonOne_103 hl (k := 5) rfl (by decide) rfl (fun ls hl => ?_)
        refine lv_goto (tgt := 10) hx hb dX2_reckonOne_106 (by decide) ?_
        exact ih10 x3 x4 (x6 + 1) _ _ _ rx3 rx4 f7 hI (lv_sub hl [1, 2, 3, 4, 5, 0] rfl) h
      have J98 : ∀ (x6 : Int) (x8 : Int) (y0 : Int) (H : Heap) (locs : List Loc) (ls : Array Slot), InR x6 → InR x8 → InL y0 → sI D dA wM ad A s.heap S H locs → lv_has ls 9 [(0, .ref (ad 17)), (1, iV x1), (2, iV x2), (6, iV x6), (8, iV x8)] → j_M_reckonOne_98 x1 x2 x6 x8 y0 S K (fun (z3 : Int) (z4 : Int) => j_M_reckonOne_109 x1 x2 z3 z4 S K) (l_M_reckonOne_10 x1 x2 S K (fun (z3 : Int) (z4 : Int) => j_M_reckonOne_109 x1 x2 z3 z4 S K) n10) → W p l e R s m args below meth c H locs 0 0 Q (F0 m 98 ls [jV y0]) := by
        intro x6 x8 y0 H locs ls rx6 rx8 ry0 hI hl h
        unfold j_M_reckonOne_98 at h
        refine lv_lstore (lv' := [(4, jV y0), (0, .ref (ad 17)), (1, iV x1), (2, iV x2), (6, iV x6), (8, iV x8)]) hx hb dX2_reckonOne_98 hl (by decide) rfl (fun ls hl => ?_)
        refine lv_iload hx hb dX2_reckonOne_100 (lv_at hl 5 rfl) ?_
        refine lv_istore_n (lv' := [(3, iV x8), (4, jV y0), (0, .ref (ad 17)), (1, iV x1), (2, iV x2), (6, iV x6), (8, iV x8)]) hx hb dX2_reckonOne_102 rfl hl (by decide) rfl (fun ls hl => ?_)
        exact J103 x8 y0 x6 _ _ _ rx8 ry0 rx6 hI (lv_sub hl [2, 3, 4, 0, 1, 5] rfl) h
      unfold l_M_reckonOne_10 at h
      refine lv_iload hx hb dX2_reckonOne_10 (lv_at hl 5 rfl) ?_
      refine lv_aload_n hx hb dX2_reckonOne_12 rfl (lv_at hl 0 rfl) ?_
      refine gMX2_7_17 hF hK hI dX2_reckonOne_13 ?_
      refine nr_bipush hx hb dX2_reckonOne_16 (by decide) ?_
      refine s_iald hx hb hK hI 0 (by decide) wM_0 (by decide) (by decide) dX2_reckonOne_18 (fun f8 => ?_)
      replace h := h f8
      refine nr_icmp_ge hx hb rx6 f8 dX2_reckonOne_19 (tgt := 109) (by decide) (fun c9 => ?_) (fun c9 => ?_)
      · replace h := h.1 c9
        exact J109 x1 x2 x3 x4 S _ _ _ rx1 rx2 rx3 rx4 hI (lv_sub hl [0, 1, 2, 3, 4] rfl) h
      · replace h := h.2 c9
        refine lv_aload_n hx hb dX2_reckonOne_22 rfl (lv_at hl 0 rfl) ?_
        refine lv_iload_n hx hb dX2_reckonOne_23 rfl (lv_at hl 1 rfl) ?_
        refine lv_iload hx hb dX2_reckonOne_24 (lv_at hl 5 rfl) ?_
        refine lv_iload_n hx hb dX2_reckonOne_26 rfl (lv_at hl 2 rfl) ?_
        refine cMX2_343 hF hK hI hl.1 hR (by decide) (Nat.le_of_ble_eq_true rfl) ⟨Nat.zero_le _, Nat.zero_le _⟩ rx1 rx6 rx2 h dX2_reckonOne_27 (fun r10 H locs fr10 h hI => ?_)
        replace h := h fr10
        have gr10 : InR r10 := kdP_R (k := 2) (by decide) fr10
        refine nr_if_ne hx hb gr10 dX2_reckonOne_30 (tgt := 36) (by decide) (fun c12 => ?_) (fun c12 => ?_)
        · replace h := h.1 c12
          refine lv_aload_n hx hb dX2_reckonOne_36 rfl (lv_at hl 0 rfl) ?_
          refine lv_iload_n hx hb dX2_reckonOne_37 rfl (lv_at hl 1 rfl) ?_
          refine lv_iload hx hb dX2_reckonOne_38 (lv_at hl 5 rfl) ?_
          refine lv_iload_n hx hb dX2_reckonOne_40 rfl (lv_at hl 2 rfl) ?_
          refine cMX2_346 hF hK hI hl.1 hR (by decide) (Nat.le_of_ble_eq_true rfl) ⟨Nat.zero_le _, Nat.zero_le _⟩ rx1 rx6 rx2 h dX2_reckonOne_41 (fun r13 H locs fr13 h hI => ?_)
          replace h := h fr13
          refine lv_istore (lv' := [(7, iV r13), (0, .ref (ad 17)), (1, iV x1), (2, iV x2), (3, iV x3), (4, jV x4), (6, iV x6)]) hx hb dX2_reckonOne_44 hl (by decide) rfl (fun ls hl => ?_)
          refine lv_aload_n hx hb dX2_reckonOne_46 rfl (lv_at hl 1 rfl) ?_
          refine lv_iload_n hx hb dX2_reckonOne_47 rfl (lv_at hl 2 rfl) ?_
          refine lv_iload hx hb dX2_reckonOne_48 (lv_at hl 6 rfl) ?_
          refine cMX2_349 hF hK hI hl.1 hR (by decide) (Nat.le_of_ble_eq_true rfl) ⟨Nat.zero_le _, Nat.zero_le _⟩ rx1 rx6 h dX2_reckonOne_50 (fun r15 H locs fr15 h hI => ?_)
          replace h := h fr15
          refine lv_aload_n hx hb dX2_reckonOne_53 rfl (lv_at hl 1 rfl) ?_
          refine gMX2_56_17 hF hK hI dX2_reckonOne_54 ?_
          refine lv_iload hx hb dX2_reckonOne_57 (lv_at hl 0 rfl) ?_
          have f17 := h.1; replace h := h.2
          refine s_iald hx hb hK hI 12 (by decide) wM_12 fr13 f17 dX2_reckonOne_59 (fun f18 => ?_)
          replace h := h f18
          have f19 := h.1; replace h := h.2
          refine nr_iadd hx hb dX2_reckonOne_60 ?_
          refine nr_topi (fun v20 ev20 => ?_)
          have rv20 : InR v20 := by rw [ev20]; exact f19
          replace h := h v20 ev20 rv20
          refine lv_istore (lv' := [(8, iV v20), (7, iV r13), (0, .ref (ad 17)), (1, iV x1), (2, iV x2), (3, iV x3), (4, jV x4), (6, iV x6)]) hx hb dX2_reckonOne_61 hl (by decide) rfl (fun ls hl => ?_)
          refine lv_iload hx hb dX2_reckonOne_63 (lv_at hl 0 rfl) ?_
          refine lv_iload_n hx hb dX2_reckonOne_65 rfl (lv_at hl 5 rfl) ?_
          refine nr_icmp_le hx hb rv20 rx3 dX2_reckonOne_66 (tgt := 72) (by decide) (fun c21 => ?_) (fun c21 => ?_)
          · replace h := h.1 c21
            refine lv_iload hx hb dX2_reckonOne_72 (lv_at hl 0 rfl) ?_
            refine lv_iload_n hx hb dX2_reckonOne_74 rfl (lv_at hl 5 rfl) ?_
            refine nr_icmp_ne hx hb rv20 rx3 dX2_reckonOne_75 (tgt := 91) (by decide) (fun c22 => ?_) (fun c22 => ?_)
            · replace h := h.1 c22
              refine lv_aload_n hx hb dX2_reckonOne_91 rfl (lv_at hl 2 rfl) ?_
              refine gMX2_59_17 hF hK hI dX2_reckonOne_92 ?_
              refine lv_iload hx hb dX2_reckonOne_95 (lv_at hl 1 rfl) ?_
              have f23 := h.1; replace h := h.2
              refine s_lald hx hb hK hI 13 (by decide) wM_13 fr13 f23 dX2_reckonOne_97 (fun f24 => ?_)
              replace h := h f24
              exact J98 x6 v20 (aI S 13 r13) _ _ _ rx6 rv20 f24 hI (lv_sub hl [2, 3, 4, 7, 0] rfl) h
            · replace h := h.2 c22
              refine lv_lload hx hb dX2_reckonOne_78 (lv_at hl 6 rfl) ?_
              refine lv_aload_n hx hb dX2_reckonOne_80 rfl (lv_at hl 2 rfl) ?_
              refine gMX2_59_17 hF hK hI dX2_reckonOne_81 ?_
              refine lv_iload hx hb dX2_reckonOne_84 (lv_at hl 1 rfl) ?_
              have f25 := h.1; replace h := h.2
              refine s_lald hx hb hK hI 13 (by decide) wM_13 fr13 f25 dX2_reckonOne_86 (fun f26 => ?_)
              replace h := h f26
              have f27 := h.1; replace h := h.2
              refine nr_ladd hx hb dX2_reckonOne_87 ?_
              refine lv_goto (tgt := 98) hx hb dX2_reckonOne_88 (by decide) ?_
              exact J98 x6 v20 (x4 + (aI S 13 r13)) _ _ _ rx6 rv20 f27 hI (lv_sub hl [2, 3, 4, 7, 0] rfl) h
          · replace h := h.2 c21
            refine lv_goto (tgt := 103) hx hb dX2_reckonOne_69 (by decide) ?_
            exact J103 x3 x4 x6 _ _ _ rx3 rx4 rx6 hI (lv_sub hl [2, 3, 4, 5, 6, 7] rfl) h
        · replace h := h.2 c12
          refine lv_goto (tgt := 103) hx hb dX2_reckonOne_33 (by decide) ?_
          exact J103 x3 x4 x6 _ _ _ rx3 rx4 rx6 hI (lv_sub hl [0, 1, 2, 3, 4, 5] rfl) h
  unfold w_M_reckonOne at h
  refine nr_ldcw (v := 1000000) hx hb hown (by decide) (hts _ q1596) dX2_reckonOne_0 ?_
  refine lv_istore_n (lv' := [(3, iV 1000000), (0, .ref (ad 17)), (1, iV x1), (2, iV x2)]) hx hb dX2_reckonOne_3 rfl hl (by decide) rfl (fun ls hl => ?_)
  refine nr_lconst (v := 0) hx hb dX2_reckonOne_4 rfl ?_
  refine lv_lstore (lv' := [(4, jV 0), (3, iV 1000000), (0, .ref (ad 17)), (1, iV x1), (2, iV x2)]) hx hb dX2_reckonOne_5 hl (by decide) rfl (fun ls hl => ?_)
  refine nr_iconst hx hb dX2_reckonOne_7 ?_
  refine lv_istore (lv' := [(6, iV (-1)), (4, jV 0), (3, iV 1000000), (0, .ref (ad 17)), (1, iV x1), (2, iV x2)]) hx hb dX2_reckonOne_8 hl (by decide) rfl (fun ls hl => ?_)
  obtain ⟨n0, h⟩ := h
  exact L10 x1 x2 S rx1 rx2 n0 1000000 0 (-1) _ _ _ (by decide) (by decide) (by decide) hI (lv_sub hl [3, 4, 5, 2, 1, 0] rfl) h
theorem cMX2_339 {p : Program} {l : Launch} {e : Env} {R : Room} {s : State} {m : MethodId} {args : Array Value} {below : List Frame} {meth : Method} {c : Code} {H : Heap} {locs : List Loc} {Q : State → Prop} {cc : ByteArray} {nL pc : Nat} {ls : Array Slot} {rest : List Value} {cells slots : Nat} {D : va_G} {dA : Nat → ClassId} {ad : Nat → Nat} {A : Nat → Prop} {H0 : Heap} {S : St} {dk : Nat} (hF : CallFix p m c cc nL s args lw_all RX2) (hK : gK D dA s) (hI : sI D dA wM ad A H0 S H locs) (hls : ls.size = nL) (hR : R.frames = dk + 1 ∧ R.locals = 64 * dk + 64) (hd : 1 + 1 ≤ dk) (hW : (rest.map fun v => v.category).sum ≤ 8) (hf : cells ≤ R.cells ∧ slots ≤ R.slots) {x1 : Int} {x2 : Int} {K : St → Prop} (r1 : InR x1) (r2 : InR x2) (h : w_M_reckonOne x1 x2 S K) (hdg : decode cc pc = .ok (.invokevirtual 339, 3)) (kk : ∀ (S1 : St) (H1 : Heap) (locs1 : List Loc), K S1 → sI D dA wM ad A H0 S1 H1 locs1 → W p l e R s m args below meth c H1 locs1 cells slots Q (F0 m (pc + 3) ls (rest))) : W p l e R s m args below meth c H locs cells slots Q (F0 m (pc) ls (iV x2 :: iV x1 :: .ref (ad 17) :: rest)) := s_callVv (As := [iV x1, iV x2]) (rest := rest) (K := K) hF (t_M_reckonOne l D dA ad S H.size x1 x2 K r1 r2 h) (s_recv hK hI 17 (by decide) wM_17 rfl) (cwV 2 hF.2.2.2.2 (lw_V q1592 q1594 qs95 q109 q1595) rfl rfl rfl (by decide +kernel) ⟨by have h1 := hR.1; have h2 : (rmD 1 0 0).frames = 1 + 1 := rfl; omega, by have h1 := hR.2; have h2 : (rmD 1 0 0).locals = 64 * 1 + 64 := rfl; omega⟩) hK hI rfl hls rfl hW hdg hf kk
theorem cMX2_336 {p : Program} {l : Launch} {e : Env} {R : Room} {s : State} {m : MethodId} {args : Array Value} {below : List Frame} {meth : Method} {c : Code} {H : Heap} {locs : List Loc} {Q : State → Prop} {cc : ByteArray} {nL pc : Nat} {ls : Array Slot} {rest : List Value} {cells slots : Nat} {D : va_G} {dA : Nat → ClassId} {ad : Nat → Nat} {A : Nat → Prop} {H0 : Heap} {S : St} {dk : Nat} (hF : CallFix p m c cc nL s args lw_all RX2) (hK : gK D dA s) (hI : sI D dA wM ad A H0 S H locs) (hls : ls.size = nL) (hR : R.frames = dk + 1 ∧ R.locals = 64 * dk + 64) (hd : 2 + 1 ≤ dk) (hW : (rest.map fun v => v.category).sum ≤ 8) (hf : cells ≤ R.cells ∧ slots ≤ R.slots) {x1 : Int} {x2 : Int} {K : Int → Prop} (r1 : InR x1) (r2 : InR x2) (h : w_M_same x1 x2 S K) (hdg : decode cc pc = .ok (.invokevirtual 336, 3)) (kk : ∀ (r : Int) (H1 : Heap) (locs1 : List Loc), (r = 0 ∨ r = 1) → K r → sI D dA wM ad A H0 S H1 locs1 → W p l e R s m args below meth c H1 locs1 cells slots Q (F0 m (pc + 3) ls (iV r :: rest))) : W p l e R s m args below meth c H locs cells slots Q (F0 m (pc) ls (iV x2 :: iV x1 :: .ref (ad 17) :: rest)) := s_callVz (As := [iV x1, iV x2]) (rest := rest) (K := fun r S' => S' = S ∧ K r) hF (t_M_same l D dA ad S H.size x1 x2 K r1 r2 h) (s_recv hK hI 17 (by decide) wM_17 rfl) (cwV 2 hF.2.2.2.2 (lw_V q1591 q1573 q1574 q109 q1575) rfl rfl rfl (by decide +kernel) ⟨by have h1 := hR.1; have h2 : (rmD 2 0 0).frames = 2 + 1 := rfl; omega, by have h1 := hR.2; have h2 : (rmD 2 0 0).locals = 64 * 2 + 64 := rfl; omega⟩) hK hI rfl hls rfl hW hdg hf (fun r S1 H1 locs1 f hk hI1 => by obtain ⟨rfl, hk⟩ := hk; exact kk r H1 locs1 f hk hI1)
set_option maxHeartbeats 4000000 in
theorem t_M_reckon (l : Launch) (D : va_G) (dA : Nat → ClassId) (ad : Nat → Nat) (S : St) (sz : Nat) (K : St → Prop) (h : w_M_reckon S K) : Met l yX2_reckon (ws_ yX2_reckon cX2_reckon 4 (Option.none : Option Jvm.ClassFile.FieldType)) (rmD 3 0 0) (va_Pc [.ref (ad 17)] (sPre D dA wM ad S sz)) (va_Qv (fun S' => K S') (sPost D dA wM ad (wA wM ad S sz)) (wA wM ad S sz)) 0 0 (wA wM ad S sz) := by
  refine Met.ofW (cc := cX2_reckon) (maxL := 4) (ret := (Option.none : Option Jvm.ClassFile.FieldType)) (by decide) rfl ?_
  intro p e s m args below meth c s₁ B hml hv
  obtain ⟨rfl, hsz, hK, hC⟩ := hv
  have hx := B.exec
  have hb := B.bytes
  have hr := B.returns
  have hlocks := B.notSynchronized
  have hts := atoms_spec (ws := (ws_ yX2_reckon cX2_reckon 4 (Option.none : Option Jvm.ClassFile.FieldType))) B.pre
  have hts : ∀ w ∈ lw_all, w.before _ s = true := fun w h => hts w (List.mem_cons_of_mem _ h)
  have hown : s.vm.findClass RX2 = some m.cls := findClass_of_methodNamed B.named
  clear B
  subst hsz
  have hI : sI D dA wM ad (wA wM ad S s.heap.size) s.heap S s.heap [] := hC.start
  clear hC
  generalize wA wM ad S s.heap.size = A at hI ⊢
  have hl := lv_entry ([.ref (ad 17)] : List Value) (n := 4) (Nat.le_of_ble_eq_true rfl)
  rw [lg_entry_eq]
  generalize (lg_sl ([.ref (ad 17)] : List Value) ++ List.replicate (4 - (lg_sl ([.ref (ad 17)] : List Value)).length) Slot.unset).toArray = ls at hl ⊢
  have hl : lv_has ls 4 [(0, .ref (ad 17))] := hl
  have hF : CallFix p m c cX2_reckon 4 s _ lw_all RX2 := ⟨hx, hb, hml, hown, hts⟩
  have hR : (headSpec (ws_ yX2_reckon cX2_reckon 4 (Option.none : Option Jvm.ClassFile.FieldType)) (rmD 3 0 0)).room.frames = 3 + 1 ∧ (headSpec (ws_ yX2_reckon cX2_reckon 4 (Option.none : Option Jvm.ClassFile.FieldType)) (rmD 3 0 0)).room.locals = 64 * 3 + 64 := ⟨rfl, rfl⟩
  generalize (headSpec (ws_ yX2_reckon cX2_reckon 4 (Option.none : Option Jvm.ClassFile.FieldType)) (rmD 3 0 0)).room = R at hR ⊢
  generalize ([.ref (ad 17)] : List Value).toArray = args at hts hF ⊢
  generalize hQ : MQ below _ _ _ _ _ _ = Q
  have L96 : ∀ (x1 : Int), InR x1 → ∀ (n96 : Nat) (x2 : Int) (S : St) (H : Heap) (locs : List Loc) (ls : Array Slot), InR x2 → sI D dA wM ad A s.heap S H locs → lv_has ls 4 [(0, .ref (ad 17)), (1, iV x1), (2, iV x2)] → l_M_reckon_96 x1 K n96 x2 S → W p l e R s m args below meth c H locs 0 0 Q (F0 m 96 ls []) := by
    intro x1 rx1 n96
    induction n96 with
    | zero => intro x2 S H locs ls rx2 hI hl h; exact False.elim h
    | succ n96 ih96 =>
      intro x2 S H locs ls rx2 hI hl h
      have J121 : ∀ (x2 : Int) (S : St) (H : Heap) (locs : List Loc) (ls : Array Slot), InR x2 → sI D dA wM ad A s.heap S H locs → lv_has ls 4 [(0, .ref (ad 17)), (1, iV x1), (2, iV x2)] → j_M_reckon_121 x1 x2 S K (l_M_reckon_96 x1 K n96) → W p l e R s m args below meth c H locs 0 0 Q (F0 m 121 ls []) := by
        intro x2 S H locs ls rx2 hI hl h
        unfold j_M_reckon_121 at h
        have f1 := h.1; replace h := h.2
        refine nr_iinc (lv' := [(2, iV (x2 + (-1))), (0, .ref (ad 17)), (1, iV x1)]) hx hb dX2_reckon_121 hl (k := 2) rfl (by decide) rfl (fun ls hl => ?_)
        refine lv_goto (tgt := 96) hx hb dX2_reckon_124 (by decide) ?_
        exact ih96 (x2 + (-1)) S _ _ _ f1 hI (lv_sub hl [1, 2, 0] rfl) h
      have L102 : ∀ (x2 : Int), InR x2 → ∀ (n102 : Nat) (x3 : Int) (S : St) (H : Heap) (locs : List Loc) (ls : Array Slot), InR x3 → sI D dA wM ad A s.heap S H locs → lv_has ls 4 [(0, .ref (ad 17)), (1, iV x1), (2, iV x2), (3, iV x3)] → l_M_reckon_102 x1 x2 K (fun (zS : St) => j_M_reckon_121 x1 x2 zS K (l_M_reckon_96 x1 K n96)) n102 x3 S → W p l e R s m args below meth c H locs 0 0 Q (F0 m 102 ls []) := by
        intro x2 rx2 n102
        induction n102 with
        | zero => intro x3 S H locs ls rx3 hI hl h; exact False.elim h
        | succ n102 ih102 =>
          intro x3 S H locs ls rx3 hI hl h
          unfold l_M_reckon_102 at h
          refine lv_iload_n hx hb dX2_reckon_102 rfl (lv_at hl 3 rfl) ?_
          refine nr_iconst hx hb dX2_reckon_103 ?_
          refine lv_iload_n hx hb dX2_reckon_104 rfl (lv_at hl 1 rfl) ?_
          have f2 := h.1; replace h := h.2
          have f3 := h.1; replace h := h.2
          refine nr_ishl hx hb f2 f3 dX2_reckon_105 ?_
          refine nr_icmp_ge hx hb rx3 f3 dX2_reckon_106 (tgt := 121) (by decide) (fun c4 => ?_) (fun c4 => ?_)
          · replace h := h.1 c4
            exact J121 x2 S _ _ _ rx2 hI (lv_sub hl [0, 1, 2] rfl) h
          · replace h := h.2 c4
            refine lv_aload_n hx hb dX2_reckon_109 rfl (lv_at hl 0 rfl) ?_
            refine lv_iload_n hx hb dX2_reckon_110 rfl (lv_at hl 2 rfl) ?_
            refine lv_iload_n hx hb dX2_reckon_111 rfl (lv_at hl 3 rfl) ?_
            refine cMX2_339 hF hK hI hl.1 hR (by decide) (Nat.le_of_ble_eq_true rfl) ⟨Nat.zero_le _, Nat.zero_le _⟩ rx2 rx3 h dX2_reckon_112 (fun S6 H locs h hI => ?_)
            have f7 := h.1; replace h := h.2
            refine nr_iinc (lv' := [(3, iV (x3 + 1)), (0, .ref (ad 17)), (1, iV x1), (2, iV x2)]) hx hb dX2_reckon_115 hl (k := 3) rfl (by decide) rfl (fun ls hl => ?_)
            refine lv_goto (tgt := 102) hx hb dX2_reckon_118 (by decide) ?_
            exact ih102 (x3 + 1) S6 _ _ _ f7 hI (lv_sub hl [1, 2, 3, 0] rfl) h
      unfold l_M_reckon_96 at h
      refine lv_iload_n hx hb dX2_reckon_96 rfl (lv_at hl 2 rfl) ?_
      refine nr_if_lt hx hb rx2 dX2_reckon_97 (tgt := 127) (by decide) (fun c8 => ?_) (fun c8 => ?_)
      · replace h := h.1 c8
        rw [← hQ]; exact s_vret (K := K) hx hb hr hlocks hI  h dX2_reckon_127
      · replace h := h.2 c8
        refine nr_iconst hx hb dX2_reckon_100 ?_
        refine lv_istore_n (lv' := [(3, iV 0), (0, .ref (ad 17)), (1, iV x1), (2, iV x2)]) hx hb dX2_reckon_101 rfl hl (by decide) rfl (fun ls hl => ?_)
        obtain ⟨n0, h⟩ := h
        exact L102 x2 rx2 n0 0 S _ _ _ (by decide) hI (lv_sub hl [1, 2, 3, 0] rfl) h
  have J92 : ∀ (x1 : Int) (S : St) (H : Heap) (locs : List Loc) (ls : Array Slot), InR x1 → sI D dA wM ad A s.heap S H locs → lv_has ls 4 [(0, .ref (ad 17)), (1, iV x1)] → j_M_reckon_92 x1 S K → W p l e R s m args below meth c H locs 0 0 Q (F0 m 92 ls []) := by
    intro x1 S H locs ls rx1 hI hl h
    unfold j_M_reckon_92 at h
    refine lv_iload_n hx hb dX2_reckon_92 rfl (lv_at hl 1 rfl) ?_
    refine nr_iconst hx hb dX2_reckon_93 ?_
    have f9 := h.1; replace h := h.2
    refine nr_isub hx hb dX2_reckon_94 ?_
    refine nr_topi (fun v10 ev10 => ?_)
    have rv10 : InR v10 := by rw [ev10]; exact f9
    replace h := h v10 ev10 rv10
    refine lv_istore_n (lv' := [(2, iV v10), (0, .ref (ad 17)), (1, iV x1)]) hx hb dX2_reckon_95 rfl hl (by decide) rfl (fun ls hl => ?_)
    obtain ⟨n0, h⟩ := h
    exact L96 x1 rx1 n0 v10 S _ _ _ rv10 hI (lv_sub hl [1, 2, 0] rfl) h
  have L53 : ∀ (x1 : Int), InR x1 → ∀ (n53 : Nat) (x2 : Int) (S : St) (H : Heap) (locs : List Loc) (ls : Array Slot), InR x2 → sI D dA wM ad A s.heap S H locs → lv_has ls 4 [(0, .ref (ad 17)), (1, iV x1), (2, iV x2)] → l_M_reckon_53 x1 K (fun (zS : St) => j_M_reckon_92 x1 zS K) n53 x2 S → W p l e R s m args below meth c H locs 0 0 Q (F0 m 53 ls []) := by
    intro x1 rx1 n53
    induction n53 with
    | zero => intro x2 S H locs ls rx2 hI hl h; exact False.elim h
    | succ n53 ih53 =>
      intro x2 S H locs ls rx2 hI hl h
      unfold l_M_reckon_53 at h
      refine lv_iload_n hx hb dX2_reckon_53 rfl (lv_at hl 2 rfl) ?_
      refine nr_iconst hx hb dX2_reckon_54 ?_
      refine lv_iload_n hx hb dX2_reckon_55 rfl (lv_at hl 1 rfl) ?_
      have f11 := h.1; replace h := h.2
      have f12 := h.1; replace h := h.2
      refine nr_ishl hx hb f11 f12 dX2_reckon_56 ?_
      refine nr_icmp_ge hx hb rx2 f12 dX2_reckon_57 (tgt := 92) (by decide) (fun c13 => ?_) (fun c13 => ?_)
      · replace h := h.1 c13
        exact J92 x1 S _ _ _ rx1 hI (lv_sub hl [0, 1] rfl) h
      · replace h := h.2 c13
        refine lv_aload_n hx hb dX2_reckon_60 rfl (lv_at hl 0 rfl) ?_
        refine gMX2_56_17 hF hK hI dX2_reckon_61 ?_
        refine nr_sipush hx hb dX2_reckon_64 (by decide) ?_
        refine lv_iload_n hx hb dX2_reckon_67 rfl (lv_at hl 1 rfl) ?_
        have f14 := h.1; replace h := h.2
        refine nr_imul hx hb dX2_reckon_68 ?_
        refine lv_iload_n hx hb dX2_reckon_69 rfl (lv_at hl 2 rfl) ?_
        have f15 := h.1; replace h := h.2
        refine nr_iadd hx hb dX2_reckon_70 ?_
        refine nr_iconst hx hb dX2_reckon_71 ?_
        have f16 := h.1; replace h := h.2
        refine s_iast hx hb hK hI 12 (by decide) wM_12 f15 f16 (show InR (0) by decide) dX2_reckon_72 (fun S17 H locs eS17 hI => ?_)
        replace h := h S17 eS17
        refine lv_aload_n hx hb dX2_reckon_73 rfl (lv_at hl 0 rfl) ?_
        refine gMX2_59_17 hF hK hI dX2_reckon_74 ?_
        refine nr_sipush hx hb dX2_reckon_77 (by decide) ?_
        refine lv_iload_n hx hb dX2_reckon_80 rfl (lv_at hl 1 rfl) ?_
        refine nr_imul hx hb dX2_reckon_81 ?_
        refine lv_iload_n hx hb dX2_reckon_82 rfl (lv_at hl 2 rfl) ?_
        refine nr_iadd hx hb dX2_reckon_83 ?_
        refine nr_lconst (v := 1) hx hb dX2_reckon_84 rfl ?_
        have f18 := h.1; replace h := h.2
        refine s_last hx hb hK hI 13 (by decide) wM_13 f15 f18 (show InL (1) by decide) dX2_reckon_85 (fun S19 H locs eS19 hI => ?_)
        replace h := h S19 eS19
        have f20 := h.1; replace h := h.2
        refine nr_iinc (lv' := [(2, iV (x2 + 1)), (0, .ref (ad 17)), (1, iV x1)]) hx hb dX2_reckon_86 hl (k := 2) rfl (by decide) rfl (fun ls hl => ?_)
        refine lv_goto (tgt := 53) hx hb dX2_reckon_89 (by decide) ?_
        exact ih53 (x2 + 1) S19 _ _ _ f20 hI (lv_sub hl [1, 2, 0] rfl) h
  have J51 : ∀ (x1 : Int) (S : St) (H : Heap) (locs : List Loc) (ls : Array Slot), InR x1 → sI D dA wM ad A s.heap S H locs → lv_has ls 4 [(0, .ref (ad 17)), (1, iV x1)] → j_M_reckon_51 x1 S K → W p l e R s m args below meth c H locs 0 0 Q (F0 m 51 ls []) := by
    intro x1 S H locs ls rx1 hI hl h
    unfold j_M_reckon_51 at h
    refine nr_iconst hx hb dX2_reckon_51 ?_
    refine lv_istore_n (lv' := [(2, iV 0), (0, .ref (ad 17)), (1, iV x1)]) hx hb dX2_reckon_52 rfl hl (by decide) rfl (fun ls hl => ?_)
    obtain ⟨n0, h⟩ := h
    exact L53 x1 rx1 n0 0 S _ _ _ (by decide) hI (lv_sub hl [1, 2, 0] rfl) h
  have L10 : ∀ (x1 : Int), InR x1 → ∀ (n10 : Nat) (x2 : Int) (S : St) (H : Heap) (locs : List Loc) (ls : Array Slot), InR x2 → sI D dA wM ad A s.heap S H locs → lv_has ls 4 [(0, .ref (ad 17)), (1, iV x1), (2, iV x2)] → l_M_reckon_10 x1 K (fun (zS : St) => j_M_reckon_51 x1 zS K) n10 x2 S → W p l e R s m args below meth c H locs 0 0 Q (F0 m 10 ls []) := by
    intro x1 rx1 n10
    induction n10 with
    | zero => intro x2 S H locs ls rx2 hI hl h; exact False.elim h
    | succ n10 ih10 =>
      intro x2 S H locs ls rx2 hI hl h
      have J45 : ∀ (x2 : Int) (S : St) (H : Heap) (locs : List Loc) (ls : Array Slot), InR x2 → sI D dA wM ad A s.heap S H locs → lv_has ls 4 [(0, .ref (ad 17)), (1, iV x1), (2, iV x2)] → j_M_reckon_45 x1 x2 S K (fun (zS : St) => j_M_reckon_51 x1 zS K) (l_M_reckon_10 x1 K (fun (zS : St) => j_M_reckon_51 x1 zS K) n10) → W p l e R s m args below meth c H locs 0 0 Q (F0 m 45 ls []) := by
        intro x2 S H locs ls rx2 hI hl h
        unfold j_M_reckon_45 at h
        have f21 := h.1; replace h := h.2
        refine nr_iinc (lv' := [(2, iV (x2 + 1)), (0, .ref (ad 17)), (1, iV x1)]) hx hb dX2_reckon_45 hl (k := 2) rfl (by decide) rfl (fun ls hl => ?_)
        refine lv_goto (tgt := 10) hx hb dX2_reckon_48 (by decide) ?_
        exact ih10 (x2 + 1) S _ _ _ f21 hI (lv_sub hl [1, 2, 0] rfl) h
      have L17 : ∀ (x2 : Int), InR x2 → ∀ (n17 : Nat) (x3 : Int) (S : St) (H : Heap) (locs : List Loc) (ls : Array Slot), InR x3 → sI D dA wM ad A s.heap S H locs → lv_has ls 4 [(0, .ref (ad 17)), (1, iV x1), (2, iV x2), (3, iV x3)] → l_M_reckon_17 x1 x2 K (fun (zS : St) => j_M_reckon_45 x1 x2 zS K (fun (zS : St) => j_M_reckon_51 x1 zS K) (l_M_reckon_10 x1 K (fun (zS : St) => j_M_reckon_51 x1 zS K) n10)) n17 x3 S → W p l e R s m args below meth c H locs 0 0 Q (F0 m 17 ls []) := by
        intro x2 rx2 n17
        induction n17 with
        | zero => intro x3 S H locs ls rx3 hI hl h; exact False.elim h
        | succ n17 ih17 =>
          intro x3 S H locs ls rx3 hI hl h
          unfold l_M_reckon_17 at h
          refine lv_iload_n hx hb dX2_reckon_17 rfl (lv_at hl 3 rfl) ?_
          refine lv_iload_n hx hb dX2_reckon_18 rfl (lv_at hl 1 rfl) ?_
          refine nr_icmp_ge hx hb rx3 rx1 dX2_reckon_19 (tgt := 45) (by decide) (fun c22 => ?_) (fun c22 => ?_)
          · replace h := h.1 c22
            exact J45 x2 S _ _ _ rx2 hI (lv_sub hl [0, 1, 2] rfl) h
          · replace h := h.2 c22
            refine lv_aload_n hx hb dX2_reckon_22 rfl (lv_at hl 0 rfl) ?_
            refine gMX2_62_17 hF hK hI dX2_reckon_23 ?_
            refine nr_bipush hx hb dX2_reckon_26 (by decide) ?_
            refine lv_iload_n hx hb dX2_reckon_28 rfl (lv_at hl 2 rfl) ?_
            have f23 := h.1; replace h := h.2
            refine nr_imul hx hb dX2_reckon_29 ?_
            refine lv_iload_n hx hb dX2_reckon_30 rfl (lv_at hl 3 rfl) ?_
            have f24 := h.1; replace h := h.2
            refine nr_iadd hx hb dX2_reckon_31 ?_
            refine lv_aload_n hx hb dX2_reckon_32 rfl (lv_at hl 0 rfl) ?_
            refine lv_iload_n hx hb dX2_reckon_33 rfl (lv_at hl 2 rfl) ?_
            refine lv_iload_n hx hb dX2_reckon_34 rfl (lv_at hl 3 rfl) ?_
            refine cMX2_336 hF hK hI hl.1 hR (by decide) (Nat.le_of_ble_eq_true rfl) ⟨Nat.zero_le _, Nat.zero_le _⟩ rx2 rx3 h dX2_reckon_35 (fun r25 H locs fr25 h hI => ?_)
            replace h := h fr25
            have gr25 : InR r25 := kdP_R (k := 2) (by decide) fr25
            have f27 := h.1; replace h := h.2
            refine s_zast hx hb hK hI 14 (by decide) wM_14 f24 f27 fr25 dX2_reckon_38 (fun S28 H locs eS28 hI => ?_)
            replace h := h S28 eS28
            have f29 := h.1; replace h := h.2
            refine nr_iinc (lv' := [(3, iV (x3 + 1)), (0, .ref (ad 17)), (1, iV x1), (2, iV x2)]) hx hb dX2_reckon_39 hl (k := 3) rfl (by decide) rfl (fun ls hl => ?_)
            refine lv_goto (tgt := 17) hx hb dX2_reckon_42 (by decide) ?_
            exact ih17 (x3 + 1) S28 _ _ _ f29 hI (lv_sub hl [1, 2, 3, 0] rfl) h
      unfold l_M_reckon_10 at h
      refine lv_iload_n hx hb dX2_reckon_10 rfl (lv_at hl 2 rfl) ?_
      refine lv_iload_n hx hb dX2_reckon_11 rfl (lv_at hl 1 rfl) ?_
      refine nr_icmp_ge hx hb rx2 rx1 dX2_reckon_12 (tgt := 51) (by decide) (fun c30 => ?_) (fun c30 => ?_)
      · replace h := h.1 c30
        exact J51 x1 S _ _ _ rx1 hI (lv_sub hl [0, 1] rfl) h
      · replace h := h.2 c30
        refine nr_iconst hx hb dX2_reckon_15 ?_
        refine lv_istore_n (lv' := [(3, iV 0), (0, .ref (ad 17)), (1, iV x1), (2, iV x2)]) hx hb dX2_reckon_16 rfl hl (by decide) rfl (fun ls hl => ?_)
        obtain ⟨n0, h⟩ := h
        exact L17 x2 rx2 n0 0 S _ _ _ (by decide) hI (lv_sub hl [1, 2, 3, 0] rfl) h
  unfold w_M_reckon at h
  refine lv_aload_n hx hb dX2_reckon_0 rfl (lv_at hl 0 rfl) ?_
  refine gMX2_7_17 hF hK hI dX2_reckon_1 ?_
  refine nr_bipush hx hb dX2_reckon_4 (by decide) ?_
  refine s_iald hx hb hK hI 0 (by decide) wM_0 (by decide) (by decide) dX2_reckon_6 (fun f31 => ?_)
  replace h := h f31
  refine nr_topi (fun v32 ev32 => ?_)
  have rv32 : InR v32 := by rw [ev32]; exact f31
  replace h := h v32 ev32 rv32
  refine lv_istore_n (lv' := [(1, iV v32), (0, .ref (ad 17))]) hx hb dX2_reckon_7 rfl hl (by decide) rfl (fun ls hl => ?_)
  refine nr_iconst hx hb dX2_reckon_8 ?_
  refine lv_istore_n (lv' := [(2, iV 0), (1, iV v32), (0, .ref (ad 17))]) hx hb dX2_reckon_9 rfl hl (by decide) rfl (fun ls hl => ?_)
  obtain ⟨n0, h⟩ := h
  exact L10 v32 rv32 n0 0 S _ _ _ (by decide) hI (lv_sub hl [2, 1, 0] rfl) h
theorem cMX2_352 {p : Program} {l : Launch} {e : Env} {R : Room} {s : State} {m : MethodId} {args : Array Value} {below : List Frame} {meth : Method} {c : Code} {H : Heap} {locs : List Loc} {Q : State → Prop} {cc : ByteArray} {nL pc : Nat} {ls : Array Slot} {rest : List Value} {cells slots : Nat} {D : va_G} {dA : Nat → ClassId} {ad : Nat → Nat} {A : Nat → Prop} {H0 : Heap} {S : St} {dk : Nat} (hF : CallFix p m c cc nL s args lw_all RX2) (hK : gK D dA s) (hI : sI D dA wM ad A H0 S H locs) (hls : ls.size = nL) (hR : R.frames = dk + 1 ∧ R.locals = 64 * dk + 64) (hd : 3 + 1 ≤ dk) (hW : (rest.map fun v => v.category).sum ≤ 8) (hf : cells ≤ R.cells ∧ slots ≤ R.slots) {K : St → Prop} (h : w_M_reckon S K) (hdg : decode cc pc = .ok (.invokevirtual 352, 3)) (kk : ∀ (S1 : St) (H1 : Heap) (locs1 : List Loc), K S1 → sI D dA wM ad A H0 S1 H1 locs1 → W p l e R s m args below meth c H1 locs1 cells slots Q (F0 m (pc + 3) ls (rest))) : W p l e R s m args below meth c H locs cells slots Q (F0 m (pc) ls (.ref (ad 17) :: rest)) := s_callVv (As := []) (rest := rest) (K := K) hF (t_M_reckon l D dA ad S H.size K h) (s_recv hK hI 17 (by decide) wM_17 rfl) (cwV 0 hF.2.2.2.2 (lw_V q1587 q1589 qs94 q109 q1590) rfl rfl rfl (by decide +kernel) ⟨by have h1 := hR.1; have h2 : (rmD 3 0 0).frames = 3 + 1 := rfl; omega, by have h1 := hR.2; have h2 : (rmD 3 0 0).locals = 64 * 3 + 64 := rfl; omega⟩) hK hI rfl hls rfl hW hdg hf kk
set_option maxHeartbeats 4000000 in
theorem t_M_best (l : Launch) (D : va_G) (dA : Nat → ClassId) (ad : Nat → Nat) (S : St) (sz : Nat) (x1 : Int) (K : Int → St → Prop) (rx1 : InR x1) (h : w_M_best x1 S K) : Met l yX2_best (ws_ yX2_best cX2_best 2 (Option.some Jvm.ClassFile.FieldType.int)) (rmD 4 0 0) (va_Pc [.ref (ad 17), iV x1] (sPre D dA wM ad S sz)) (va_Qi (fun r S' => K r.toInt S') (sPost D dA wM ad (wA wM ad S sz)) (wA wM ad S sz)) 0 0 (wA wM ad S sz) := by
  refine Met.ofW (cc := cX2_best) (maxL := 2) (ret := (Option.some Jvm.ClassFile.FieldType.int)) (by decide) rfl ?_
  intro p e s m args below meth c s₁ B hml hv
  obtain ⟨rfl, hsz, hK, hC⟩ := hv
  have hx := B.exec
  have hb := B.bytes
  have hr := B.returns
  have hlocks := B.notSynchronized
  have hts := atoms_spec (ws := (ws_ yX2_best cX2_best 2 (Option.some Jvm.ClassFile.FieldType.int))) B.pre
  have hts : ∀ w ∈ lw_all, w.before _ s = true := fun w h => hts w (List.mem_cons_of_mem _ h)
  have hown : s.vm.findClass RX2 = some m.cls := findClass_of_methodNamed B.named
  clear B
  subst hsz
  have hI : sI D dA wM ad (wA wM ad S s.heap.size) s.heap S s.heap [] := hC.start
  clear hC
  generalize wA wM ad S s.heap.size = A at hI ⊢
  have hl := lv_entry ([.ref (ad 17), iV x1] : List Value) (n := 2) (Nat.le_of_ble_eq_true rfl)
  rw [lg_entry_eq]
  generalize (lg_sl ([.ref (ad 17), iV x1] : List Value) ++ List.replicate (2 - (lg_sl ([.ref (ad 17), iV x1] : List Value)).length) Slot.unset).toArray = ls at hl ⊢
  have hl : lv_has ls 2 [(0, .ref (ad 17)), (1, iV x1)] := hl
  have hF : CallFix p m c cX2_best 2 s _ lw_all RX2 := ⟨hx, hb, hml, hown, hts⟩
  have hR : (headSpec (ws_ yX2_best cX2_best 2 (Option.some Jvm.ClassFile.FieldType.int)) (rmD 4 0 0)).room.frames = 4 + 1 ∧ (headSpec (ws_ yX2_best cX2_best 2 (Option.some Jvm.ClassFile.FieldType.int)) (rmD 4 0 0)).room.locals = 64 * 4 + 64 := ⟨rfl, rfl⟩
  generalize (headSpec (ws_ yX2_best cX2_best 2 (Option.some Jvm.ClassFile.FieldType.int)) (rmD 4 0 0)).room = R at hR ⊢
  generalize ([.ref (ad 17), iV x1] : List Value).toArray = args at hts hF ⊢
  generalize hQ : MQ below _ _ _ _ _ _ = Q
  unfold w_M_best at h
  refine lv_iload_n hx hb dX2_best_0 rfl (lv_at hl 1 rfl) ?_
  refine nr_iconst hx hb dX2_best_1 ?_
  refine nr_iconst hx hb dX2_best_2 ?_
  refine cMX2_75 hF hK hI hl.1 hR (by decide) (Nat.le_of_ble_eq_true rfl) ⟨Nat.zero_le _, Nat.zero_le _⟩ rx1 (by decide) (by decide) h dX2_best_3 (fun r1 H locs fr1 h hI => ?_)
  replace h := h fr1
  have gr1 : InR r1 := kdP_R (k := 2) (by decide) fr1
  refine nr_if_ne hx hb gr1 dX2_best_6 (tgt := 11) (by decide) (fun c3 => ?_) (fun c3 => ?_)
  · replace h := h.1 c3
    refine lv_aload_n hx hb dX2_best_11 rfl (lv_at hl 0 rfl) ?_
    refine cMX2_352 hF hK hI hl.1 hR (by decide) (Nat.le_of_ble_eq_true rfl) ⟨Nat.zero_le _, Nat.zero_le _⟩ h dX2_best_12 (fun S5 H locs h hI => ?_)
    refine lv_iload_n hx hb dX2_best_15 rfl (lv_at hl 1 rfl) ?_
    refine nr_if_ne hx hb rx1 dX2_best_16 (tgt := 31) (by decide) (fun c6 => ?_) (fun c6 => ?_)
    · replace h := h.1 c6
      refine lv_aload_n hx hb dX2_best_31 rfl (lv_at hl 0 rfl) ?_
      refine gMX2_56_17 hF hK hI dX2_best_32 ?_
      refine nr_iconst hx hb dX2_best_35 ?_
      refine s_iald hx hb hK hI 12 (by decide) wM_12 (by decide) (by decide) dX2_best_36 (fun f7 => ?_)
      replace h := h f7
      refine nr_bipush hx hb dX2_best_37 (by decide) ?_
      have f8 := h.1; replace h := h.2
      refine nr_irem hx hb f7 (by decide) (by decide) dX2_best_39 ?_
      rw [← hQ]; exact s_iret (K := K) hx hb hr hlocks hI f8 h dX2_best_40
    · replace h := h.2 c6
      refine lv_aload_n hx hb dX2_best_19 rfl (lv_at hl 0 rfl) ?_
      refine gMX2_56_17 hF hK hI dX2_best_20 ?_
      refine nr_iconst hx hb dX2_best_23 ?_
      refine s_iald hx hb hK hI 12 (by decide) wM_12 (by decide) (by decide) dX2_best_24 (fun f9 => ?_)
      replace h := h f9
      refine nr_bipush hx hb dX2_best_25 (by decide) ?_
      have f10 := h.1; replace h := h.2
      refine nr_idiv hx hb f9 (by decide) (by decide) dX2_best_27 ?_
      refine lv_goto (tgt := 40) hx hb dX2_best_28 (by decide) ?_
      rw [← hQ]; exact s_iret (K := K) hx hb hr hlocks hI f10 h dX2_best_40
  · replace h := h.2 c3
    refine nr_iconst hx hb dX2_best_9 ?_
    rw [← hQ]; exact s_iret (K := K) hx hb hr hlocks hI (by decide) h dX2_best_10
set_option maxHeartbeats 4000000 in
theorem t_M_histories (l : Launch) (D : va_G) (dA : Nat → ClassId) (ad : Nat → Nat) (S : St) (sz : Nat) (K : Int → St → Prop) (h : w_M_histories S K) : Met l yX2_histories (ws_ yX2_histories cX2_histories 1 (Option.some Jvm.ClassFile.FieldType.long)) (rmD 4 0 0) (va_Pc [.ref (ad 17)] (sPre D dA wM ad S sz)) (va_Ql (fun r S' => K r.toInt S') (sPost D dA wM ad (wA wM ad S sz)) (wA wM ad S sz)) 0 0 (wA wM ad S sz) := by
  refine Met.ofW (cc := cX2_histories) (maxL := 1) (ret := (Option.some Jvm.ClassFile.FieldType.long)) (by decide) rfl ?_
  intro p e s m args below meth c s₁ B hml hv
  obtain ⟨rfl, hsz, hK, hC⟩ := hv
  have hx := B.exec
  have hb := B.bytes
  have hr := B.returns
  have hlocks := B.notSynchronized
  have hts := atoms_spec (ws := (ws_ yX2_histories cX2_histories 1 (Option.some Jvm.ClassFile.FieldType.long))) B.pre
  have hts : ∀ w ∈ lw_all, w.before _ s = true := fun w h => hts w (List.mem_cons_of_mem _ h)
  have hown : s.vm.findClass RX2 = some m.cls := findClass_of_methodNamed B.named
  clear B
  subst hsz
  have hI : sI D dA wM ad (wA wM ad S s.heap.size) s.heap S s.heap [] := hC.start
  clear hC
  generalize wA wM ad S s.heap.size = A at hI ⊢
  have hl := lv_entry ([.ref (ad 17)] : List Value) (n := 1) (Nat.le_of_ble_eq_true rfl)
  rw [lg_entry_eq]
  generalize (lg_sl ([.ref (ad 17)] : List Value) ++ List.replicate (1 - (lg_sl ([.ref (ad 17)] : List Value)).length) Slot.unset).toArray = ls at hl ⊢
  have hl : lv_has ls 1 [(0, .ref (ad 17))] := hl
  have hF : CallFix p m c cX2_histories 1 s _ lw_all RX2 := ⟨hx, hb, hml, hown, hts⟩
  have hR : (headSpec (ws_ yX2_histories cX2_histories 1 (Option.some Jvm.ClassFile.FieldType.long)) (rmD 4 0 0)).room.frames = 4 + 1 ∧ (headSpec (ws_ yX2_histories cX2_histories 1 (Option.some Jvm.ClassFile.FieldType.long)) (rmD 4 0 0)).room.locals = 64 * 4 + 64 := ⟨rfl, rfl⟩
  generalize (headSpec (ws_ yX2_histories cX2_histories 1 (Option.some Jvm.ClassFile.FieldType.long)) (rmD 4 0 0)).room = R at hR ⊢
  generalize ([.ref (ad 17)] : List Value).toArray = args at hts hF ⊢
  generalize hQ : MQ below _ _ _ _ _ _ = Q
  unfold w_M_histories at h
  refine lv_aload_n hx hb dX2_histories_0 rfl (lv_at hl 0 rfl) ?_
  refine cMX2_352 hF hK hI hl.1 hR (by decide) (Nat.le_of_ble_eq_true rfl) ⟨Nat.zero_le _, Nat.zero_le _⟩ h dX2_histories_1 (fun S2 H locs h hI => ?_)
  refine lv_aload_n hx hb dX2_histories_4 rfl (lv_at hl 0 rfl) ?_
  refine gMX2_59_17 hF hK hI dX2_histories_5 ?_
  refine nr_iconst hx hb dX2_histories_8 ?_
  refine s_lald hx hb hK hI 13 (by decide) wM_13 (by decide) (by decide) dX2_histories_9 (fun f3 => ?_)
  replace h := h f3
  rw [← hQ]; exact s_lret (K := K) hx hb hr hlocks hI f3 h dX2_histories_10
set_option maxHeartbeats 4000000 in
theorem t_M_led (l : Launch) (D : va_G) (dA : Nat → ClassId) (ad : Nat → Nat) (S : St) (sz : Nat) (x1 : Int) (K : Int → St → Prop) (rx1 : InR x1) (h : w_M_led x1 S K) : Met l yX2_led (ws_ yX2_led cX2_led 5 (Option.some Jvm.ClassFile.FieldType.int)) (rmD 4 0 0) (va_Pc [.ref (ad 17), iV x1] (sPre D dA wM ad S sz)) (va_Qi (fun r S' => K r.toInt S') (sPost D dA wM ad (wA wM ad S sz)) (wA wM ad S sz)) 0 0 (wA wM ad S sz) := by
  refine Met.ofW (cc := cX2_led) (maxL := 5) (ret := (Option.some Jvm.ClassFile.FieldType.int)) (by decide) rfl ?_
  intro p e s m args below meth c s₁ B hml hv
  obtain ⟨rfl, hsz, hK, hC⟩ := hv
  have hx := B.exec
  have hb := B.bytes
  have hr := B.returns
  have hlocks := B.notSynchronized
  have hts := atoms_spec (ws := (ws_ yX2_led cX2_led 5 (Option.some Jvm.ClassFile.FieldType.int))) B.pre
  have hts : ∀ w ∈ lw_all, w.before _ s = true := fun w h => hts w (List.mem_cons_of_mem _ h)
  have hown : s.vm.findClass RX2 = some m.cls := findClass_of_methodNamed B.named
  clear B
  subst hsz
  have hI : sI D dA wM ad (wA wM ad S s.heap.size) s.heap S s.heap [] := hC.start
  clear hC
  generalize wA wM ad S s.heap.size = A at hI ⊢
  have hl := lv_entry ([.ref (ad 17), iV x1] : List Value) (n := 5) (Nat.le_of_ble_eq_true rfl)
  rw [lg_entry_eq]
  generalize (lg_sl ([.ref (ad 17), iV x1] : List Value) ++ List.replicate (5 - (lg_sl ([.ref (ad 17), iV x1] : List Value)).length) Slot.unset).toArray = ls at hl ⊢
  have hl : lv_has ls 5 [(0, .ref (ad 17)), (1, iV x1)] := hl
  have hF : CallFix p m c cX2_led 5 s _ lw_all RX2 := ⟨hx, hb, hml, hown, hts⟩
  have hR : (headSpec (ws_ yX2_led cX2_led 5 (Option.some Jvm.ClassFile.FieldType.int)) (rmD 4 0 0)).room.frames = 4 + 1 ∧ (headSpec (ws_ yX2_led cX2_led 5 (Option.some Jvm.ClassFile.FieldType.int)) (rmD 4 0 0)).room.locals = 64 * 4 + 64 := ⟨rfl, rfl⟩
  generalize (headSpec (ws_ yX2_led cX2_led 5 (Option.some Jvm.ClassFile.FieldType.int)) (rmD 4 0 0)).room = R at hR ⊢
  generalize ([.ref (ad 17), iV x1] : List Value).toArray = args at hts hF ⊢
  generalize hQ : MQ below _ _ _ _ _ _ = Q
  have L28 : ∀ (x1 : Int) (S : St), InR x1 → ∀ (n28 : Nat) (x2 : Int) (x3 : Int) (H : Heap) (locs : List Loc) (ls : Array Slot), InR x2 → InR x3 → sI D dA wM ad A s.heap S H locs → lv_has ls 5 [(0, .ref (ad 17)), (1, iV x1), (2, iV x2), (3, iV x3)] → l_M_led_28 x1 S K n28 x2 x3 → W p l e R s m args below meth c H locs 0 0 Q (F0 m 28 ls []) := by
    intro x1 S rx1 n28
    induction n28 with
    | zero => intro x2 x3 H locs ls rx2 rx3 hI hl h; exact False.elim h
    | succ n28 ih28 =>
      intro x2 x3 H locs ls rx2 rx3 hI hl h
      have J95 : ∀ (x2 : Int) (x3 : Int) (x4 : Int) (H : Heap) (locs : List Loc) (ls : Array Slot), InR x2 → InR x3 → InR x4 → sI D dA wM ad A s.heap S H locs → lv_has ls 5 [(0, .ref (ad 17)), (1, iV x1), (2, iV x2), (3, iV x3), (4, iV x4)] → j_M_led_95 x1 x2 x3 x4 S K (l_M_led_28 x1 S K n28) → W p l e R s m args below meth c H locs 0 0 Q (F0 m 95 ls []) := by
        intro x2 x3 x4 H locs ls rx2 rx3 rx4 hI hl h
        unfold j_M_led_95 at h
        refine lv_iload_n hx hb dX2_led_95 rfl (lv_at hl 3 rfl) ?_
        refine lv_iload_n hx hb dX2_led_96 rfl (lv_at hl 1 rfl) ?_
        refine nr_icmp_ne hx hb rx3 rx1 dX2_led_97 (tgt := 103) (by decide) (fun c1 => ?_) (fun c1 => ?_)
        · replace h := h.1 c1
          refine lv_aload_n hx hb dX2_led_103 rfl (lv_at hl 0 rfl) ?_
          refine lv_iload_n hx hb dX2_led_104 rfl (lv_at hl 3 rfl) ?_
          refine lv_iload hx hb dX2_led_105 (lv_at hl 4 rfl) ?_
          refine lv_iload_n hx hb dX2_led_107 rfl (lv_at hl 2 rfl) ?_
          refine cMX2_346 hF hK hI hl.1 hR (by decide) (Nat.le_of_ble_eq_true rfl) ⟨Nat.zero_le _, Nat.zero_le _⟩ rx3 rx4 rx2 h dX2_led_108 (fun r2 H locs fr2 h hI => ?_)
          replace h := h fr2
          refine nr_sipush hx hb dX2_led_111 (by decide) ?_
          refine lv_iload_n hx hb dX2_led_114 rfl (lv_at hl 3 rfl) ?_
          refine nr_iconst hx hb dX2_led_115 ?_
          have f4 := h.1; replace h := h.2
          refine nr_iadd hx hb dX2_led_116 ?_
          have f5 := h.1; replace h := h.2
          refine nr_imul hx hb dX2_led_117 ?_
          have f6 := h.1; replace h := h.2
          refine nr_isub hx hb dX2_led_118 ?_
          refine nr_topi (fun v7 ev7 => ?_)
          have rv7 : InR v7 := by rw [ev7]; exact f6
          replace h := h v7 ev7 rv7
          refine lv_istore_n (lv' := [(2, iV v7), (0, .ref (ad 17)), (1, iV x1), (3, iV x3), (4, iV x4)]) hx hb dX2_led_119 rfl hl (by decide) rfl (fun ls hl => ?_)
          refine nr_iinc (lv' := [(3, iV (x3 + 1)), (2, iV v7), (0, .ref (ad 17)), (1, iV x1), (4, iV x4)]) hx hb dX2_led_120 hl (k := 3) rfl (by decide) rfl (fun ls hl => ?_)
          refine lv_goto (tgt := 28) hx hb dX2_led_123 (by decide) ?_
          exact ih28 v7 (x3 + 1) _ _ _ rv7 f4 hI (lv_sub hl [2, 3, 1, 0] rfl) h
        · replace h := h.2 c1
          refine lv_iload hx hb dX2_led_100 (lv_at hl 4 rfl) ?_
          rw [← hQ]; exact s_iret (K := K) hx hb hr hlocks hI rx4 h dX2_led_102
      have L42 : ∀ (x2 : Int) (x3 : Int), InR x2 → InR x3 → ∀ (n42 : Nat) (x4 : Int) (H : Heap) (locs : List Loc) (ls : Array Slot), InR x4 → sI D dA wM ad A s.heap S H locs → lv_has ls 5 [(0, .ref (ad 17)), (1, iV x1), (2, iV x2), (3, iV x3), (4, iV x4)] → l_M_led_42 x1 x2 x3 S K (fun (z4 : Int) => j_M_led_95 x1 x2 x3 z4 S K (l_M_led_28 x1 S K n28)) n42 x4 → W p l e R s m args below meth c H locs 0 0 Q (F0 m 42 ls []) := by
        intro x2 x3 rx2 rx3 n42
        induction n42 with
        | zero => intro x4 H locs ls rx4 hI hl h; exact False.elim h
        | succ n42 ih42 =>
          intro x4 H locs ls rx4 hI hl h
          have J89 : ∀ (x4 : Int) (H : Heap) (locs : List Loc) (ls : Array Slot), InR x4 → sI D dA wM ad A s.heap S H locs → lv_has ls 5 [(0, .ref (ad 17)), (1, iV x1), (2, iV x2), (3, iV x3), (4, iV x4)] → j_M_led_89 x1 x2 x3 x4 S K (fun (z4 : Int) => j_M_led_95 x1 x2 x3 z4 S K (l_M_led_28 x1 S K n28)) (l_M_led_42 x1 x2 x3 S K (fun (z4 : Int) => j_M_led_95 x1 x2 x3 z4 S K (l_M_led_28 x1 S K n28)) n42) → W p l e R s m args below meth c H locs 0 0 Q (F0 m 89 ls []) := by
            intro x4 H locs ls rx4 hI hl h
            unfold j_M_led_89 at h
            have f8 := h.1; replace h := h.2
            refine nr_iinc (lv' := [(4, iV (x4 + 1)), (0, .ref (ad 17)), (1, iV x1), (2, iV x2), (3, iV x3)]) hx hb dX2_led_89 hl (k := 4) rfl (by decide) rfl (fun ls hl => ?_)
            refine lv_goto (tgt := 42) hx hb dX2_led_92 (by decide) ?_
            exact ih42 (x4 + 1) _ _ _ f8 hI (lv_sub hl [1, 2, 3, 4, 0] rfl) h
          unfold l_M_led_42 at h
          refine lv_aload_n hx hb dX2_led_42 rfl (lv_at hl 0 rfl) ?_
          refine lv_iload_n hx hb dX2_led_43 rfl (lv_at hl 3 rfl) ?_
          refine lv_iload hx hb dX2_led_44 (lv_at hl 4 rfl) ?_
          refine lv_iload_n hx hb dX2_led_46 rfl (lv_at hl 2 rfl) ?_
          refine cMX2_343 hF hK hI hl.1 hR (by decide) (Nat.le_of_ble_eq_true rfl) ⟨Nat.zero_le _, Nat.zero_le _⟩ rx3 rx4 rx2 h dX2_led_47 (fun r9 H locs fr9 h hI => ?_)
          replace h := h fr9
          have gr9 : InR r9 := kdP_R (k := 2) (by decide) fr9
          refine nr_if_eq hx hb gr9 dX2_led_50 (tgt := 89) (by decide) (fun c11 => ?_) (fun c11 => ?_)
          · replace h := h.1 c11
            exact J89 x4 _ _ _ rx4 hI (lv_sub hl [0, 1, 2, 3, 4] rfl) h
          · replace h := h.2 c11
            refine lv_aload_n hx hb dX2_led_53 rfl (lv_at hl 0 rfl) ?_
            refine lv_iload_n hx hb dX2_led_54 rfl (lv_at hl 3 rfl) ?_
            refine lv_iload hx hb dX2_led_55 (lv_at hl 4 rfl) ?_
            refine cMX2_349 hF hK hI hl.1 hR (by decide) (Nat.le_of_ble_eq_true rfl) ⟨Nat.zero_le _, Nat.zero_le _⟩ rx3 rx4 h dX2_led_57 (fun r12 H locs fr12 h hI => ?_)
            replace h := h fr12
            refine lv_aload_n hx hb dX2_led_60 rfl (lv_at hl 0 rfl) ?_
            refine gMX2_56_17 hF hK hI dX2_led_61 ?_
            refine lv_aload_n hx hb dX2_led_64 rfl (lv_at hl 0 rfl) ?_
            refine lv_iload_n hx hb dX2_led_65 rfl (lv_at hl 3 rfl) ?_
            refine lv_iload hx hb dX2_led_66 (lv_at hl 4 rfl) ?_
            refine lv_iload_n hx hb dX2_led_68 rfl (lv_at hl 2 rfl) ?_
            refine cMX2_346 hF hK hI hl.1 hR (by decide) (Nat.le_of_ble_eq_true rfl) ⟨Nat.zero_le _, Nat.zero_le _⟩ rx3 rx4 rx2 h dX2_led_69 (fun r14 H locs fr14 h hI => ?_)
            replace h := h fr14
            have f16 := h.1; replace h := h.2
            refine s_iald hx hb hK hI 12 (by decide) wM_12 fr14 f16 dX2_led_72 (fun f17 => ?_)
            replace h := h f17
            have f18 := h.1; replace h := h.2
            refine nr_iadd hx hb dX2_led_73 ?_
            refine lv_aload_n hx hb dX2_led_74 rfl (lv_at hl 0 rfl) ?_
            refine gMX2_56_17 hF hK hI dX2_led_75 ?_
            refine nr_sipush hx hb dX2_led_78 (by decide) ?_
            refine lv_iload_n hx hb dX2_led_81 rfl (lv_at hl 3 rfl) ?_
            have f19 := h.1; replace h := h.2
            refine nr_imul hx hb dX2_led_82 ?_
            refine lv_iload_n hx hb dX2_led_83 rfl (lv_at hl 2 rfl) ?_
            have f20 := h.1; replace h := h.2
            refine nr_iadd hx hb dX2_led_84 ?_
            have f21 := h.1; replace h := h.2
            refine s_iald hx hb hK hI 12 (by decide) wM_12 f20 f21 dX2_led_85 (fun f22 => ?_)
            replace h := h f22
            refine nr_icmp_eq hx hb f18 f22 dX2_led_86 (tgt := 95) (by decide) (fun c23 => ?_) (fun c23 => ?_)
            · replace h := h.1 c23
              exact J95 x2 x3 x4 _ _ _ rx2 rx3 rx4 hI (lv_sub hl [0, 1, 2, 3, 4] rfl) h
            · replace h := h.2 c23
              exact J89 x4 _ _ _ rx4 hI (lv_sub hl [0, 1, 2, 3, 4] rfl) h
      unfold l_M_led_28 at h
      refine lv_iload_n hx hb dX2_led_28 rfl (lv_at hl 3 rfl) ?_
      refine lv_aload_n hx hb dX2_led_29 rfl (lv_at hl 0 rfl) ?_
      refine gMX2_7_17 hF hK hI dX2_led_30 ?_
      refine nr_bipush hx hb dX2_led_33 (by decide) ?_
      refine s_iald hx hb hK hI 0 (by decide) wM_0 (by decide) (by decide) dX2_led_35 (fun f24 => ?_)
      replace h := h f24
      refine nr_icmp_ge hx hb rx3 f24 dX2_led_36 (tgt := 126) (by decide) (fun c25 => ?_) (fun c25 => ?_)
      · replace h := h.1 c25
        refine nr_iconst hx hb dX2_led_126 ?_
        rw [← hQ]; exact s_iret (K := K) hx hb hr hlocks hI (by decide) h dX2_led_127
      · replace h := h.2 c25
        refine nr_iconst hx hb dX2_led_39 ?_
        refine lv_istore (lv' := [(4, iV (-1)), (0, .ref (ad 17)), (1, iV x1), (2, iV x2), (3, iV x3)]) hx hb dX2_led_40 hl (by decide) rfl (fun ls hl => ?_)
        obtain ⟨n0, h⟩ := h
        exact L42 x2 x3 rx2 rx3 n0 (-1) _ _ _ (by decide) hI (lv_sub hl [1, 2, 3, 4, 0] rfl) h
  unfold w_M_led at h
  refine lv_iload_n hx hb dX2_led_0 rfl (lv_at hl 1 rfl) ?_
  refine nr_iconst hx hb dX2_led_1 ?_
  refine lv_aload_n hx hb dX2_led_2 rfl (lv_at hl 0 rfl) ?_
  refine gMX2_7_17 hF hK hI dX2_led_3 ?_
  refine nr_bipush hx hb dX2_led_6 (by decide) ?_
  refine s_iald hx hb hK hI 0 (by decide) wM_0 (by decide) (by decide) dX2_led_8 (fun f26 => ?_)
  replace h := h f26
  refine nr_iconst hx hb dX2_led_9 ?_
  have f27 := h.1; replace h := h.2
  refine nr_isub hx hb dX2_led_10 ?_
  refine cMX2_75 hF hK hI hl.1 hR (by decide) (Nat.le_of_ble_eq_true rfl) ⟨Nat.zero_le _, Nat.zero_le _⟩ rx1 (by decide) f27 h dX2_led_11 (fun r28 H locs fr28 h hI => ?_)
  replace h := h fr28
  have gr28 : InR r28 := kdP_R (k := 2) (by decide) fr28
  refine nr_if_ne hx hb gr28 dX2_led_14 (tgt := 20) (by decide) (fun c30 => ?_) (fun c30 => ?_)
  · replace h := h.1 c30
    refine lv_aload_n hx hb dX2_led_20 rfl (lv_at hl 0 rfl) ?_
    refine cMX2_352 hF hK hI hl.1 hR (by decide) (Nat.le_of_ble_eq_true rfl) ⟨Nat.zero_le _, Nat.zero_le _⟩ h dX2_led_21 (fun S32 H locs h hI => ?_)
    refine nr_iconst hx hb dX2_led_24 ?_
    refine lv_istore_n (lv' := [(2, iV 0), (0, .ref (ad 17)), (1, iV x1)]) hx hb dX2_led_25 rfl hl (by decide) rfl (fun ls hl => ?_)
    refine nr_iconst hx hb dX2_led_26 ?_
    refine lv_istore_n (lv' := [(3, iV 0), (2, iV 0), (0, .ref (ad 17)), (1, iV x1)]) hx hb dX2_led_27 rfl hl (by decide) rfl (fun ls hl => ?_)
    obtain ⟨n0, h⟩ := h
    exact L28 x1 S32 rx1 n0 0 0 _ _ _ (by decide) (by decide) hI (lv_sub hl [2, 3, 1, 0] rfl) h
  · replace h := h.2 c30
    refine nr_bipush hx hb dX2_led_17 (by decide) ?_
    rw [← hQ]; exact s_iret (K := K) hx hb hr hlocks hI (by decide) h dX2_led_19
set_option maxHeartbeats 4000000 in
theorem t_M_choices (l : Launch) (x0 : Int) (x1 : Int) (K : Int → Prop) (rx0 : InR x0) (rx1 : InR x1) (h : w_M_choices x0 x1 K) : Met l yX2_choices (ws_ yX2_choices cX2_choices 5 (Option.some Jvm.ClassFile.FieldType.long)) (rmD 0 0 0) (va_Pc [iV x0, iV x1] (fun _ => True)) (va_Ql (fun r (_ : Unit) => K r.toInt) (fun _ _ => True) (fun _ => False)) 0 0 (fun _ => False) := by
  refine Met.ofW (cc := cX2_choices) (maxL := 5) (ret := (Option.some Jvm.ClassFile.FieldType.long)) (by decide) rfl ?_
  intro p e s m args below meth c s₁ B hml hv
  obtain ⟨rfl, -⟩ := hv
  have hx := B.exec
  have hb := B.bytes
  have hr := B.returns
  have hlocks := B.notSynchronized
  have hts := atoms_spec (ws := (ws_ yX2_choices cX2_choices 5 (Option.some Jvm.ClassFile.FieldType.long))) B.pre
  have hts : ∀ w ∈ lw_all, w.before _ s = true := fun w h => hts w (List.mem_cons_of_mem _ h)
  have hown : s.vm.findClass RX2 = some m.cls := findClass_of_methodNamed B.named
  clear B
  have hI : va_S (fun _ => False) s.heap s.heap [] := va_S.rf
  have hl := lv_entry ([iV x0, iV x1] : List Value) (n := 5) (Nat.le_of_ble_eq_true rfl)
  rw [lg_entry_eq]
  generalize (lg_sl ([iV x0, iV x1] : List Value) ++ List.replicate (5 - (lg_sl ([iV x0, iV x1] : List Value)).length) Slot.unset).toArray = ls at hl ⊢
  have hl : lv_has ls 5 [(0, iV x0), (1, iV x1)] := hl
  have hF : CallFix p m c cX2_choices 5 s _ lw_all RX2 := ⟨hx, hb, hml, hown, hts⟩
  have hR : (headSpec (ws_ yX2_choices cX2_choices 5 (Option.some Jvm.ClassFile.FieldType.long)) (rmD 0 0 0)).room.frames = 0 + 1 ∧ (headSpec (ws_ yX2_choices cX2_choices 5 (Option.some Jvm.ClassFile.FieldType.long)) (rmD 0 0 0)).room.locals = 64 * 0 + 64 := ⟨rfl, rfl⟩
  generalize (headSpec (ws_ yX2_choices cX2_choices 5 (Option.some Jvm.ClassFile.FieldType.long)) (rmD 0 0 0)).room = R at hR ⊢
  generalize ([iV x0, iV x1] : List Value).toArray = args at hts hF ⊢
  generalize hQ : MQ below _ _ _ _ _ _ = Q
  have L5 : ∀ (x0 : Int) (x1 : Int), InR x0 → InR x1 → ∀ (n5 : Nat) (x2 : Int) (x4 : Int) (H : Heap) (locs : List Loc) (ls : Array Slot), InL x2 → InR x4 → va_S (fun _ => False) s.heap H locs → lv_has ls 5 [(0, iV x0), (1, iV x1), (2, jV x2), (4, iV x4)] → l_M_choices_5 x0 x1 K n5 x2 x4 → W p l e R s m args below meth c H locs 0 0 Q (F0 m 5 ls []) := by
    intro x0 x1 rx0 rx1 n5
    induction n5 with
    | zero => intro x2 x4 H locs ls rx2 rx4 hI hl h; exact False.elim h
    | succ n5 ih5 =>
      intro x2 x4 H locs ls rx2 rx4 hI hl h
      unfold l_M_choices_5 at h
      refine lv_iload hx hb dX2_choices_5 (lv_at hl 3 rfl) ?_
      refine lv_iload_n hx hb dX2_choices_7 rfl (lv_at hl 1 rfl) ?_
      refine nr_icmp_gt hx hb rx4 rx1 dX2_choices_8 (tgt := 31) (by decide) (fun c1 => ?_) (fun c1 => ?_)
      · replace h := h.1 c1
        refine lv_lload_n hx hb dX2_choices_31 rfl (lv_at hl 2 rfl) ?_
        rw [← hQ]; exact p_lret (K := K) hx hb hr hlocks hI rx2 h dX2_choices_32
      · replace h := h.2 c1
        refine lv_lload_n hx hb dX2_choices_11 rfl (lv_at hl 2 rfl) ?_
        refine lv_iload_n hx hb dX2_choices_12 rfl (lv_at hl 0 rfl) ?_
        refine lv_iload_n hx hb dX2_choices_13 rfl (lv_at hl 1 rfl) ?_
        have f2 := h.1; replace h := h.2
        refine nr_isub hx hb dX2_choices_14 ?_
        refine lv_iload hx hb dX2_choices_15 (lv_at hl 3 rfl) ?_
        have f3 := h.1; replace h := h.2
        refine nr_iadd hx hb dX2_choices_17 ?_
        refine nr_i2l hx hb f3 dX2_choices_18 ?_
        have f4 : InL ((x0 - x1) + x4) := ni_L f3
        have f5 := h.1; replace h := h.2
        refine nr_lmul hx hb dX2_choices_19 ?_
        refine lv_iload hx hb dX2_choices_20 (lv_at hl 3 rfl) ?_
        refine nr_i2l hx hb rx4 dX2_choices_22 ?_
        have f6 : InL (x4) := ni_L rx4
        have f7 := h.1; replace h := h.2
        have f8 := h.1; replace h := h.2
        refine nr_ldiv hx hb f5 f6 f7 dX2_choices_23 ?_
        refine nr_topj (fun v9 ev9 => ?_)
        have rv9 : InL v9 := by rw [ev9]; exact f8
        replace h := h v9 ev9 rv9
        refine lv_lstore_n (lv' := [(2, jV v9), (0, iV x0), (1, iV x1), (4, iV x4)]) hx hb dX2_choices_24 rfl hl (by decide) rfl (fun ls hl => ?_)
        have f10 := h.1; replace h := h.2
        refine nr_iinc (lv' := [(4, iV (x4 + 1)), (2, jV v9), (0, iV x0), (1, iV x1)]) hx hb dX2_choices_25 hl (k := 3) rfl (by decide) rfl (fun ls hl => ?_)
        refine lv_goto (tgt := 5) hx hb dX2_choices_28 (by decide) ?_
        exact ih5 v9 (x4 + 1) _ _ _ rv9 f10 hI (lv_sub hl [2, 3, 1, 0] rfl) h
  unfold w_M_choices at h
  refine nr_lconst (v := 1) hx hb dX2_choices_0 rfl ?_
  refine lv_lstore_n (lv' := [(2, jV 1), (0, iV x0), (1, iV x1)]) hx hb dX2_choices_1 rfl hl (by decide) rfl (fun ls hl => ?_)
  refine nr_iconst hx hb dX2_choices_2 ?_
  refine lv_istore (lv' := [(4, iV 1), (2, jV 1), (0, iV x0), (1, iV x1)]) hx hb dX2_choices_3 hl (by decide) rfl (fun ls hl => ?_)
  obtain ⟨n0, h⟩ := h
  exact L5 x0 x1 rx0 rx1 n0 1 1 _ _ _ (by decide) (by decide) hI (lv_sub hl [2, 3, 1, 0] rfl) h
set_option maxHeartbeats 4000000 in
theorem t_M_common (l : Launch) (x0 : Int) (x2 : Int) (K : Int → Prop) (rx0 : InL x0) (rx2 : InL x2) (h : w_M_common x0 x2 K) : Met l yX2_common (ws_ yX2_common cX2_common 10 (Option.some Jvm.ClassFile.FieldType.long)) (rmD 0 0 0) (va_Pc [jV x0, jV x2] (fun _ => True)) (va_Ql (fun r (_ : Unit) => K r.toInt) (fun _ _ => True) (fun _ => False)) 0 0 (fun _ => False) := by
  refine Met.ofW (cc := cX2_common) (maxL := 10) (ret := (Option.some Jvm.ClassFile.FieldType.long)) (by decide) rfl ?_
  intro p e s m args below meth c s₁ B hml hv
  obtain ⟨rfl, -⟩ := hv
  have hx := B.exec
  have hb := B.bytes
  have hr := B.returns
  have hlocks := B.notSynchronized
  have hts := atoms_spec (ws := (ws_ yX2_common cX2_common 10 (Option.some Jvm.ClassFile.FieldType.long))) B.pre
  have hts : ∀ w ∈ lw_all, w.before _ s = true := fun w h => hts w (List.mem_cons_of_mem _ h)
  have hown : s.vm.findClass RX2 = some m.cls := findClass_of_methodNamed B.named
  clear B
  have hI : va_S (fun _ => False) s.heap s.heap [] := va_S.rf
  have hl := lv_entry ([jV x0, jV x2] : List Value) (n := 10) (Nat.le_of_ble_eq_true rfl)
  rw [lg_entry_eq]
  generalize (lg_sl ([jV x0, jV x2] : List Value) ++ List.replicate (10 - (lg_sl ([jV x0, jV x2] : List Value)).length) Slot.unset).toArray = ls at hl ⊢
  have hl : lv_has ls 10 [(0, jV x0), (2, jV x2)] := hl
  have hF : CallFix p m c cX2_common 10 s _ lw_all RX2 := ⟨hx, hb, hml, hown, hts⟩
  have hR : (headSpec (ws_ yX2_common cX2_common 10 (Option.some Jvm.ClassFile.FieldType.long)) (rmD 0 0 0)).room.frames = 0 + 1 ∧ (headSpec (ws_ yX2_common cX2_common 10 (Option.some Jvm.ClassFile.FieldType.long)) (rmD 0 0 0)).room.locals = 64 * 0 + 64 := ⟨rfl, rfl⟩
  generalize (headSpec (ws_ yX2_common cX2_common 10 (Option.some Jvm.ClassFile.FieldType.long)) (rmD 0 0 0)).room = R at hR ⊢
  generalize ([jV x0, jV x2] : List Value).toArray = args at hts hF ⊢
  generalize hQ : MQ below _ _ _ _ _ _ = Q
  have L6 : ∀ (n6 : Nat) (x4 : Int) (x6 : Int) (H : Heap) (locs : List Loc) (ls : Array Slot), InL x4 → InL x6 → va_S (fun _ => False) s.heap H locs → lv_has ls 10 [(4, jV x4), (6, jV x6)] → l_M_common_6 K n6 x4 x6 → W p l e R s m args below meth c H locs 0 0 Q (F0 m 6 ls []) := by
    intro n6
    induction n6 with
    | zero => intro x4 x6 H locs ls rx4 rx6 hI hl h; exact False.elim h
    | succ n6 ih6 =>
      intro x4 x6 H locs ls rx4 rx6 hI hl h
      unfold l_M_common_6 at h
      refine lv_lload hx hb dX2_common_6 (lv_at hl 1 rfl) ?_
      refine nr_lconst (v := 0) hx hb dX2_common_8 rfl ?_
      refine nr_lcmp_eq hx hb rx6 (by decide) dX2_common_9 dX2_common_10 (tgt := 31) (by decide) (fun c1 => ?_) (fun c1 => ?_)
      · replace h := h.1 c1
        refine lv_lload hx hb dX2_common_31 (lv_at hl 0 rfl) ?_
        rw [← hQ]; exact p_lret (K := K) hx hb hr hlocks hI rx4 h dX2_common_33
      · replace h := h.2 c1
        refine lv_lload hx hb dX2_common_13 (lv_at hl 0 rfl) ?_
        refine lv_lload hx hb dX2_common_15 (lv_at hl 1 rfl) ?_
        have f2 := h.1; replace h := h.2
        have f3 := h.1; replace h := h.2
        refine nr_lrem hx hb rx4 rx6 f2 dX2_common_17 ?_
        refine nr_topj (fun v4 ev4 => ?_)
        have rv4 : InL v4 := by rw [ev4]; exact f3
        replace h := h v4 ev4 rv4
        refine lv_lstore (lv' := [(8, jV v4), (4, jV x4), (6, jV x6)]) hx hb dX2_common_18 hl (by decide) rfl (fun ls hl => ?_)
        refine lv_lload hx hb dX2_common_20 (lv_at hl 2 rfl) ?_
        refine lv_lstore (lv' := [(4, jV x6), (8, jV v4), (6, jV x6)]) hx hb dX2_common_22 hl (by decide) rfl (fun ls hl => ?_)
        refine lv_lload hx hb dX2_common_24 (lv_at hl 1 rfl) ?_
        refine lv_lstore (lv' := [(6, jV v4), (4, jV x6), (8, jV v4)]) hx hb dX2_common_26 hl (by decide) rfl (fun ls hl => ?_)
        refine lv_goto (tgt := 6) hx hb dX2_common_28 (by decide) ?_
        exact ih6 x6 v4 _ _ _ rx6 rv4 hI (lv_sub hl [1, 0] rfl) h
  unfold w_M_common at h
  refine lv_lload_n hx hb dX2_common_0 rfl (lv_at hl 0 rfl) ?_
  refine lv_lstore (lv' := [(4, jV x0), (0, jV x0), (2, jV x2)]) hx hb dX2_common_1 hl (by decide) rfl (fun ls hl => ?_)
  refine lv_lload_n hx hb dX2_common_3 rfl (lv_at hl 2 rfl) ?_
  refine lv_lstore (lv' := [(6, jV x2), (4, jV x0), (0, jV x0), (2, jV x2)]) hx hb dX2_common_4 hl (by decide) rfl (fun ls hl => ?_)
  obtain ⟨n0, h⟩ := h
  exact L6 n0 x0 x2 _ _ _ rx0 rx2 hI (lv_sub hl [1, 0] rfl) h
set_option maxHeartbeats 4000000 in
theorem t_M_power (l : Launch) (x0 : Int) (x1 : Int) (K : Int → Prop) (rx0 : InR x0) (rx1 : InR x1) (h : w_M_power x0 x1 K) : Met l yX2_power (ws_ yX2_power cX2_power 5 (Option.some Jvm.ClassFile.FieldType.long)) (rmD 0 0 0) (va_Pc [iV x0, iV x1] (fun _ => True)) (va_Ql (fun r (_ : Unit) => K r.toInt) (fun _ _ => True) (fun _ => False)) 0 0 (fun _ => False) := by
  refine Met.ofW (cc := cX2_power) (maxL := 5) (ret := (Option.some Jvm.ClassFile.FieldType.long)) (by decide) rfl ?_
  intro p e s m args below meth c s₁ B hml hv
  obtain ⟨rfl, -⟩ := hv
  have hx := B.exec
  have hb := B.bytes
  have hr := B.returns
  have hlocks := B.notSynchronized
  have hts := atoms_spec (ws := (ws_ yX2_power cX2_power 5 (Option.some Jvm.ClassFile.FieldType.long))) B.pre
  have hts : ∀ w ∈ lw_all, w.before _ s = true := fun w h => hts w (List.mem_cons_of_mem _ h)
  have hown : s.vm.findClass RX2 = some m.cls := findClass_of_methodNamed B.named
  clear B
  have hI : va_S (fun _ => False) s.heap s.heap [] := va_S.rf
  have hl := lv_entry ([iV x0, iV x1] : List Value) (n := 5) (Nat.le_of_ble_eq_true rfl)
  rw [lg_entry_eq]
  generalize (lg_sl ([iV x0, iV x1] : List Value) ++ List.replicate (5 - (lg_sl ([iV x0, iV x1] : List Value)).length) Slot.unset).toArray = ls at hl ⊢
  have hl : lv_has ls 5 [(0, iV x0), (1, iV x1)] := hl
  have hF : CallFix p m c cX2_power 5 s _ lw_all RX2 := ⟨hx, hb, hml, hown, hts⟩
  have hR : (headSpec (ws_ yX2_power cX2_power 5 (Option.some Jvm.ClassFile.FieldType.long)) (rmD 0 0 0)).room.frames = 0 + 1 ∧ (headSpec (ws_ yX2_power cX2_power 5 (Option.some Jvm.ClassFile.FieldType.long)) (rmD 0 0 0)).room.locals = 64 * 0 + 64 := ⟨rfl, rfl⟩
  generalize (headSpec (ws_ yX2_power cX2_power 5 (Option.some Jvm.ClassFile.FieldType.long)) (rmD 0 0 0)).room = R at hR ⊢
  generalize ([iV x0, iV x1] : List Value).toArray = args at hts hF ⊢
  generalize hQ : MQ below _ _ _ _ _ _ = Q
  have L5 : ∀ (x0 : Int) (x1 : Int), InR x0 → InR x1 → ∀ (n5 : Nat) (x2 : Int) (x4 : Int) (H : Heap) (locs : List Loc) (ls : Array Slot), InL x2 → InR x4 → va_S (fun _ => False) s.heap H locs → lv_has ls 5 [(0, iV x0), (1, iV x1), (2, jV x2), (4, iV x4)] → l_M_power_5 x0 x1 K n5 x2 x4 → W p l e R s m args below meth c H locs 0 0 Q (F0 m 5 ls []) := by
    intro x0 x1 rx0 rx1 n5
    induction n5 with
    | zero => intro x2 x4 H locs ls rx2 rx4 hI hl h; exact False.elim h
    | succ n5 ih5 =>
      intro x2 x4 H locs ls rx2 rx4 hI hl h
      unfold l_M_power_5 at h
      refine lv_iload hx hb dX2_power_5 (lv_at hl 3 rfl) ?_
      refine lv_iload_n hx hb dX2_power_7 rfl (lv_at hl 1 rfl) ?_
      refine nr_icmp_ge hx hb rx4 rx1 dX2_power_8 (tgt := 22) (by decide) (fun c1 => ?_) (fun c1 => ?_)
      · replace h := h.1 c1
        refine lv_lload_n hx hb dX2_power_22 rfl (lv_at hl 2 rfl) ?_
        rw [← hQ]; exact p_lret (K := K) hx hb hr hlocks hI rx2 h dX2_power_23
      · replace h := h.2 c1
        refine lv_lload_n hx hb dX2_power_11 rfl (lv_at hl 2 rfl) ?_
        refine lv_iload_n hx hb dX2_power_12 rfl (lv_at hl 0 rfl) ?_
        refine nr_i2l hx hb rx0 dX2_power_13 ?_
        have f2 : InL (x0) := ni_L rx0
        have f3 := h.1; replace h := h.2
        refine nr_lmul hx hb dX2_power_14 ?_
        refine nr_topj (fun v4 ev4 => ?_)
        have rv4 : InL v4 := by rw [ev4]; exact f3
        replace h := h v4 ev4 rv4
        refine lv_lstore_n (lv' := [(2, jV v4), (0, iV x0), (1, iV x1), (4, iV x4)]) hx hb dX2_power_15 rfl hl (by decide) rfl (fun ls hl => ?_)
        have f5 := h.1; replace h := h.2
        refine nr_iinc (lv' := [(4, iV (x4 + 1)), (2, jV v4), (0, iV x0), (1, iV x1)]) hx hb dX2_power_16 hl (k := 3) rfl (by decide) rfl (fun ls hl => ?_)
        refine lv_goto (tgt := 5) hx hb dX2_power_19 (by decide) ?_
        exact ih5 v4 (x4 + 1) _ _ _ rv4 f5 hI (lv_sub hl [2, 3, 1, 0] rfl) h
  unfold w_M_power at h
  refine nr_lconst (v := 1) hx hb dX2_power_0 rfl ?_
  refine lv_lstore_n (lv' := [(2, jV 1), (0, iV x0), (1, iV x1)]) hx hb dX2_power_1 rfl hl (by decide) rfl (fun ls hl => ?_)
  refine nr_iconst hx hb dX2_power_2 ?_
  refine lv_istore (lv' := [(4, iV 0), (2, jV 1), (0, iV x0), (1, iV x1)]) hx hb dX2_power_3 hl (by decide) rfl (fun ls hl => ?_)
  obtain ⟨n0, h⟩ := h
  exact L5 x0 x1 rx0 rx1 n0 1 0 _ _ _ (by decide) (by decide) hI (lv_sub hl [2, 3, 1, 0] rfl) h
theorem cMX2_361 {p : Program} {l : Launch} {e : Env} {R : Room} {s : State} {m : MethodId} {args : Array Value} {below : List Frame} {meth : Method} {c : Code} {H : Heap} {locs : List Loc} {Q : State → Prop} {cc : ByteArray} {nL pc : Nat} {ls : Array Slot} {rest : List Value} {cells slots : Nat} {D : va_G} {dA : Nat → ClassId} {ad : Nat → Nat} {A : Nat → Prop} {H0 : Heap} {S : St} {dk : Nat} (hF : CallFix p m c cc nL s args lw_all RX2) (hK : gK D dA s) (hI : sI D dA wM ad A H0 S H locs) (hls : ls.size = nL) (hR : R.frames = dk + 1 ∧ R.locals = 64 * dk + 64) (hd : 0 + 1 ≤ dk) (hW : (rest.map fun v => v.category).sum ≤ 8) (hf : cells ≤ R.cells ∧ slots ≤ R.slots) {x0 : Int} {x1 : Int} {K : Int → Prop} (r0 : InR x0) (r1 : InR x1) (h : w_M_power x0 x1 K) (hdg : decode cc pc = .ok (.invokestatic 361, 3)) (kk : ∀ (r : Int) (H1 : Heap) (locs1 : List Loc), InL r → K r → sI D dA wM ad A H0 S H1 locs1 → W p l e R s m args below meth c H1 locs1 cells slots Q (F0 m (pc + 3) ls (jV r :: rest))) : W p l e R s m args below meth c H locs cells slots Q (F0 m (pc) ls (iV x1 :: iV x0 :: rest)) := s_callPl (As := [iV x0, iV x1]) (rest := rest) hF (t_M_power l x0 x1 K r0 r1 h) (va_cwS 2 hF.2.2.2.2 (lw_S q1625 q1626 q109 q1627) rfl rfl rfl (by decide +kernel) ⟨by have h1 := hR.1; have h2 : (rmD 0 0 0).frames = 0 + 1 := rfl; omega, by have h1 := hR.2; have h2 : (rmD 0 0 0).locals = 64 * 0 + 64 := rfl; omega⟩) hI rfl hls rfl hW hdg hf kk
theorem cMX2_364 {p : Program} {l : Launch} {e : Env} {R : Room} {s : State} {m : MethodId} {args : Array Value} {below : List Frame} {meth : Method} {c : Code} {H : Heap} {locs : List Loc} {Q : State → Prop} {cc : ByteArray} {nL pc : Nat} {ls : Array Slot} {rest : List Value} {cells slots : Nat} {D : va_G} {dA : Nat → ClassId} {ad : Nat → Nat} {A : Nat → Prop} {H0 : Heap} {S : St} {dk : Nat} (hF : CallFix p m c cc nL s args lw_all RX2) (hK : gK D dA s) (hI : sI D dA wM ad A H0 S H locs) (hls : ls.size = nL) (hR : R.frames = dk + 1 ∧ R.locals = 64 * dk + 64) (hd : 0 + 1 ≤ dk) (hW : (rest.map fun v => v.category).sum ≤ 8) (hf : cells ≤ R.cells ∧ slots ≤ R.slots) {x0 : Int} {x2 : Int} {K : Int → Prop} (r0 : InL x0) (r2 : InL x2) (h : w_M_common x0 x2 K) (hdg : decode cc pc = .ok (.invokestatic 364, 3)) (kk : ∀ (r : Int) (H1 : Heap) (locs1 : List Loc), InL r → K r → sI D dA wM ad A H0 S H1 locs1 → W p l e R s m args below meth c H1 locs1 cells slots Q (F0 m (pc + 3) ls (jV r :: rest))) : W p l e R s m args below meth c H locs cells slots Q (F0 m (pc) ls (jV x2 :: jV x0 :: rest)) := s_callPl (As := [jV x0, jV x2]) (rest := rest) hF (t_M_common l x0 x2 K r0 r2 h) (va_cwS 2 hF.2.2.2.2 (lw_S q1628 q1629 q109 q1630) rfl rfl rfl (by decide +kernel) ⟨by have h1 := hR.1; have h2 : (rmD 0 0 0).frames = 0 + 1 := rfl; omega, by have h1 := hR.2; have h2 : (rmD 0 0 0).locals = 64 * 0 + 64 := rfl; omega⟩) hI rfl hls rfl hW hdg hf kk
theorem cMX2_357 {p : Program} {l : Launch} {e : Env} {R : Room} {s : State} {m : MethodId} {args : Array Value} {below : List Frame} {meth : Method} {c : Code} {H : Heap} {locs : List Loc} {Q : State → Prop} {cc : ByteArray} {nL pc : Nat} {ls : Array Slot} {rest : List Value} {cells slots : Nat} {D : va_G} {dA : Nat → ClassId} {ad : Nat → Nat} {A : Nat → Prop} {H0 : Heap} {S : St} {dk : Nat} (hF : CallFix p m c cc nL s args lw_all RX2) (hK : gK D dA s) (hI : sI D dA wM ad A H0 S H locs) (hls : ls.size = nL) (hR : R.frames = dk + 1 ∧ R.locals = 64 * dk + 64) (hd : 0 + 1 ≤ dk) (hW : (rest.map fun v => v.category).sum ≤ 8) (hf : cells ≤ R.cells ∧ slots ≤ R.slots) {x0 : Int} {x1 : Int} {K : Int → Prop} (r0 : InR x0) (r1 : InR x1) (h : w_M_choices x0 x1 K) (hdg : decode cc pc = .ok (.invokestatic 357, 3)) (kk : ∀ (r : Int) (H1 : Heap) (locs1 : List Loc), InL r → K r → sI D dA wM ad A H0 S H1 locs1 → W p l e R s m args below meth c H1 locs1 cells slots Q (F0 m (pc + 3) ls (jV r :: rest))) : W p l e R s m args below meth c H locs cells slots Q (F0 m (pc) ls (iV x1 :: iV x0 :: rest)) := s_callPl (As := [iV x0, iV x1]) (rest := rest) hF (t_M_choices l x0 x1 K r0 r1 h) (va_cwS 2 hF.2.2.2.2 (lw_S q1622 q1623 q109 q1624) rfl rfl rfl (by decide +kernel) ⟨by have h1 := hR.1; have h2 : (rmD 0 0 0).frames = 0 + 1 := rfl; omega, by have h1 := hR.2; have h2 : (rmD 0 0 0).locals = 64 * 0 + 64 := rfl; omega⟩) hI rfl hls rfl hW hdg hf kk
set_option maxHeartbeats 4000000 in
theorem t_M_chance (l : Launch) (D : va_G) (dA : Nat → ClassId) (ad : Nat → Nat) (S : St) (sz : Nat) (x1 : Int) (x2 : Int) (x3 : Int) (x4 : Int) (K : Int → Prop) (rx1 : InR x1) (rx2 : InR x2) (rx3 : InR x3) (rx4 : InR x4) (h : w_M_chance x1 x2 x3 x4 S K) : Met l yX2_chance (ws_ yX2_chance cX2_chance 9 (Option.some Jvm.ClassFile.FieldType.long)) (rmD 1 0 0) (va_Pc [.ref (ad 17), iV x1, iV x2, iV x3, iV x4] (sPre D dA wM ad S sz)) (va_Ql (fun r S' => S' = S ∧ K r.toInt) (sPost D dA wM ad (wA wM ad S sz)) (wA wM ad S sz)) 0 0 (wA wM ad S sz) := by
  refine Met.ofW (cc := cX2_chance) (maxL := 9) (ret := (Option.some Jvm.ClassFile.FieldType.long)) (by decide) rfl ?_
  intro p e s m args below meth c s₁ B hml hv
  obtain ⟨rfl, hsz, hK, hC⟩ := hv
  have hx := B.exec
  have hb := B.bytes
  have hr := B.returns
  have hlocks := B.notSynchronized
  have hts := atoms_spec (ws := (ws_ yX2_chance cX2_chance 9 (Option.some Jvm.ClassFile.FieldType.long))) B.pre
  have hts : ∀ w ∈ lw_all, w.before _ s = true := fun w h => hts w (List.mem_cons_of_mem _ h)
  have hown : s.vm.findClass RX2 = some m.cls := findClass_of_methodNamed B.named
  clear B
  subst hsz
  have hI : sI D dA wM ad (wA wM ad S s.heap.size) s.heap S s.heap [] := hC.start
  clear hC
  generalize wA wM ad S s.heap.size = A at hI ⊢
  have hl := lv_entry ([.ref (ad 17), iV x1, iV x2, iV x3, iV x4] : List Value) (n := 9) (Nat.le_of_ble_eq_true rfl)
  rw [lg_entry_eq]
  generalize (lg_sl ([.ref (ad 17), iV x1, iV x2, iV x3, iV x4] : List Value) ++ List.replicate (9 - (lg_sl ([.ref (ad 17), iV x1, iV x2, iV x3, iV x4] : List Value)).length) Slot.unset).toArray = ls at hl ⊢
  have hl : lv_has ls 9 [(0, .ref (ad 17)), (1, iV x1), (2, iV x2), (3, iV x3), (4, iV x4)] := hl
  have hF : CallFix p m c cX2_chance 9 s _ lw_all RX2 := ⟨hx, hb, hml, hown, hts⟩
  have hR : (headSpec (ws_ yX2_chance cX2_chance 9 (Option.some Jvm.ClassFile.FieldType.long)) (rmD 1 0 0)).room.frames = 1 + 1 ∧ (headSpec (ws_ yX2_chance cX2_chance 9 (Option.some Jvm.ClassFile.FieldType.long)) (rmD 1 0 0)).room.locals = 64 * 1 + 64 := ⟨rfl, rfl⟩
  generalize (headSpec (ws_ yX2_chance cX2_chance 9 (Option.some Jvm.ClassFile.FieldType.long)) (rmD 1 0 0)).room = R at hR ⊢
  generalize ([.ref (ad 17), iV x1, iV x2, iV x3, iV x4] : List Value).toArray = args at hts hF ⊢
  generalize hQ : MQ below _ _ _ _ _ _ = Q
  have J91 : ∀ (x1 : Int) (x4 : Int) (x5 : Int) (H : Heap) (locs : List Loc) (ls : Array Slot), InR x1 → InR x4 → InL x5 → sI D dA wM ad A s.heap S H locs → lv_has ls 9 [(1, iV x1), (4, iV x4), (5, jV x5)] → j_M_chance_91 x1 x4 x5 S K → W p l e R s m args below meth c H locs 0 0 Q (F0 m 91 ls []) := by
    intro x1 x4 x5 H locs ls rx1 rx4 rx5 hI hl h
    unfold j_M_chance_91 at h
    refine nr_bipush hx hb dX2_chance_91 (by decide) ?_
    refine lv_iload_n hx hb dX2_chance_93 rfl (lv_at hl 0 rfl) ?_
    refine cMX2_361 hF hK hI hl.1 hR (by decide) (Nat.le_of_ble_eq_true rfl) ⟨Nat.zero_le _, Nat.zero_le _⟩ (by decide) rx1 h dX2_chance_94 (fun r1 H locs fr1 h hI => ?_)
    replace h := h fr1
    refine lv_lstore (lv' := [(7, jV r1), (1, iV x1), (4, iV x4), (5, jV x5)]) hx hb dX2_chance_97 hl (by decide) rfl (fun ls hl => ?_)
    refine lv_iload hx hb dX2_chance_99 (lv_at hl 2 rfl) ?_
    refine nr_if_ne hx hb rx4 dX2_chance_101 (tgt := 109) (by decide) (fun c3 => ?_) (fun c3 => ?_)
    · replace h := h.1 c3
      refine lv_lload hx hb dX2_chance_109 (lv_at hl 0 rfl) ?_
      refine lv_lload hx hb dX2_chance_111 (lv_at hl 3 rfl) ?_
      refine lv_lload hx hb dX2_chance_113 (lv_at hl 0 rfl) ?_
      refine cMX2_364 hF hK hI hl.1 hR (by decide) (Nat.le_of_ble_eq_true rfl) ⟨Nat.zero_le _, Nat.zero_le _⟩ rx5 fr1 h dX2_chance_115 (fun r4 H locs fr4 h hI => ?_)
      replace h := h fr4
      have f6 := h.1; replace h := h.2
      have f7 := h.1; replace h := h.2
      refine nr_ldiv hx hb fr1 fr4 f6 dX2_chance_118 ?_
      rw [← hQ]; exact s_lret (K := fun r S' => S' = S ∧ K r) hx hb hr hlocks hI f7 ⟨rfl, h⟩ dX2_chance_119
    · replace h := h.2 c3
      refine lv_lload hx hb dX2_chance_104 (lv_at hl 3 rfl) ?_
      refine lv_goto (tgt := 111) hx hb dX2_chance_106 (by decide) ?_
      refine lv_lload hx hb dX2_chance_111 (lv_at hl 3 rfl) ?_
      refine lv_lload hx hb dX2_chance_113 (lv_at hl 0 rfl) ?_
      refine cMX2_364 hF hK hI hl.1 hR (by decide) (Nat.le_of_ble_eq_true rfl) ⟨Nat.zero_le _, Nat.zero_le _⟩ rx5 fr1 h dX2_chance_115 (fun r8 H locs fr8 h hI => ?_)
      replace h := h fr8
      have f10 := h.1; replace h := h.2
      have f11 := h.1; replace h := h.2
      refine nr_ldiv hx hb rx5 fr8 f10 dX2_chance_118 ?_
      rw [← hQ]; exact s_lret (K := fun r S' => S' = S ∧ K r) hx hb hr hlocks hI f11 ⟨rfl, h⟩ dX2_chance_119
  have L49 : ∀ (x1 : Int) (x3 : Int) (x4 : Int), InR x1 → InR x3 → InR x4 → ∀ (n49 : Nat) (x5 : Int) (x7 : Int) (H : Heap) (locs : List Loc) (ls : Array Slot), InL x5 → InR x7 → sI D dA wM ad A s.heap S H locs → lv_has ls 9 [(1, iV x1), (3, iV x3), (4, iV x4), (5, jV x5), (7, iV x7)] → l_M_chance_49 x1 x3 x4 S K (fun (z5 : Int) => j_M_chance_91 x1 x4 z5 S K) n49 x5 x7 → W p l e R s m args below meth c H locs 0 0 Q (F0 m 49 ls []) := by
    intro x1 x3 x4 rx1 rx3 rx4 n49
    induction n49 with
    | zero => intro x5 x7 H locs ls rx5 rx7 hI hl h; exact False.elim h
    | succ n49 ih49 =>
      intro x5 x7 H locs ls rx5 rx7 hI hl h
      unfold l_M_chance_49 at h
      refine lv_iload hx hb dX2_chance_49 (lv_at hl 4 rfl) ?_
      refine lv_iload_n hx hb dX2_chance_51 rfl (lv_at hl 0 rfl) ?_
      refine nr_icmp_gt hx hb rx7 rx1 dX2_chance_52 (tgt := 91) (by decide) (fun c12 => ?_) (fun c12 => ?_)
      · replace h := h.1 c12
        exact J91 x1 x4 x5 _ _ _ rx1 rx4 rx5 hI (lv_sub hl [0, 2, 3] rfl) h
      · replace h := h.2 c12
        refine lv_lload hx hb dX2_chance_55 (lv_at hl 3 rfl) ?_
        refine lv_iload_n hx hb dX2_chance_57 rfl (lv_at hl 0 rfl) ?_
        refine lv_iload hx hb dX2_chance_58 (lv_at hl 4 rfl) ?_
        refine cMX2_357 hF hK hI hl.1 hR (by decide) (Nat.le_of_ble_eq_true rfl) ⟨Nat.zero_le _, Nat.zero_le _⟩ rx1 rx7 h dX2_chance_60 (fun r13 H locs fr13 h hI => ?_)
        replace h := h fr13
        refine lv_iload_n hx hb dX2_chance_63 rfl (lv_at hl 1 rfl) ?_
        refine lv_iload hx hb dX2_chance_64 (lv_at hl 4 rfl) ?_
        refine cMX2_361 hF hK hI hl.1 hR (by decide) (Nat.le_of_ble_eq_true rfl) ⟨Nat.zero_le _, Nat.zero_le _⟩ rx3 rx7 h dX2_chance_66 (fun r15 H locs fr15 h hI => ?_)
        replace h := h fr15
        have f17 := h.1; replace h := h.2
        refine nr_lmul hx hb dX2_chance_69 ?_
        refine nr_bipush hx hb dX2_chance_70 (by decide) ?_
        refine lv_iload_n hx hb dX2_chance_72 rfl (lv_at hl 1 rfl) ?_
        have f18 := h.1; replace h := h.2
        refine nr_isub hx hb dX2_chance_73 ?_
        refine lv_iload_n hx hb dX2_chance_74 rfl (lv_at hl 0 rfl) ?_
        refine lv_iload hx hb dX2_chance_75 (lv_at hl 4 rfl) ?_
        have f19 := h.1; replace h := h.2
        refine nr_isub hx hb dX2_chance_77 ?_
        refine cMX2_361 hF hK hI hl.1 hR (by decide) (Nat.le_of_ble_eq_true rfl) ⟨Nat.zero_le _, Nat.zero_le _⟩ f18 f19 h dX2_chance_78 (fun r20 H locs fr20 h hI => ?_)
        replace h := h fr20
        have f22 := h.1; replace h := h.2
        refine nr_lmul hx hb dX2_chance_81 ?_
        have f23 := h.1; replace h := h.2
        refine nr_ladd hx hb dX2_chance_82 ?_
        refine nr_topj (fun v24 ev24 => ?_)
        have rv24 : InL v24 := by rw [ev24]; exact f23
        replace h := h v24 ev24 rv24
        refine lv_lstore (lv' := [(5, jV v24), (1, iV x1), (3, iV x3), (4, iV x4), (7, iV x7)]) hx hb dX2_chance_83 hl (by decide) rfl (fun ls hl => ?_)
        have f25 := h.1; replace h := h.2
        refine nr_iinc (lv' := [(7, iV (x7 + 1)), (5, jV v24), (1, iV x1), (3, iV x3), (4, iV x4)]) hx hb dX2_chance_85 hl (k := 4) rfl (by decide) rfl (fun ls hl => ?_)
        refine lv_goto (tgt := 49) hx hb dX2_chance_88 (by decide) ?_
        exact ih49 v24 (x7 + 1) _ _ _ rv24 f25 hI (lv_sub hl [2, 3, 4, 1, 0] rfl) h
  unfold w_M_chance at h
  refine lv_iload_n hx hb dX2_chance_0 rfl (lv_at hl 1 rfl) ?_
  refine nr_iconst hx hb dX2_chance_1 ?_
  refine nr_bipush hx hb dX2_chance_2 (by decide) ?_
  refine cMX2_75 hF hK hI hl.1 hR (by decide) (Nat.le_of_ble_eq_true rfl) ⟨Nat.zero_le _, Nat.zero_le _⟩ rx1 (by decide) (by decide) h dX2_chance_4 (fun r26 H locs fr26 h hI => ?_)
  replace h := h fr26
  have gr26 : InR r26 := kdP_R (k := 2) (by decide) fr26
  refine nr_if_eq hx hb gr26 dX2_chance_7 (tgt := 39) (by decide) (fun c28 => ?_) (fun c28 => ?_)
  · replace h := h.1 c28
    refine nr_ldc2 (v := (-1)) hx hb hown (by decide) (hts _ q1621) dX2_chance_39 ?_
    rw [← hQ]; exact s_lret (K := fun r S' => S' = S ∧ K r) hx hb hr hlocks hI (by decide) ⟨rfl, h⟩ dX2_chance_42
  · replace h := h.2 c28
    refine lv_iload_n hx hb dX2_chance_10 rfl (lv_at hl 2 rfl) ?_
    refine nr_iconst hx hb dX2_chance_11 ?_
    refine lv_iload_n hx hb dX2_chance_12 rfl (lv_at hl 1 rfl) ?_
    refine cMX2_75 hF hK hI hl.1 hR (by decide) (Nat.le_of_ble_eq_true rfl) ⟨Nat.zero_le _, Nat.zero_le _⟩ rx2 (by decide) rx1 h dX2_chance_13 (fun r29 H locs fr29 h hI => ?_)
    replace h := h fr29
    have gr29 : InR r29 := kdP_R (k := 2) (by decide) fr29
    refine nr_if_eq hx hb gr29 dX2_chance_16 (tgt := 39) (by decide) (fun c31 => ?_) (fun c31 => ?_)
    · replace h := h.1 c31
      refine nr_ldc2 (v := (-1)) hx hb hown (by decide) (hts _ q1621) dX2_chance_39 ?_
      rw [← hQ]; exact s_lret (K := fun r S' => S' = S ∧ K r) hx hb hr hlocks hI (by decide) ⟨rfl, h⟩ dX2_chance_42
    · replace h := h.2 c31
      refine lv_iload_n hx hb dX2_chance_19 rfl (lv_at hl 3 rfl) ?_
      refine nr_iconst hx hb dX2_chance_20 ?_
      refine nr_bipush hx hb dX2_chance_21 (by decide) ?_
      refine cMX2_75 hF hK hI hl.1 hR (by decide) (Nat.le_of_ble_eq_true rfl) ⟨Nat.zero_le _, Nat.zero_le _⟩ rx3 (by decide) (by decide) h dX2_chance_23 (fun r32 H locs fr32 h hI => ?_)
      replace h := h fr32
      have gr32 : InR r32 := kdP_R (k := 2) (by decide) fr32
      refine nr_if_eq hx hb gr32 dX2_chance_26 (tgt := 39) (by decide) (fun c34 => ?_) (fun c34 => ?_)
      · replace h := h.1 c34
        refine nr_ldc2 (v := (-1)) hx hb hown (by decide) (hts _ q1621) dX2_chance_39 ?_
        rw [← hQ]; exact s_lret (K := fun r S' => S' = S ∧ K r) hx hb hr hlocks hI (by decide) ⟨rfl, h⟩ dX2_chance_42
      · replace h := h.2 c34
        refine lv_iload hx hb dX2_chance_29 (lv_at hl 4 rfl) ?_
        refine nr_iconst hx hb dX2_chance_31 ?_
        refine nr_iconst hx hb dX2_chance_32 ?_
        refine cMX2_75 hF hK hI hl.1 hR (by decide) (Nat.le_of_ble_eq_true rfl) ⟨Nat.zero_le _, Nat.zero_le _⟩ rx4 (by decide) (by decide) h dX2_chance_33 (fun r35 H locs fr35 h hI => ?_)
        replace h := h fr35
        have gr35 : InR r35 := kdP_R (k := 2) (by decide) fr35
        refine nr_if_ne hx hb gr35 dX2_chance_36 (tgt := 43) (by decide) (fun c37 => ?_) (fun c37 => ?_)
        · replace h := h.1 c37
          refine nr_lconst (v := 0) hx hb dX2_chance_43 rfl ?_
          refine lv_lstore (lv' := [(5, jV 0), (0, .ref (ad 17)), (1, iV x1), (2, iV x2), (3, iV x3), (4, iV x4)]) hx hb dX2_chance_44 hl (by decide) rfl (fun ls hl => ?_)
          refine lv_iload_n hx hb dX2_chance_46 rfl (lv_at hl 3 rfl) ?_
          refine lv_istore (lv' := [(7, iV x2), (5, jV 0), (0, .ref (ad 17)), (1, iV x1), (2, iV x2), (3, iV x3), (4, iV x4)]) hx hb dX2_chance_47 hl (by decide) rfl (fun ls hl => ?_)
          obtain ⟨n0, h⟩ := h
          exact L49 x1 x3 x4 rx1 rx3 rx4 n0 0 x2 _ _ _ (by decide) rx2 hI (lv_sub hl [3, 5, 6, 1, 0] rfl) h
        · replace h := h.2 c37
          refine nr_ldc2 (v := (-1)) hx hb hown (by decide) (hts _ q1621) dX2_chance_39 ?_
          rw [← hQ]; exact s_lret (K := fun r S' => S' = S ∧ K r) hx hb hr hlocks hI (by decide) ⟨rfl, h⟩ dX2_chance_42
theorem gMX2_65_17 {p : Program} {l : Launch} {e : Env} {R : Room} {s : State} {m : MethodId} {args : Array Value} {below : List Frame} {meth : Method} {c : Code} {H : Heap} {locs : List Loc} {Q : State → Prop} {cc : ByteArray} {nL pc : Nat} {ls : Array Slot} {rest : List Value} {cells slots : Nat} {D : va_G} {dA : Nat → ClassId} {ad : Nat → Nat} {A : Nat → Prop} {H0 : Heap} {S : St} (hF : CallFix p m c cc nL s args lw_all RX2) (hK : gK D dA s) (hI : sI D dA wM ad A H0 S H locs) (hdg : decode cc pc = .ok (.getfield 65, 3)) (kk : W p l e R s m args below meth c H locs cells slots Q (F0 m (pc + 3) ls (.ref (ad 15) :: rest))) : W p l e R s m args below meth c H locs cells slots Q (F0 m (pc) ls (.ref (ad 17) :: rest)) := s_getr hF.1 hF.2.1 hF.2.2.2.2 hF.2.2.2.1 hK hI 17 (by decide) wM_17 rfl in_X2 33 (by decide) q1194 rfl 15 rfl hdg kk
set_option maxHeartbeats 4000000 in
theorem t_M_milesOf (l : Launch) (D : va_G) (dA : Nat → ClassId) (ad : Nat → Nat) (S : St) (sz : Nat) (x1 : Int) (K : Int → Prop) (rx1 : InR x1) (h : w_M_milesOf x1 S K) : Met l yX2_milesOf (ws_ yX2_milesOf cX2_milesOf 4 (Option.some Jvm.ClassFile.FieldType.int)) (rmD 2 0 0) (va_Pc [.ref (ad 17), iV x1] (sPre D dA wM ad S sz)) (va_Qi (fun r S' => S' = S ∧ K r.toInt) (sPost D dA wM ad (wA wM ad S sz)) (wA wM ad S sz)) 0 0 (wA wM ad S sz) := by
  refine Met.ofW (cc := cX2_milesOf) (maxL := 4) (ret := (Option.some Jvm.ClassFile.FieldType.int)) (by decide) rfl ?_
  intro p e s m args below meth c s₁ B hml hv
  obtain ⟨rfl, hsz, hK, hC⟩ := hv
  have hx := B.exec
  have hb := B.bytes
  have hr := B.returns
  have hlocks := B.notSynchronized
  have hts := atoms_spec (ws := (ws_ yX2_milesOf cX2_milesOf 4 (Option.some Jvm.ClassFile.FieldType.int))) B.pre
  have hts : ∀ w ∈ lw_all, w.before _ s = true := fun w h => hts w (List.mem_cons_of_mem _ h)
  have hown : s.vm.findClass RX2 = some m.cls := findClass_of_methodNamed B.named
  clear B
  subst hsz
  have hI : sI D dA wM ad (wA wM ad S s.heap.size) s.heap S s.heap [] := hC.start
  clear hC
  generalize wA wM ad S s.heap.size = A at hI ⊢
  have hl := lv_entry ([.ref (ad 17), iV x1] : List Value) (n := 4) (Nat.le_of_ble_eq_true rfl)
  rw [lg_entry_eq]
  generalize (lg_sl ([.ref (ad 17), iV x1] : List Value) ++ List.replicate (4 - (lg_sl ([.ref (ad 17), iV x1] : List Value)).length) Slot.unset).toArray = ls at hl ⊢
  have hl : lv_has ls 4 [(0, .ref (ad 17)), (1, iV x1)] := hl
  have hF : CallFix p m c cX2_milesOf 4 s _ lw_all RX2 := ⟨hx, hb, hml, hown, hts⟩
  have hR : (headSpec (ws_ yX2_milesOf cX2_milesOf 4 (Option.some Jvm.ClassFile.FieldType.int)) (rmD 2 0 0)).room.frames = 2 + 1 ∧ (headSpec (ws_ yX2_milesOf cX2_milesOf 4 (Option.some Jvm.ClassFile.FieldType.int)) (rmD 2 0 0)).room.locals = 64 * 2 + 64 := ⟨rfl, rfl⟩
  generalize (headSpec (ws_ yX2_milesOf cX2_milesOf 4 (Option.some Jvm.ClassFile.FieldType.int)) (rmD 2 0 0)).room = R at hR ⊢
  generalize ([.ref (ad 17), iV x1] : List Value).toArray = args at hts hF ⊢
  generalize hQ : MQ below _ _ _ _ _ _ = Q
  have L4 : ∀ (x1 : Int), InR x1 → ∀ (n4 : Nat) (x2 : Int) (x3 : Int) (H : Heap) (locs : List Loc) (ls : Array Slot), InR x2 → InR x3 → sI D dA wM ad A s.heap S H locs → lv_has ls 4 [(0, .ref (ad 17)), (1, iV x1), (2, iV x2), (3, iV x3)] → l_M_milesOf_4 x1 S K n4 x2 x3 → W p l e R s m args below meth c H locs 0 0 Q (F0 m 4 ls []) := by
    intro x1 rx1 n4
    induction n4 with
    | zero => intro x2 x3 H locs ls rx2 rx3 hI hl h; exact False.elim h
    | succ n4 ih4 =>
      intro x2 x3 H locs ls rx2 rx3 hI hl h
      have J35 : ∀ (x3 : Int) (y0 : Int) (y2 : Int) (y4 : Int) (H : Heap) (locs : List Loc) (ls : Array Slot), InR x3 → InR y0 → InR y2 → InR y4 → sI D dA wM ad A s.heap S H locs → lv_has ls 4 [(0, .ref (ad 17)), (1, iV x1), (3, iV x3)] → j_M_milesOf_35 x1 x3 y0 y2 y4 S K (l_M_milesOf_4 x1 S K n4) → W p l e R s m args below meth c H locs 0 0 Q (F0 m 35 ls [iV y4, .ref (ad 15), iV y2, .ref (ad 17), iV y0]) := by
        intro x3 y0 y2 y4 H locs ls rx3 ry0 ry2 ry4 hI hl h
        unfold j_M_milesOf_35 at h
        have f1 := h.1; replace h := h.2
        refine s_iald hx hb hK hI 15 (by decide) wM_15 ry4 f1 dX2_milesOf_35 (fun f2 => ?_)
        replace h := h f2
        refine cMX2_333 hF hK hI hl.1 hR (by decide) (Nat.le_of_ble_eq_true rfl) ⟨Nat.zero_le _, Nat.zero_le _⟩ ry2 f2 h dX2_milesOf_36 (fun r3 H locs fr3 h hI => ?_)
        replace h := h fr3
        have f5 := h.1; replace h := h.2
        refine nr_iadd hx hb dX2_milesOf_39 ?_
        refine nr_topi (fun v6 ev6 => ?_)
        have rv6 : InR v6 := by rw [ev6]; exact f5
        replace h := h v6 ev6 rv6
        refine lv_istore_n (lv' := [(2, iV v6), (0, .ref (ad 17)), (1, iV x1), (3, iV x3)]) hx hb dX2_milesOf_40 rfl hl (by decide) rfl (fun ls hl => ?_)
        have f7 := h.1; replace h := h.2
        refine nr_iinc (lv' := [(3, iV (x3 + 1)), (2, iV v6), (0, .ref (ad 17)), (1, iV x1)]) hx hb dX2_milesOf_41 hl (k := 3) rfl (by decide) rfl (fun ls hl => ?_)
        refine lv_goto (tgt := 4) hx hb dX2_milesOf_44 (by decide) ?_
        exact ih4 v6 (x3 + 1) _ _ _ rv6 f7 hI (lv_sub hl [2, 3, 1, 0] rfl) h
      unfold l_M_milesOf_4 at h
      refine lv_iload_n hx hb dX2_milesOf_4 rfl (lv_at hl 3 rfl) ?_
      refine lv_iload_n hx hb dX2_milesOf_5 rfl (lv_at hl 1 rfl) ?_
      refine nr_icmp_ge hx hb rx3 rx1 dX2_milesOf_6 (tgt := 47) (by decide) (fun c8 => ?_) (fun c8 => ?_)
      · replace h := h.1 c8
        refine lv_iload_n hx hb dX2_milesOf_47 rfl (lv_at hl 2 rfl) ?_
        rw [← hQ]; exact s_iret (K := fun r S' => S' = S ∧ K r) hx hb hr hlocks hI rx2 ⟨rfl, h⟩ dX2_milesOf_48
      · replace h := h.2 c8
        refine lv_iload_n hx hb dX2_milesOf_9 rfl (lv_at hl 2 rfl) ?_
        refine lv_aload_n hx hb dX2_milesOf_10 rfl (lv_at hl 0 rfl) ?_
        refine lv_aload_n hx hb dX2_milesOf_11 rfl (lv_at hl 0 rfl) ?_
        refine gMX2_65_17 hF hK hI dX2_milesOf_12 ?_
        refine lv_iload_n hx hb dX2_milesOf_15 rfl (lv_at hl 3 rfl) ?_
        have f9 := h.1; replace h := h.2
        refine s_iald hx hb hK hI 15 (by decide) wM_15 rx3 f9 dX2_milesOf_16 (fun f10 => ?_)
        replace h := h f10
        refine lv_aload_n hx hb dX2_milesOf_17 rfl (lv_at hl 0 rfl) ?_
        refine gMX2_65_17 hF hK hI dX2_milesOf_18 ?_
        refine lv_iload_n hx hb dX2_milesOf_21 rfl (lv_at hl 3 rfl) ?_
        refine nr_iconst hx hb dX2_milesOf_22 ?_
        have f11 := h.1; replace h := h.2
        refine nr_iadd hx hb dX2_milesOf_23 ?_
        refine lv_iload_n hx hb dX2_milesOf_24 rfl (lv_at hl 1 rfl) ?_
        refine nr_icmp_ne hx hb f11 rx1 dX2_milesOf_25 (tgt := 32) (by decide) (fun c12 => ?_) (fun c12 => ?_)
        · replace h := h.1 c12
          refine lv_iload_n hx hb dX2_milesOf_32 rfl (lv_at hl 3 rfl) ?_
          refine nr_iconst hx hb dX2_milesOf_33 ?_
          refine nr_iadd hx hb dX2_milesOf_34 ?_
          exact J35 x3 x2 (aI S 15 x3) (x3 + 1) _ _ _ rx3 rx2 f10 f11 hI (lv_sub hl [0, 1, 3] rfl) h
        · replace h := h.2 c12
          refine nr_iconst hx hb dX2_milesOf_28 ?_
          refine lv_goto (tgt := 35) hx hb dX2_milesOf_29 (by decide) ?_
          exact J35 x3 x2 (aI S 15 x3) 0 _ _ _ rx3 rx2 f10 (by decide) hI (lv_sub hl [0, 1, 3] rfl) h
  unfold w_M_milesOf at h
  refine nr_iconst hx hb dX2_milesOf_0 ?_
  refine lv_istore_n (lv' := [(2, iV 0), (0, .ref (ad 17)), (1, iV x1)]) hx hb dX2_milesOf_1 rfl hl (by decide) rfl (fun ls hl => ?_)
  refine nr_iconst hx hb dX2_milesOf_2 ?_
  refine lv_istore_n (lv' := [(3, iV 0), (2, iV 0), (0, .ref (ad 17)), (1, iV x1)]) hx hb dX2_milesOf_3 rfl hl (by decide) rfl (fun ls hl => ?_)
  obtain ⟨n0, h⟩ := h
  exact L4 x1 rx1 n0 0 0 _ _ _ (by decide) (by decide) hI (lv_sub hl [2, 3, 1, 0] rfl) h
set_option maxHeartbeats 4000000 in
theorem t_M_exchange (l : Launch) (D : va_G) (dA : Nat → ClassId) (ad : Nat → Nat) (S : St) (sz : Nat) (x1 : Int) (x2 : Int) (K : St → Prop) (rx1 : InR x1) (rx2 : InR x2) (h : w_M_exchange x1 x2 S K) : Met l yX2_exchange (ws_ yX2_exchange cX2_exchange 4 (Option.none : Option Jvm.ClassFile.FieldType)) (rmD 0 0 0) (va_Pc [.ref (ad 17), iV x1, iV x2] (sPre D dA wM ad S sz)) (va_Qv (fun S' => K S') (sPost D dA wM ad (wA wM ad S sz)) (wA wM ad S sz)) 0 0 (wA wM ad S sz) := by
  refine Met.ofW (cc := cX2_exchange) (maxL := 4) (ret := (Option.none : Option Jvm.ClassFile.FieldType)) (by decide) rfl ?_
  intro p e s m args below meth c s₁ B hml hv
  obtain ⟨rfl, hsz, hK, hC⟩ := hv
  have hx := B.exec
  have hb := B.bytes
  have hr := B.returns
  have hlocks := B.notSynchronized
  have hts := atoms_spec (ws := (ws_ yX2_exchange cX2_exchange 4 (Option.none : Option Jvm.ClassFile.FieldType))) B.pre
  have hts : ∀ w ∈ lw_all, w.before _ s = true := fun w h => hts w (List.mem_cons_of_mem _ h)
  have hown : s.vm.findClass RX2 = some m.cls := findClass_of_methodNamed B.named
  clear B
  subst hsz
  have hI : sI D dA wM ad (wA wM ad S s.heap.size) s.heap S s.heap [] := hC.start
  clear hC
  generalize wA wM ad S s.heap.size = A at hI ⊢
  have hl := lv_entry ([.ref (ad 17), iV x1, iV x2] : List Value) (n := 4) (Nat.le_of_ble_eq_true rfl)
  rw [lg_entry_eq]
  generalize (lg_sl ([.ref (ad 17), iV x1, iV x2] : List Value) ++ List.replicate (4 - (lg_sl ([.ref (ad 17), iV x1, iV x2] : List Value)).length) Slot.unset).toArray = ls at hl ⊢
  have hl : lv_has ls 4 [(0, .ref (ad 17)), (1, iV x1), (2, iV x2)] := hl
  have hF : CallFix p m c cX2_exchange 4 s _ lw_all RX2 := ⟨hx, hb, hml, hown, hts⟩
  have hR : (headSpec (ws_ yX2_exchange cX2_exchange 4 (Option.none : Option Jvm.ClassFile.FieldType)) (rmD 0 0 0)).room.frames = 0 + 1 ∧ (headSpec (ws_ yX2_exchange cX2_exchange 4 (Option.none : Option Jvm.ClassFile.FieldType)) (rmD 0 0 0)).room.locals = 64 * 0 + 64 := ⟨rfl, rfl⟩
  generalize (headSpec (ws_ yX2_exchange cX2_exchange 4 (Option.none : Option Jvm.ClassFile.FieldType)) (rmD 0 0 0)).room = R at hR ⊢
  generalize ([.ref (ad 17), iV x1, iV x2] : List Value).toArray = args at hts hF ⊢
  generalize hQ : MQ below _ _ _ _ _ _ = Q
  unfold w_M_exchange at h
  refine lv_aload_n hx hb dX2_exchange_0 rfl (lv_at hl 0 rfl) ?_
  refine gMX2_65_17 hF hK hI dX2_exchange_1 ?_
  refine lv_iload_n hx hb dX2_exchange_4 rfl (lv_at hl 1 rfl) ?_
  have f1 := h.1; replace h := h.2
  refine s_iald hx hb hK hI 15 (by decide) wM_15 rx1 f1 dX2_exchange_5 (fun f2 => ?_)
  replace h := h f2
  refine nr_topi (fun v3 ev3 => ?_)
  have rv3 : InR v3 := by rw [ev3]; exact f2
  replace h := h v3 ev3 rv3
  refine lv_istore_n (lv' := [(3, iV v3), (0, .ref (ad 17)), (1, iV x1), (2, iV x2)]) hx hb dX2_exchange_6 rfl hl (by decide) rfl (fun ls hl => ?_)
  refine lv_aload_n hx hb dX2_exchange_7 rfl (lv_at hl 1 rfl) ?_
  refine gMX2_65_17 hF hK hI dX2_exchange_8 ?_
  refine lv_iload_n hx hb dX2_exchange_11 rfl (lv_at hl 2 rfl) ?_
  refine lv_aload_n hx hb dX2_exchange_12 rfl (lv_at hl 1 rfl) ?_
  refine gMX2_65_17 hF hK hI dX2_exchange_13 ?_
  refine lv_iload_n hx hb dX2_exchange_16 rfl (lv_at hl 3 rfl) ?_
  have f4 := h.1; replace h := h.2
  refine s_iald hx hb hK hI 15 (by decide) wM_15 rx2 f4 dX2_exchange_17 (fun f5 => ?_)
  replace h := h f5
  have f6 := h.1; replace h := h.2
  refine s_iast hx hb hK hI 15 (by decide) wM_15 rx1 f6 f5 dX2_exchange_18 (fun S7 H locs eS7 hI => ?_)
  replace h := h S7 eS7
  refine lv_aload_n hx hb dX2_exchange_19 rfl (lv_at hl 1 rfl) ?_
  refine gMX2_65_17 hF hK hI dX2_exchange_20 ?_
  refine lv_iload_n hx hb dX2_exchange_23 rfl (lv_at hl 3 rfl) ?_
  refine lv_iload_n hx hb dX2_exchange_24 rfl (lv_at hl 0 rfl) ?_
  have f8 := h.1; replace h := h.2
  refine s_iast hx hb hK hI 15 (by decide) wM_15 rx2 f8 rv3 dX2_exchange_25 (fun S9 H locs eS9 hI => ?_)
  replace h := h S9 eS9
  rw [← hQ]; exact s_vret (K := K) hx hb hr hlocks hI  h dX2_exchange_26
theorem cMX2_368 {p : Program} {l : Launch} {e : Env} {R : Room} {s : State} {m : MethodId} {args : Array Value} {below : List Frame} {meth : Method} {c : Code} {H : Heap} {locs : List Loc} {Q : State → Prop} {cc : ByteArray} {nL pc : Nat} {ls : Array Slot} {rest : List Value} {cells slots : Nat} {D : va_G} {dA : Nat → ClassId} {ad : Nat → Nat} {A : Nat → Prop} {H0 : Heap} {S : St} {dk : Nat} (hF : CallFix p m c cc nL s args lw_all RX2) (hK : gK D dA s) (hI : sI D dA wM ad A H0 S H locs) (hls : ls.size = nL) (hR : R.frames = dk + 1 ∧ R.locals = 64 * dk + 64) (hd : 0 + 1 ≤ dk) (hW : (rest.map fun v => v.category).sum ≤ 8) (hf : cells ≤ R.cells ∧ slots ≤ R.slots) {x1 : Int} {x2 : Int} {K : St → Prop} (r1 : InR x1) (r2 : InR x2) (h : w_M_exchange x1 x2 S K) (hdg : decode cc pc = .ok (.invokevirtual 368, 3)) (kk : ∀ (S1 : St) (H1 : Heap) (locs1 : List Loc), K S1 → sI D dA wM ad A H0 S1 H1 locs1 → W p l e R s m args below meth c H1 locs1 cells slots Q (F0 m (pc + 3) ls (rest))) : W p l e R s m args below meth c H locs cells slots Q (F0 m (pc) ls (iV x2 :: iV x1 :: .ref (ad 17) :: rest)) := s_callVv (As := [iV x1, iV x2]) (rest := rest) (K := K) hF (t_M_exchange l D dA ad S H.size x1 x2 K r1 r2 h) (s_recv hK hI 17 (by decide) wM_17 rfl) (cwV 2 hF.2.2.2.2 (lw_V q1643 q1645 qs101 q109 q1646) rfl rfl rfl (by decide +kernel) ⟨by have h1 := hR.1; have h2 : (rmD 0 0 0).frames = 0 + 1 := rfl; omega, by have h1 := hR.2; have h2 : (rmD 0 0 0).locals = 64 * 0 + 64 := rfl; omega⟩) hK hI rfl hls rfl hW hdg hf kk
set_option maxHeartbeats 4000000 in
theorem t_M_nextOrder (l : Launch) (D : va_G) (dA : Nat → ClassId) (ad : Nat → Nat) (S : St) (sz : Nat) (x1 : Int) (K : Int → St → Prop) (rx1 : InR x1) (h : w_M_nextOrder x1 S K) : Met l yX2_nextOrder (ws_ yX2_nextOrder cX2_nextOrder 6 (Option.some Jvm.ClassFile.FieldType.boolean)) (rmD 1 0 0) (va_Pc [.ref (ad 17), iV x1] (sPre D dA wM ad S sz)) (va_Qi (fun r S' => (r.toInt = 0 ∨ r.toInt = 1) ∧ (K r.toInt S')) (sPost D dA wM ad (wA wM ad S sz)) (wA wM ad S sz)) 0 0 (wA wM ad S sz) := by
  refine Met.ofW (cc := cX2_nextOrder) (maxL := 6) (ret := (Option.some Jvm.ClassFile.FieldType.boolean)) (by decide) rfl ?_
  intro p e s m args below meth c s₁ B hml hv
  obtain ⟨rfl, hsz, hK, hC⟩ := hv
  have hx := B.exec
  have hb := B.bytes
  have hr := B.returns
  have hlocks := B.notSynchronized
  have hts := atoms_spec (ws := (ws_ yX2_nextOrder cX2_nextOrder 6 (Option.some Jvm.ClassFile.FieldType.boolean))) B.pre
  have hts : ∀ w ∈ lw_all, w.before _ s = true := fun w h => hts w (List.mem_cons_of_mem _ h)
  have hown : s.vm.findClass RX2 = some m.cls := findClass_of_methodNamed B.named
  clear B
  subst hsz
  have hI : sI D dA wM ad (wA wM ad S s.heap.size) s.heap S s.heap [] := hC.start
  clear hC
  generalize wA wM ad S s.heap.size = A at hI ⊢
  have hl := lv_entry ([.ref (ad 17), iV x1] : List Value) (n := 6) (Nat.le_of_ble_eq_true rfl)
  rw [lg_entry_eq]
  generalize (lg_sl ([.ref (ad 17), iV x1] : List Value) ++ List.replicate (6 - (lg_sl ([.ref (ad 17), iV x1] : List Value)).length) Slot.unset).toArray = ls at hl ⊢
  have hl : lv_has ls 6 [(0, .ref (ad 17)), (1, iV x1)] := hl
  have hF : CallFix p m c cX2_nextOrder 6 s _ lw_all RX2 := ⟨hx, hb, hml, hown, hts⟩
  have hR : (headSpec (ws_ yX2_nextOrder cX2_nextOrder 6 (Option.some Jvm.ClassFile.FieldType.boolean)) (rmD 1 0 0)).room.frames = 1 + 1 ∧ (headSpec (ws_ yX2_nextOrder cX2_nextOrder 6 (Option.some Jvm.ClassFile.FieldType.boolean)) (rmD 1 0 0)).room.locals = 64 * 1 + 64 := ⟨rfl, rfl⟩
  generalize (headSpec (ws_ yX2_nextOrder cX2_nextOrder 6 (Option.some Jvm.ClassFile.FieldType.boolean)) (rmD 1 0 0)).room = R at hR ⊢
  generalize ([.ref (ad 17), iV x1] : List Value).toArray = args at hts hF ⊢
  generalize hQ : MQ below _ _ _ _ _ _ = Q
  have L80 : ∀ (n80 : Nat) (x4 : Int) (x5 : Int) (S : St) (H : Heap) (locs : List Loc) (ls : Array Slot), InR x4 → InR x5 → sI D dA wM ad A s.heap S H locs → lv_has ls 6 [(0, .ref (ad 17)), (4, iV x4), (5, iV x5)] → l_M_nextOrder_80 K n80 x4 x5 S → W p l e R s m args below meth c H locs 0 0 Q (F0 m 80 ls []) := by
    intro n80
    induction n80 with
    | zero => intro x4 x5 S H locs ls rx4 rx5 hI hl h; exact False.elim h
    | succ n80 ih80 =>
      intro x4 x5 S H locs ls rx4 rx5 hI hl h
      unfold l_M_nextOrder_80 at h
      refine lv_iload hx hb dX2_nextOrder_80 (lv_at hl 1 rfl) ?_
      refine lv_iload hx hb dX2_nextOrder_82 (lv_at hl 2 rfl) ?_
      refine nr_icmp_ge hx hb rx4 rx5 dX2_nextOrder_84 (tgt := 104) (by decide) (fun c1 => ?_) (fun c1 => ?_)
      · replace h := h.1 c1
        refine nr_iconst hx hb dX2_nextOrder_104 ?_
        rw [← hQ]; exact s_zret (K := K) hx hb hr hlocks hI (by decide) h dX2_nextOrder_105
      · replace h := h.2 c1
        refine lv_aload_n hx hb dX2_nextOrder_87 rfl (lv_at hl 0 rfl) ?_
        refine lv_iload hx hb dX2_nextOrder_88 (lv_at hl 1 rfl) ?_
        refine lv_iload hx hb dX2_nextOrder_90 (lv_at hl 2 rfl) ?_
        refine cMX2_368 hF hK hI hl.1 hR (by decide) (Nat.le_of_ble_eq_true rfl) ⟨Nat.zero_le _, Nat.zero_le _⟩ rx4 rx5 h dX2_nextOrder_92 (fun S3 H locs h hI => ?_)
        have f4 := h.1; replace h := h.2
        refine nr_iinc (lv' := [(4, iV (x4 + 1)), (0, .ref (ad 17)), (5, iV x5)]) hx hb dX2_nextOrder_95 hl (k := 1) rfl (by decide) rfl (fun ls hl => ?_)
        have f5 := h.1; replace h := h.2
        refine nr_iinc (lv' := [(5, iV (x5 + (-1))), (4, iV (x4 + 1)), (0, .ref (ad 17))]) hx hb dX2_nextOrder_98 hl (k := 2) rfl (by decide) rfl (fun ls hl => ?_)
        refine lv_goto (tgt := 80) hx hb dX2_nextOrder_101 (by decide) ?_
        exact ih80 (x4 + 1) (x5 + (-1)) S3 _ _ _ f4 f5 hI (lv_sub hl [2, 1, 0] rfl) h
  have J64 : ∀ (x1 : Int) (x2 : Int) (x3 : Int) (S : St) (H : Heap) (locs : List Loc) (ls : Array Slot), InR x1 → InR x2 → InR x3 → sI D dA wM ad A s.heap S H locs → lv_has ls 6 [(0, .ref (ad 17)), (1, iV x1), (2, iV x2), (3, iV x3)] → j_M_nextOrder_64 x1 x2 x3 S K → W p l e R s m args below meth c H locs 0 0 Q (F0 m 64 ls []) := by
    intro x1 x2 x3 S H locs ls rx1 rx2 rx3 hI hl h
    unfold j_M_nextOrder_64 at h
    refine lv_aload_n hx hb dX2_nextOrder_64 rfl (lv_at hl 0 rfl) ?_
    refine lv_iload_n hx hb dX2_nextOrder_65 rfl (lv_at hl 2 rfl) ?_
    refine lv_iload_n hx hb dX2_nextOrder_66 rfl (lv_at hl 3 rfl) ?_
    refine cMX2_368 hF hK hI hl.1 hR (by decide) (Nat.le_of_ble_eq_true rfl) ⟨Nat.zero_le _, Nat.zero_le _⟩ rx2 rx3 h dX2_nextOrder_67 (fun S7 H locs h hI => ?_)
    refine lv_iload_n hx hb dX2_nextOrder_70 rfl (lv_at hl 2 rfl) ?_
    refine nr_iconst hx hb dX2_nextOrder_71 ?_
    have f8 := h.1; replace h := h.2
    refine nr_iadd hx hb dX2_nextOrder_72 ?_
    refine nr_topi (fun v9 ev9 => ?_)
    have rv9 : InR v9 := by rw [ev9]; exact f8
    replace h := h v9 ev9 rv9
    refine lv_istore (lv' := [(4, iV v9), (0, .ref (ad 17)), (1, iV x1), (2, iV x2), (3, iV x3)]) hx hb dX2_nextOrder_73 hl (by decide) rfl (fun ls hl => ?_)
    refine lv_iload_n hx hb dX2_nextOrder_75 rfl (lv_at hl 2 rfl) ?_
    refine nr_iconst hx hb dX2_nextOrder_76 ?_
    have f10 := h.1; replace h := h.2
    refine nr_isub hx hb dX2_nextOrder_77 ?_
    refine nr_topi (fun v11 ev11 => ?_)
    have rv11 : InR v11 := by rw [ev11]; exact f10
    replace h := h v11 ev11 rv11
    refine lv_istore (lv' := [(5, iV v11), (4, iV v9), (0, .ref (ad 17)), (1, iV x1), (2, iV x2), (3, iV x3)]) hx hb dX2_nextOrder_78 hl (by decide) rfl (fun ls hl => ?_)
    obtain ⟨n0, h⟩ := h
    exact L80 n0 v9 v11 S7 _ _ _ rv9 rv11 hI (lv_sub hl [2, 1, 0] rfl) h
  have L43 : ∀ (x1 : Int) (x2 : Int) (S : St), InR x1 → InR x2 → ∀ (n43 : Nat) (x3 : Int) (H : Heap) (locs : List Loc) (ls : Array Slot), InR x3 → sI D dA wM ad A s.heap S H locs → lv_has ls 6 [(0, .ref (ad 17)), (1, iV x1), (2, iV x2), (3, iV x3)] → l_M_nextOrder_43 x1 x2 S K (fun (z3 : Int) => j_M_nextOrder_64 x1 x2 z3 S K) n43 x3 → W p l e R s m args below meth c H locs 0 0 Q (F0 m 43 ls []) := by
    intro x1 x2 S rx1 rx2 n43
    induction n43 with
    | zero => intro x3 H locs ls rx3 hI hl h; exact False.elim h
    | succ n43 ih43 =>
      intro x3 H locs ls rx3 hI hl h
      unfold l_M_nextOrder_43 at h
      refine lv_aload_n hx hb dX2_nextOrder_43 rfl (lv_at hl 0 rfl) ?_
      refine gMX2_65_17 hF hK hI dX2_nextOrder_44 ?_
      refine lv_iload_n hx hb dX2_nextOrder_47 rfl (lv_at hl 3 rfl) ?_
      have f12 := h.1; replace h := h.2
      refine s_iald hx hb hK hI 15 (by decide) wM_15 rx3 f12 dX2_nextOrder_48 (fun f13 => ?_)
      replace h := h f13
      refine lv_aload_n hx hb dX2_nextOrder_49 rfl (lv_at hl 0 rfl) ?_
      refine gMX2_65_17 hF hK hI dX2_nextOrder_50 ?_
      refine lv_iload_n hx hb dX2_nextOrder_53 rfl (lv_at hl 2 rfl) ?_
      have f14 := h.1; replace h := h.2
      refine s_iald hx hb hK hI 15 (by decide) wM_15 rx2 f14 dX2_nextOrder_54 (fun f15 => ?_)
      replace h := h f15
      refine nr_icmp_ge hx hb f13 f15 dX2_nextOrder_55 (tgt := 64) (by decide) (fun c16 => ?_) (fun c16 => ?_)
      · replace h := h.1 c16
        exact J64 x1 x2 x3 S _ _ _ rx1 rx2 rx3 hI (lv_sub hl [0, 1, 2, 3] rfl) h
      · replace h := h.2 c16
        have f17 := h.1; replace h := h.2
        refine nr_iinc (lv' := [(3, iV (x3 + (-1))), (0, .ref (ad 17)), (1, iV x1), (2, iV x2)]) hx hb dX2_nextOrder_58 hl (k := 3) rfl (by decide) rfl (fun ls hl => ?_)
        refine lv_goto (tgt := 43) hx hb dX2_nextOrder_61 (by decide) ?_
        exact ih43 (x3 + (-1)) _ _ _ f17 hI (lv_sub hl [1, 2, 3, 0] rfl) h
  have J32 : ∀ (x1 : Int) (x2 : Int) (S : St) (H : Heap) (locs : List Loc) (ls : Array Slot), InR x1 → InR x2 → sI D dA wM ad A s.heap S H locs → lv_has ls 6 [(0, .ref (ad 17)), (1, iV x1), (2, iV x2)] → j_M_nextOrder_32 x1 x2 S K → W p l e R s m args below meth c H locs 0 0 Q (F0 m 32 ls []) := by
    intro x1 x2 S H locs ls rx1 rx2 hI hl h
    unfold j_M_nextOrder_32 at h
    refine lv_iload_n hx hb dX2_nextOrder_32 rfl (lv_at hl 2 rfl) ?_
    refine nr_iconst hx hb dX2_nextOrder_33 ?_
    refine nr_icmp_ge hx hb rx2 (by decide) dX2_nextOrder_34 (tgt := 39) (by decide) (fun c18 => ?_) (fun c18 => ?_)
    · replace h := h.1 c18
      refine lv_iload_n hx hb dX2_nextOrder_39 rfl (lv_at hl 1 rfl) ?_
      refine nr_iconst hx hb dX2_nextOrder_40 ?_
      have f19 := h.1; replace h := h.2
      refine nr_isub hx hb dX2_nextOrder_41 ?_
      refine nr_topi (fun v20 ev20 => ?_)
      have rv20 : InR v20 := by rw [ev20]; exact f19
      replace h := h v20 ev20 rv20
      refine lv_istore_n (lv' := [(3, iV v20), (0, .ref (ad 17)), (1, iV x1), (2, iV x2)]) hx hb dX2_nextOrder_42 rfl hl (by decide) rfl (fun ls hl => ?_)
      obtain ⟨n0, h⟩ := h
      exact L43 x1 x2 S rx1 rx2 n0 v20 _ _ _ rv20 hI (lv_sub hl [1, 2, 3, 0] rfl) h
    · replace h := h.2 c18
      refine nr_iconst hx hb dX2_nextOrder_37 ?_
      rw [← hQ]; exact s_zret (K := K) hx hb hr hlocks hI (by decide) h dX2_nextOrder_38
  have L4 : ∀ (x1 : Int) (S : St), InR x1 → ∀ (n4 : Nat) (x2 : Int) (H : Heap) (locs : List Loc) (ls : Array Slot), InR x2 → sI D dA wM ad A s.heap S H locs → lv_has ls 6 [(0, .ref (ad 17)), (1, iV x1), (2, iV x2)] → l_M_nextOrder_4 x1 S K (fun (z2 : Int) => j_M_nextOrder_32 x1 z2 S K) n4 x2 → W p l e R s m args below meth c H locs 0 0 Q (F0 m 4 ls []) := by
    intro x1 S rx1 n4
    induction n4 with
    | zero => intro x2 H locs ls rx2 hI hl h; exact False.elim h
    | succ n4 ih4 =>
      intro x2 H locs ls rx2 hI hl h
      unfold l_M_nextOrder_4 at h
      refine lv_iload_n hx hb dX2_nextOrder_4 rfl (lv_at hl 2 rfl) ?_
      refine nr_iconst hx hb dX2_nextOrder_5 ?_
      refine nr_icmp_lt hx hb rx2 (by decide) dX2_nextOrder_6 (tgt := 32) (by decide) (fun c21 => ?_) (fun c21 => ?_)
      · replace h := h.1 c21
        exact J32 x1 x2 S _ _ _ rx1 rx2 hI (lv_sub hl [0, 1, 2] rfl) h
      · replace h := h.2 c21
        refine lv_aload_n hx hb dX2_nextOrder_9 rfl (lv_at hl 0 rfl) ?_
        refine gMX2_65_17 hF hK hI dX2_nextOrder_10 ?_
        refine lv_iload_n hx hb dX2_nextOrder_13 rfl (lv_at hl 2 rfl) ?_
        have f22 := h.1; replace h := h.2
        refine s_iald hx hb hK hI 15 (by decide) wM_15 rx2 f22 dX2_nextOrder_14 (fun f23 => ?_)
        replace h := h f23
        refine lv_aload_n hx hb dX2_nextOrder_15 rfl (lv_at hl 0 rfl) ?_
        refine gMX2_65_17 hF hK hI dX2_nextOrder_16 ?_
        refine lv_iload_n hx hb dX2_nextOrder_19 rfl (lv_at hl 2 rfl) ?_
        refine nr_iconst hx hb dX2_nextOrder_20 ?_
        have f24 := h.1; replace h := h.2
        refine nr_iadd hx hb dX2_nextOrder_21 ?_
        have f25 := h.1; replace h := h.2
        refine s_iald hx hb hK hI 15 (by decide) wM_15 f24 f25 dX2_nextOrder_22 (fun f26 => ?_)
        replace h := h f26
        refine nr_icmp_le hx hb f23 f26 dX2_nextOrder_23 (tgt := 32) (by decide) (fun c27 => ?_) (fun c27 => ?_)
        · replace h := h.1 c27
          exact J32 x1 x2 S _ _ _ rx1 rx2 hI (lv_sub hl [0, 1, 2] rfl) h
        · replace h := h.2 c27
          have f28 := h.1; replace h := h.2
          refine nr_iinc (lv' := [(2, iV (x2 + (-1))), (0, .ref (ad 17)), (1, iV x1)]) hx hb dX2_nextOrder_26 hl (k := 2) rfl (by decide) rfl (fun ls hl => ?_)
          refine lv_goto (tgt := 4) hx hb dX2_nextOrder_29 (by decide) ?_
          exact ih4 (x2 + (-1)) _ _ _ f28 hI (lv_sub hl [1, 2, 0] rfl) h
  unfold w_M_nextOrder at h
  refine lv_iload_n hx hb dX2_nextOrder_0 rfl (lv_at hl 1 rfl) ?_
  refine nr_iconst hx hb dX2_nextOrder_1 ?_
  have f29 := h.1; replace h := h.2
  refine nr_isub hx hb dX2_nextOrder_2 ?_
  refine nr_topi (fun v30 ev30 => ?_)
  have rv30 : InR v30 := by rw [ev30]; exact f29
  replace h := h v30 ev30 rv30
  refine lv_istore_n (lv' := [(2, iV v30), (0, .ref (ad 17)), (1, iV x1)]) hx hb dX2_nextOrder_3 rfl hl (by decide) rfl (fun ls hl => ?_)
  obtain ⟨n0, h⟩ := h
  exact L4 x1 S rx1 n0 v30 _ _ _ rv30 hI (lv_sub hl [1, 2, 0] rfl) h
theorem gMX2_68_17 {p : Program} {l : Launch} {e : Env} {R : Room} {s : State} {m : MethodId} {args : Array Value} {below : List Frame} {meth : Method} {c : Code} {H : Heap} {locs : List Loc} {Q : State → Prop} {cc : ByteArray} {nL pc : Nat} {ls : Array Slot} {rest : List Value} {cells slots : Nat} {D : va_G} {dA : Nat → ClassId} {ad : Nat → Nat} {A : Nat → Prop} {H0 : Heap} {S : St} (hF : CallFix p m c cc nL s args lw_all RX2) (hK : gK D dA s) (hI : sI D dA wM ad A H0 S H locs) (hdg : decode cc pc = .ok (.getfield 68, 3)) (kk : W p l e R s m args below meth c H locs cells slots Q (F0 m (pc + 3) ls (.ref (ad 16) :: rest))) : W p l e R s m args below meth c H locs cells slots Q (F0 m (pc) ls (.ref (ad 17) :: rest)) := s_getr hF.1 hF.2.1 hF.2.2.2.2 hF.2.2.2.1 hK hI 17 (by decide) wM_17 rfl in_X2 34 (by decide) q1195 rfl 16 rfl hdg kk
theorem cMX2_374 {p : Program} {l : Launch} {e : Env} {R : Room} {s : State} {m : MethodId} {args : Array Value} {below : List Frame} {meth : Method} {c : Code} {H : Heap} {locs : List Loc} {Q : State → Prop} {cc : ByteArray} {nL pc : Nat} {ls : Array Slot} {rest : List Value} {cells slots : Nat} {D : va_G} {dA : Nat → ClassId} {ad : Nat → Nat} {A : Nat → Prop} {H0 : Heap} {S : St} {dk : Nat} (hF : CallFix p m c cc nL s args lw_all RX2) (hK : gK D dA s) (hI : sI D dA wM ad A H0 S H locs) (hls : ls.size = nL) (hR : R.frames = dk + 1 ∧ R.locals = 64 * dk + 64) (hd : 1 + 1 ≤ dk) (hW : (rest.map fun v => v.category).sum ≤ 8) (hf : cells ≤ R.cells ∧ slots ≤ R.slots) {x1 : Int} {K : Int → St → Prop} (r1 : InR x1) (h : w_M_nextOrder x1 S K) (hdg : decode cc pc = .ok (.invokevirtual 374, 3)) (kk : ∀ (r : Int) (S1 : St) (H1 : Heap) (locs1 : List Loc), (r = 0 ∨ r = 1) → K r S1 → sI D dA wM ad A H0 S1 H1 locs1 → W p l e R s m args below meth c H1 locs1 cells slots Q (F0 m (pc + 3) ls (iV r :: rest))) : W p l e R s m args below meth c H locs cells slots Q (F0 m (pc) ls (iV x1 :: .ref (ad 17) :: rest)) := s_callVz (As := [iV x1]) (rest := rest) (K := K) hF (t_M_nextOrder l D dA ad S H.size x1 K r1 h) (s_recv hK hI 17 (by decide) wM_17 rfl) (cwV 1 hF.2.2.2.2 (lw_V q1639 q1641 qs100 q109 q1642) rfl rfl rfl (by decide +kernel) ⟨by have h1 := hR.1; have h2 : (rmD 1 0 0).frames = 1 + 1 := rfl; omega, by have h1 := hR.2; have h2 : (rmD 1 0 0).locals = 64 * 1 + 64 := rfl; omega⟩) hK hI rfl hls rfl hW hdg hf kk
theorem cMX2_371 {p : Program} {l : Launch} {e : Env} {R : Room} {s : State} {m : MethodId} {args : Array Value} {below : List Frame} {meth : Method} {c : Code} {H : Heap} {locs : List Loc} {Q : State → Prop} {cc : ByteArray} {nL pc : Nat} {ls : Array Slot} {rest : List Value} {cells slots : Nat} {D : va_G} {dA : Nat → ClassId} {ad : Nat → Nat} {A : Nat → Prop} {H0 : Heap} {S : St} {dk : Nat} (hF : CallFix p m c cc nL s args lw_all RX2) (hK : gK D dA s) (hI : sI D dA wM ad A H0 S H locs) (hls : ls.size = nL) (hR : R.frames = dk + 1 ∧ R.locals = 64 * dk + 64) (hd : 2 + 1 ≤ dk) (hW : (rest.map fun v => v.category).sum ≤ 8) (hf : cells ≤ R.cells ∧ slots ≤ R.slots) {x1 : Int} {K : Int → Prop} (r1 : InR x1) (h : w_M_milesOf x1 S K) (hdg : decode cc pc = .ok (.invokevirtual 371, 3)) (kk : ∀ (r : Int) (H1 : Heap) (locs1 : List Loc), InR r → K r → sI D dA wM ad A H0 S H1 locs1 → W p l e R s m args below meth c H1 locs1 cells slots Q (F0 m (pc + 3) ls (iV r :: rest))) : W p l e R s m args below meth c H locs cells slots Q (F0 m (pc) ls (iV x1 :: .ref (ad 17) :: rest)) := s_callVi (As := [iV x1]) (rest := rest) (K := fun r S' => S' = S ∧ K r) hF (t_M_milesOf l D dA ad S H.size x1 K r1 h) (s_recv hK hI 17 (by decide) wM_17 rfl) (cwV 1 hF.2.2.2.2 (lw_V q1635 q1637 qs99 q109 q1638) rfl rfl rfl (by decide +kernel) ⟨by have h1 := hR.1; have h2 : (rmD 2 0 0).frames = 2 + 1 := rfl; omega, by have h1 := hR.2; have h2 : (rmD 2 0 0).locals = 64 * 2 + 64 := rfl; omega⟩) hK hI rfl hls rfl hW hdg hf (fun r S1 H1 locs1 f hk hI1 => by obtain ⟨rfl, hk⟩ := hk; exact kk r H1 locs1 f hk hI1)
set_option maxHeartbeats 4000000 in
theorem t_M_round (l : Launch) (D : va_G) (dA : Nat → ClassId) (ad : Nat → Nat) (S : St) (sz : Nat) (x1 : Int) (x2 : Int) (K : Int → St → Prop) (rx1 : InR x1) (rx2 : InR x2) (h : w_M_round x1 x2 S K) : Met l yX2_round (ws_ yX2_round cX2_round 8 (Option.some Jvm.ClassFile.FieldType.int)) (rmD 3 0 0) (va_Pc [.ref (ad 17), iV x1, iV x2] (sPre D dA wM ad S sz)) (va_Qi (fun r S' => K r.toInt S') (sPost D dA wM ad (wA wM ad S sz)) (wA wM ad S sz)) 0 0 (wA wM ad S sz) := by
  refine Met.ofW (cc := cX2_round) (maxL := 8) (ret := (Option.some Jvm.ClassFile.FieldType.int)) (by decide) rfl ?_
  intro p e s m args below meth c s₁ B hml hv
  obtain ⟨rfl, hsz, hK, hC⟩ := hv
  have hx := B.exec
  have hb := B.bytes
  have hr := B.returns
  have hlocks := B.notSynchronized
  have hts := atoms_spec (ws := (ws_ yX2_round cX2_round 8 (Option.some Jvm.ClassFile.FieldType.int))) B.pre
  have hts : ∀ w ∈ lw_all, w.before _ s = true := fun w h => hts w (List.mem_cons_of_mem _ h)
  have hown : s.vm.findClass RX2 = some m.cls := findClass_of_methodNamed B.named
  clear B
  subst hsz
  have hI : sI D dA wM ad (wA wM ad S s.heap.size) s.heap S s.heap [] := hC.start
  clear hC
  generalize wA wM ad S s.heap.size = A at hI ⊢
  have hl := lv_entry ([.ref (ad 17), iV x1, iV x2] : List Value) (n := 8) (Nat.le_of_ble_eq_true rfl)
  rw [lg_entry_eq]
  generalize (lg_sl ([.ref (ad 17), iV x1, iV x2] : List Value) ++ List.replicate (8 - (lg_sl ([.ref (ad 17), iV x1, iV x2] : List Value)).length) Slot.unset).toArray = ls at hl ⊢
  have hl : lv_has ls 8 [(0, .ref (ad 17)), (1, iV x1), (2, iV x2)] := hl
  have hF : CallFix p m c cX2_round 8 s _ lw_all RX2 := ⟨hx, hb, hml, hown, hts⟩
  have hR : (headSpec (ws_ yX2_round cX2_round 8 (Option.some Jvm.ClassFile.FieldType.int)) (rmD 3 0 0)).room.frames = 3 + 1 ∧ (headSpec (ws_ yX2_round cX2_round 8 (Option.some Jvm.ClassFile.FieldType.int)) (rmD 3 0 0)).room.locals = 64 * 3 + 64 := ⟨rfl, rfl⟩
  generalize (headSpec (ws_ yX2_round cX2_round 8 (Option.some Jvm.ClassFile.FieldType.int)) (rmD 3 0 0)).room = R at hR ⊢
  generalize ([.ref (ad 17), iV x1, iV x2] : List Value).toArray = args at hts hF ⊢
  generalize hQ : MQ below _ _ _ _ _ _ = Q
  have J160 : ∀ (x2 : Int) (x4 : Int) (S : St) (H : Heap) (locs : List Loc) (ls : Array Slot), InR x2 → InR x4 → sI D dA wM ad A s.heap S H locs → lv_has ls 8 [(0, .ref (ad 17)), (2, iV x2), (4, iV x4)] → j_M_round_160 x2 x4 S K → W p l e R s m args below meth c H locs 0 0 Q (F0 m 160 ls []) := by
    intro x2 x4 S H locs ls rx2 rx4 hI hl h
    unfold j_M_round_160 at h
    refine lv_iload_n hx hb dX2_round_160 rfl (lv_at hl 1 rfl) ?_
    refine nr_iconst hx hb dX2_round_161 ?_
    refine nr_icmp_ne hx hb rx2 (by decide) dX2_round_162 (tgt := 170) (by decide) (fun c1 => ?_) (fun c1 => ?_)
    · replace h := h.1 c1
      refine lv_aload_n hx hb dX2_round_170 rfl (lv_at hl 0 rfl) ?_
      refine gMX2_68_17 hF hK hI dX2_round_171 ?_
      refine lv_iload_n hx hb dX2_round_174 rfl (lv_at hl 1 rfl) ?_
      have f2 := h.1; replace h := h.2
      refine s_iald hx hb hK hI 16 (by decide) wM_16 rx2 f2 dX2_round_175 (fun f3 => ?_)
      replace h := h f3
      rw [← hQ]; exact s_iret (K := K) hx hb hr hlocks hI f3 h dX2_round_176
    · replace h := h.2 c1
      refine lv_iload hx hb dX2_round_165 (lv_at hl 2 rfl) ?_
      refine lv_goto (tgt := 176) hx hb dX2_round_167 (by decide) ?_
      rw [← hQ]; exact s_iret (K := K) hx hb hr hlocks hI rx4 h dX2_round_176
  have L93 : ∀ (x2 : Int) (x3 : Int), InR x2 → InR x3 → ∀ (n93 : Nat) (x4 : Int) (x5 : Int) (S : St) (H : Heap) (locs : List Loc) (ls : Array Slot), InR x4 → InR x5 → sI D dA wM ad A s.heap S H locs → lv_has ls 8 [(0, .ref (ad 17)), (2, iV x2), (3, iV x3), (4, iV x4), (5, iV x5)] → l_M_round_93 x2 x3 K (fun (z4 : Int) (zS : St) => j_M_round_160 x2 z4 zS K) n93 x4 x5 S → W p l e R s m args below meth c H locs 0 0 Q (F0 m 93 ls []) := by
    intro x2 x3 rx2 rx3 n93
    induction n93 with
    | zero => intro x4 x5 S H locs ls rx4 rx5 hI hl h; exact False.elim h
    | succ n93 ih93 =>
      intro x4 x5 S H locs ls rx4 rx5 hI hl h
      have J150 : ∀ (x4 : Int) (S : St) (H : Heap) (locs : List Loc) (ls : Array Slot), InR x4 → sI D dA wM ad A s.heap S H locs → lv_has ls 8 [(0, .ref (ad 17)), (2, iV x2), (3, iV x3), (4, iV x4)] → j_M_round_150 x2 x3 x4 S K (fun (z4 : Int) (zS : St) => j_M_round_160 x2 z4 zS K) (l_M_round_93 x2 x3 K (fun (z4 : Int) (zS : St) => j_M_round_160 x2 z4 zS K) n93) → W p l e R s m args below meth c H locs 0 0 Q (F0 m 150 ls []) := by
        intro x4 S H locs ls rx4 hI hl h
        unfold j_M_round_150 at h
        refine lv_aload_n hx hb dX2_round_150 rfl (lv_at hl 0 rfl) ?_
        refine lv_iload_n hx hb dX2_round_151 rfl (lv_at hl 2 rfl) ?_
        refine cMX2_374 hF hK hI hl.1 hR (by decide) (Nat.le_of_ble_eq_true rfl) ⟨Nat.zero_le _, Nat.zero_le _⟩ rx3 h dX2_round_152 (fun r4 S5 H locs fr4 h hI => ?_)
        replace h := h fr4
        have gr4 : InR r4 := kdP_R (k := 2) (by decide) fr4
        refine lv_istore (lv' := [(5, iV r4), (0, .ref (ad 17)), (2, iV x2), (3, iV x3), (4, iV x4)]) hx hb dX2_round_155 hl (by decide) rfl (fun ls hl => ?_)
        refine lv_goto (tgt := 93) hx hb dX2_round_157 (by decide) ?_
        exact ih93 x4 r4 S5 _ _ _ rx4 gr4 hI (lv_sub hl [1, 2, 3, 4, 0] rfl) h
      have L124 : ∀ (x4 : Int), InR x4 → ∀ (n124 : Nat) (x7 : Int) (S : St) (H : Heap) (locs : List Loc) (ls : Array Slot), InR x7 → sI D dA wM ad A s.heap S H locs → lv_has ls 8 [(0, .ref (ad 17)), (2, iV x2), (3, iV x3), (4, iV x4), (7, iV x7)] → l_M_round_124 x2 x3 x4 K (fun (zS : St) => j_M_round_150 x2 x3 x4 zS K (fun (z4 : Int) (zS : St) => j_M_round_160 x2 z4 zS K) (l_M_round_93 x2 x3 K (fun (z4 : Int) (zS : St) => j_M_round_160 x2 z4 zS K) n93)) n124 x7 S → W p l e R s m args below meth c H locs 0 0 Q (F0 m 124 ls []) := by
        intro x4 rx4 n124
        induction n124 with
        | zero => intro x7 S H locs ls rx7 hI hl h; exact False.elim h
        | succ n124 ih124 =>
          intro x7 S H locs ls rx7 hI hl h
          unfold l_M_round_124 at h
          refine lv_iload hx hb dX2_round_124 (lv_at hl 4 rfl) ?_
          refine lv_iload_n hx hb dX2_round_126 rfl (lv_at hl 2 rfl) ?_
          refine nr_icmp_ge hx hb rx7 rx3 dX2_round_127 (tgt := 150) (by decide) (fun c6 => ?_) (fun c6 => ?_)
          · replace h := h.1 c6
            exact J150 x4 S _ _ _ rx4 hI (lv_sub hl [0, 1, 2, 3] rfl) h
          · replace h := h.2 c6
            refine lv_aload_n hx hb dX2_round_130 rfl (lv_at hl 0 rfl) ?_
            refine gMX2_68_17 hF hK hI dX2_round_131 ?_
            refine lv_iload hx hb dX2_round_134 (lv_at hl 4 rfl) ?_
            refine lv_aload_n hx hb dX2_round_136 rfl (lv_at hl 0 rfl) ?_
            refine gMX2_65_17 hF hK hI dX2_round_137 ?_
            refine lv_iload hx hb dX2_round_140 (lv_at hl 4 rfl) ?_
            have f7 := h.1; replace h := h.2
            refine s_iald hx hb hK hI 15 (by decide) wM_15 rx7 f7 dX2_round_142 (fun f8 => ?_)
            replace h := h f8
            have f9 := h.1; replace h := h.2
            refine s_iast hx hb hK hI 16 (by decide) wM_16 rx7 f9 f8 dX2_round_143 (fun S10 H locs eS10 hI => ?_)
            replace h := h S10 eS10
            have f11 := h.1; replace h := h.2
            refine nr_iinc (lv' := [(7, iV (x7 + 1)), (0, .ref (ad 17)), (2, iV x2), (3, iV x3), (4, iV x4)]) hx hb dX2_round_144 hl (k := 4) rfl (by decide) rfl (fun ls hl => ?_)
            refine lv_goto (tgt := 124) hx hb dX2_round_147 (by decide) ?_
            exact ih124 (x7 + 1) S10 _ _ _ f11 hI (lv_sub hl [1, 2, 3, 4, 0] rfl) h
      have J117 : ∀ (x6 : Int) (S : St) (H : Heap) (locs : List Loc) (ls : Array Slot), InR x6 → sI D dA wM ad A s.heap S H locs → lv_has ls 8 [(0, .ref (ad 17)), (2, iV x2), (3, iV x3), (6, iV x6)] → j_M_round_117 x2 x3 x6 S K (fun (z4 : Int) (zS : St) => j_M_round_160 x2 z4 zS K) (l_M_round_93 x2 x3 K (fun (z4 : Int) (zS : St) => j_M_round_160 x2 z4 zS K) n93) → W p l e R s m args below meth c H locs 0 0 Q (F0 m 117 ls []) := by
        intro x6 S H locs ls rx6 hI hl h
        unfold j_M_round_117 at h
        refine lv_iload hx hb dX2_round_117 (lv_at hl 3 rfl) ?_
        refine lv_istore (lv' := [(4, iV x6), (0, .ref (ad 17)), (2, iV x2), (3, iV x3), (6, iV x6)]) hx hb dX2_round_119 hl (by decide) rfl (fun ls hl => ?_)
        refine nr_iconst hx hb dX2_round_121 ?_
        refine lv_istore (lv' := [(7, iV 0), (4, iV x6), (0, .ref (ad 17)), (2, iV x2), (3, iV x3), (6, iV x6)]) hx hb dX2_round_122 hl (by decide) rfl (fun ls hl => ?_)
        obtain ⟨n0, h⟩ := h
        exact L124 x6 rx6 n0 0 S _ _ _ (by decide) hI (lv_sub hl [2, 3, 4, 1, 0] rfl) h
      unfold l_M_round_93 at h
      refine lv_iload hx hb dX2_round_93 (lv_at hl 4 rfl) ?_
      refine nr_if_eq hx hb rx5 dX2_round_95 (tgt := 160) (by decide) (fun c12 => ?_) (fun c12 => ?_)
      · replace h := h.1 c12
        exact J160 x2 x4 S _ _ _ rx2 rx4 hI (lv_sub hl [0, 1, 3] rfl) h
      · replace h := h.2 c12
        refine lv_aload_n hx hb dX2_round_98 rfl (lv_at hl 0 rfl) ?_
        refine lv_iload_n hx hb dX2_round_99 rfl (lv_at hl 2 rfl) ?_
        refine cMX2_371 hF hK hI hl.1 hR (by decide) (Nat.le_of_ble_eq_true rfl) ⟨Nat.zero_le _, Nat.zero_le _⟩ rx3 h dX2_round_100 (fun r13 H locs fr13 h hI => ?_)
        replace h := h fr13
        refine lv_istore (lv' := [(6, iV r13), (0, .ref (ad 17)), (2, iV x2), (3, iV x3), (4, iV x4), (5, iV x5)]) hx hb dX2_round_103 hl (by decide) rfl (fun ls hl => ?_)
        refine lv_iload hx hb dX2_round_105 (lv_at hl 4 rfl) ?_
        refine nr_if_lt hx hb rx4 dX2_round_107 (tgt := 117) (by decide) (fun c15 => ?_) (fun c15 => ?_)
        · replace h := h.1 c15
          exact J117 r13 S _ _ _ fr13 hI (lv_sub hl [1, 2, 3, 0] rfl) h
        · replace h := h.2 c15
          refine lv_iload hx hb dX2_round_110 (lv_at hl 0 rfl) ?_
          refine lv_iload hx hb dX2_round_112 (lv_at hl 4 rfl) ?_
          refine nr_icmp_ge hx hb fr13 rx4 dX2_round_114 (tgt := 150) (by decide) (fun c16 => ?_) (fun c16 => ?_)
          · replace h := h.1 c16
            exact J150 x4 S _ _ _ rx4 hI (lv_sub hl [1, 2, 3, 4] rfl) h
          · replace h := h.2 c16
            exact J117 r13 S _ _ _ fr13 hI (lv_sub hl [1, 2, 3, 0] rfl) h
  have J87 : ∀ (x2 : Int) (x3 : Int) (S : St) (H : Heap) (locs : List Loc) (ls : Array Slot), InR x2 → InR x3 → sI D dA wM ad A s.heap S H locs → lv_has ls 8 [(0, .ref (ad 17)), (2, iV x2), (3, iV x3)] → j_M_round_87 x2 x3 S K → W p l e R s m args below meth c H locs 0 0 Q (F0 m 87 ls []) := by
    intro x2 x3 S H locs ls rx2 rx3 hI hl h
    unfold j_M_round_87 at h
    refine nr_iconst hx hb dX2_round_87 ?_
    refine lv_istore (lv' := [(4, iV (-1)), (0, .ref (ad 17)), (2, iV x2), (3, iV x3)]) hx hb dX2_round_88 hl (by decide) rfl (fun ls hl => ?_)
    refine nr_iconst hx hb dX2_round_90 ?_
    refine lv_istore (lv' := [(5, iV 1), (4, iV (-1)), (0, .ref (ad 17)), (2, iV x2), (3, iV x3)]) hx hb dX2_round_91 hl (by decide) rfl (fun ls hl => ?_)
    obtain ⟨n0, h⟩ := h
    exact L93 x2 x3 rx2 rx3 n0 (-1) 1 S _ _ _ (by decide) (by decide) hI (lv_sub hl [2, 3, 4, 1, 0] rfl) h
  have L47 : ∀ (x1 : Int) (x2 : Int), InR x1 → InR x2 → ∀ (n47 : Nat) (x3 : Int) (x4 : Int) (S : St) (H : Heap) (locs : List Loc) (ls : Array Slot), InR x3 → InR x4 → sI D dA wM ad A s.heap S H locs → lv_has ls 8 [(0, .ref (ad 17)), (1, iV x1), (2, iV x2), (3, iV x3), (4, iV x4)] → l_M_round_47 x1 x2 K (fun (z3 : Int) (zS : St) => j_M_round_87 x2 z3 zS K) n47 x3 x4 S → W p l e R s m args below meth c H locs 0 0 Q (F0 m 47 ls []) := by
    intro x1 x2 rx1 rx2 n47
    induction n47 with
    | zero => intro x3 x4 S H locs ls rx3 rx4 hI hl h; exact False.elim h
    | succ n47 ih47 =>
      intro x3 x4 S H locs ls rx3 rx4 hI hl h
      have J81 : ∀ (x3 : Int) (x4 : Int) (S : St) (H : Heap) (locs : List Loc) (ls : Array Slot), InR x3 → InR x4 → sI D dA wM ad A s.heap S H locs → lv_has ls 8 [(0, .ref (ad 17)), (1, iV x1), (2, iV x2), (3, iV x3), (4, iV x4)] → j_M_round_81 x1 x2 x3 x4 S K (fun (z3 : Int) (zS : St) => j_M_round_87 x2 z3 zS K) (l_M_round_47 x1 x2 K (fun (z3 : Int) (zS : St) => j_M_round_87 x2 z3 zS K) n47) → W p l e R s m args below meth c H locs 0 0 Q (F0 m 81 ls []) := by
        intro x3 x4 S H locs ls rx3 rx4 hI hl h
        unfold j_M_round_81 at h
        have f17 := h.1; replace h := h.2
        refine nr_iinc (lv' := [(4, iV (x4 + 1)), (0, .ref (ad 17)), (1, iV x1), (2, iV x2), (3, iV x3)]) hx hb dX2_round_81 hl (k := 4) rfl (by decide) rfl (fun ls hl => ?_)
        refine lv_goto (tgt := 47) hx hb dX2_round_84 (by decide) ?_
        exact ih47 x3 (x4 + 1) S _ _ _ rx3 f17 hI (lv_sub hl [1, 2, 3, 4, 0] rfl) h
      unfold l_M_round_47 at h
      refine lv_iload hx hb dX2_round_47 (lv_at hl 4 rfl) ?_
      refine lv_aload_n hx hb dX2_round_49 rfl (lv_at hl 0 rfl) ?_
      refine gMX2_7_17 hF hK hI dX2_round_50 ?_
      refine nr_iconst hx hb dX2_round_53 ?_
      refine s_iald hx hb hK hI 0 (by decide) wM_0 (by decide) (by decide) dX2_round_54 (fun f18 => ?_)
      replace h := h f18
      refine nr_icmp_ge hx hb rx4 f18 dX2_round_55 (tgt := 87) (by decide) (fun c19 => ?_) (fun c19 => ?_)
      · replace h := h.1 c19
        exact J87 x2 x3 S _ _ _ rx2 rx3 hI (lv_sub hl [0, 2, 3] rfl) h
      · replace h := h.2 c19
        refine lv_iload_n hx hb dX2_round_58 rfl (lv_at hl 1 rfl) ?_
        refine lv_iload hx hb dX2_round_59 (lv_at hl 4 rfl) ?_
        have f20 := h.1; replace h := h.2
        refine nr_ishr hx hb f20 rx1 dX2_round_61 ?_
        have f21 : InR (x1 / 2 ^ (Int.toNat x4)) := ni_shrR rx1
        refine nr_iconst hx hb dX2_round_62 ?_
        refine nr_mask hx hb 1 (by decide) (by decide) dX2_round_63 ?_
        have f22 : InR ((x1 / 2 ^ (Int.toNat x4)) % 2) := by omega
        refine nr_if_ne hx hb f22 dX2_round_64 (tgt := 70) (by decide) (fun c23 => ?_) (fun c23 => ?_)
        · replace h := h.1 c23
          refine lv_aload_n hx hb dX2_round_70 rfl (lv_at hl 0 rfl) ?_
          refine gMX2_65_17 hF hK hI dX2_round_71 ?_
          refine lv_iload_n hx hb dX2_round_74 rfl (lv_at hl 3 rfl) ?_
          refine lv_iload hx hb dX2_round_75 (lv_at hl 4 rfl) ?_
          have f24 := h.1; replace h := h.2
          refine s_iast hx hb hK hI 15 (by decide) wM_15 rx3 f24 rx4 dX2_round_77 (fun S25 H locs eS25 hI => ?_)
          replace h := h S25 eS25
          have f26 := h.1; replace h := h.2
          refine nr_iinc (lv' := [(3, iV (x3 + 1)), (0, .ref (ad 17)), (1, iV x1), (2, iV x2), (4, iV x4)]) hx hb dX2_round_78 hl (k := 3) rfl (by decide) rfl (fun ls hl => ?_)
          exact J81 (x3 + 1) x4 S25 _ _ _ f26 rx4 hI (lv_sub hl [1, 2, 3, 0, 4] rfl) h
        · replace h := h.2 c23
          refine lv_goto (tgt := 81) hx hb dX2_round_67 (by decide) ?_
          exact J81 x3 x4 S _ _ _ rx3 rx4 hI (lv_sub hl [0, 1, 2, 3, 4] rfl) h
  unfold w_M_round at h
  refine lv_iload_n hx hb dX2_round_0 rfl (lv_at hl 1 rfl) ?_
  refine nr_iconst hx hb dX2_round_1 ?_
  refine nr_iconst hx hb dX2_round_2 ?_
  refine lv_aload_n hx hb dX2_round_3 rfl (lv_at hl 0 rfl) ?_
  refine gMX2_7_17 hF hK hI dX2_round_4 ?_
  refine nr_iconst hx hb dX2_round_7 ?_
  refine s_iald hx hb hK hI 0 (by decide) wM_0 (by decide) (by decide) dX2_round_8 (fun f27 => ?_)
  replace h := h f27
  have f28 := h.1; replace h := h.2
  have f29 := h.1; replace h := h.2
  refine nr_ishl hx hb f28 f29 dX2_round_9 ?_
  refine nr_iconst hx hb dX2_round_10 ?_
  have f30 := h.1; replace h := h.2
  refine nr_isub hx hb dX2_round_11 ?_
  refine cMX2_75 hF hK hI hl.1 hR (by decide) (Nat.le_of_ble_eq_true rfl) ⟨Nat.zero_le _, Nat.zero_le _⟩ rx1 (by decide) f30 h dX2_round_12 (fun r31 H locs fr31 h hI => ?_)
  replace h := h fr31
  have gr31 : InR r31 := kdP_R (k := 2) (by decide) fr31
  refine nr_if_eq hx hb gr31 dX2_round_15 (tgt := 40) (by decide) (fun c33 => ?_) (fun c33 => ?_)
  · replace h := h.1 c33
    refine nr_iconst hx hb dX2_round_40 ?_
    rw [← hQ]; exact s_iret (K := K) hx hb hr hlocks hI (by decide) h dX2_round_41
  · replace h := h.2 c33
    refine lv_iload_n hx hb dX2_round_18 rfl (lv_at hl 1 rfl) ?_
    refine cMX2_303 hF hK hI hl.1 hR (by decide) (Nat.le_of_ble_eq_true rfl) ⟨Nat.zero_le _, Nat.zero_le _⟩ rx1 h dX2_round_19 (fun r34 H locs fr34 h hI => ?_)
    replace h := h fr34
    refine nr_bipush hx hb dX2_round_22 (by decide) ?_
    refine nr_icmp_gt hx hb fr34 (by decide) dX2_round_24 (tgt := 40) (by decide) (fun c36 => ?_) (fun c36 => ?_)
    · replace h := h.1 c36
      refine nr_iconst hx hb dX2_round_40 ?_
      rw [← hQ]; exact s_iret (K := K) hx hb hr hlocks hI (by decide) h dX2_round_41
    · replace h := h.2 c36
      refine lv_iload_n hx hb dX2_round_27 rfl (lv_at hl 2 rfl) ?_
      refine nr_iconst hx hb dX2_round_28 ?_
      refine nr_icmp_lt hx hb rx2 (by decide) dX2_round_29 (tgt := 40) (by decide) (fun c37 => ?_) (fun c37 => ?_)
      · replace h := h.1 c37
        refine nr_iconst hx hb dX2_round_40 ?_
        rw [← hQ]; exact s_iret (K := K) hx hb hr hlocks hI (by decide) h dX2_round_41
      · replace h := h.2 c37
        refine lv_iload_n hx hb dX2_round_32 rfl (lv_at hl 2 rfl) ?_
        refine lv_iload_n hx hb dX2_round_33 rfl (lv_at hl 1 rfl) ?_
        refine cMX2_303 hF hK hI hl.1 hR (by decide) (Nat.le_of_ble_eq_true rfl) ⟨Nat.zero_le _, Nat.zero_le _⟩ rx1 h dX2_round_34 (fun r38 H locs fr38 h hI => ?_)
        replace h := h fr38
        refine nr_icmp_lt hx hb rx2 fr38 dX2_round_37 (tgt := 42) (by decide) (fun c40 => ?_) (fun c40 => ?_)
        · replace h := h.1 c40
          refine nr_iconst hx hb dX2_round_42 ?_
          refine lv_istore_n (lv' := [(3, iV 0), (0, .ref (ad 17)), (1, iV x1), (2, iV x2)]) hx hb dX2_round_43 rfl hl (by decide) rfl (fun ls hl => ?_)
          refine nr_iconst hx hb dX2_round_44 ?_
          refine lv_istore (lv' := [(4, iV 0), (3, iV 0), (0, .ref (ad 17)), (1, iV x1), (2, iV x2)]) hx hb dX2_round_45 hl (by decide) rfl (fun ls hl => ?_)
          obtain ⟨n0, h⟩ := h
          exact L47 x1 x2 rx1 rx2 n0 0 0 S _ _ _ (by decide) (by decide) hI (lv_sub hl [2, 3, 4, 1, 0] rfl) h
        · replace h := h.2 c40
          refine nr_iconst hx hb dX2_round_40 ?_
          rw [← hQ]; exact s_iret (K := K) hx hb hr hlocks hI (by decide) h dX2_round_41
theorem gMX2_377_17 {p : Program} {l : Launch} {e : Env} {R : Room} {s : State} {m : MethodId} {args : Array Value} {below : List Frame} {meth : Method} {c : Code} {H : Heap} {locs : List Loc} {Q : State → Prop} {cc : ByteArray} {nL pc : Nat} {ls : Array Slot} {rest : List Value} {cells slots : Nat} {D : va_G} {dA : Nat → ClassId} {ad : Nat → Nat} {A : Nat → Prop} {H0 : Heap} {S : St} (hF : CallFix p m c cc nL s args lw_all RX2) (hK : gK D dA s) (hI : sI D dA wM ad A H0 S H locs) (hdg : decode cc pc = .ok (.getfield 377, 3)) (kk : InR (fI S 35) → W p l e R s m args below meth c H locs cells slots Q (F0 m (pc + 3) ls (iV (fI S 35) :: rest))) : W p l e R s m args below meth c H locs cells slots Q (F0 m (pc) ls (.ref (ad 17) :: rest)) := s_geti hF.1 hF.2.1 hF.2.2.2.2 hF.2.2.2.1 hK hI 17 (by decide) wM_17 rfl in_X2 35 (by decide) q1196 rfl 0 35 rfl (by decide) hdg (kk (kdP_R (k := 0) (by decide) (hI.1.2.2.2.1.1 35)))
theorem uMX2_377_17 {p : Program} {l : Launch} {e : Env} {R : Room} {s : State} {m : MethodId} {args : Array Value} {below : List Frame} {meth : Method} {c : Code} {H : Heap} {locs : List Loc} {Q : State → Prop} {cc : ByteArray} {nL pc : Nat} {ls : Array Slot} {rest : List Value} {cells slots : Nat} {D : va_G} {dA : Nat → ClassId} {ad : Nat → Nat} {A : Nat → Prop} {H0 : Heap} {S : St} (hF : CallFix p m c cc nL s args lw_all RX2) (hK : gK D dA s) (hI : sI D dA wM ad A H0 S H locs) {v : Int} (hv : InR v) (hdg : decode cc pc = .ok (.putfield 377, 3)) (kk : ∀ (S1 : St) (H1 : Heap) (locs1 : List Loc), S1 = fset S 35 v → sI D dA wM ad A H0 S1 H1 locs1 → W p l e R s m args below meth c H1 locs1 cells slots Q (F0 m (pc + 3) ls (rest))) : W p l e R s m args below meth c H locs cells slots Q (F0 m (pc) ls (iV v :: .ref (ad 17) :: rest)) := s_put hF.1 hF.2.1 wM_U tyX2 tyX2_ok nmX2 hF.2.2.2.2 hF.2.2.2.1 hK hI 17 (by decide) wM_17 rfl in_X2 35 (by decide) q1196 rfl 0 35 rfl hv rfl rfl rfl hdg (fun H1 locs1 h => kk _ H1 locs1 rfl h)
set_option maxHeartbeats 4000000 in
theorem t_M_draw (l : Launch) (D : va_G) (dA : Nat → ClassId) (ad : Nat → Nat) (S : St) (sz : Nat) (x1 : Int) (K : Int → St → Prop) (rx1 : InR x1) (h : w_M_draw x1 S K) : Met l yX2_draw (ws_ yX2_draw cX2_draw 3 (Option.some Jvm.ClassFile.FieldType.int)) (rmD 0 0 0) (va_Pc [.ref (ad 17), iV x1] (sPre D dA wM ad S sz)) (va_Qi (fun r S' => K r.toInt S') (sPost D dA wM ad (wA wM ad S sz)) (wA wM ad S sz)) 0 0 (wA wM ad S sz) := by
  refine Met.ofW (cc := cX2_draw) (maxL := 3) (ret := (Option.some Jvm.ClassFile.FieldType.int)) (by decide) rfl ?_
  intro p e s m args below meth c s₁ B hml hv
  obtain ⟨rfl, hsz, hK, hC⟩ := hv
  have hx := B.exec
  have hb := B.bytes
  have hr := B.returns
  have hlocks := B.notSynchronized
  have hts := atoms_spec (ws := (ws_ yX2_draw cX2_draw 3 (Option.some Jvm.ClassFile.FieldType.int))) B.pre
  have hts : ∀ w ∈ lw_all, w.before _ s = true := fun w h => hts w (List.mem_cons_of_mem _ h)
  have hown : s.vm.findClass RX2 = some m.cls := findClass_of_methodNamed B.named
  clear B
  subst hsz
  have hI : sI D dA wM ad (wA wM ad S s.heap.size) s.heap S s.heap [] := hC.start
  clear hC
  generalize wA wM ad S s.heap.size = A at hI ⊢
  have hl := lv_entry ([.ref (ad 17), iV x1] : List Value) (n := 3) (Nat.le_of_ble_eq_true rfl)
  rw [lg_entry_eq]
  generalize (lg_sl ([.ref (ad 17), iV x1] : List Value) ++ List.replicate (3 - (lg_sl ([.ref (ad 17), iV x1] : List Value)).length) Slot.unset).toArray = ls at hl ⊢
  have hl : lv_has ls 3 [(0, .ref (ad 17)), (1, iV x1)] := hl
  have hF : CallFix p m c cX2_draw 3 s _ lw_all RX2 := ⟨hx, hb, hml, hown, hts⟩
  have hR : (headSpec (ws_ yX2_draw cX2_draw 3 (Option.some Jvm.ClassFile.FieldType.int)) (rmD 0 0 0)).room.frames = 0 + 1 ∧ (headSpec (ws_ yX2_draw cX2_draw 3 (Option.some Jvm.ClassFile.FieldType.int)) (rmD 0 0 0)).room.locals = 64 * 0 + 64 := ⟨rfl, rfl⟩
  generalize (headSpec (ws_ yX2_draw cX2_draw 3 (Option.some Jvm.ClassFile.FieldType.int)) (rmD 0 0 0)).room = R at hR ⊢
  generalize ([.ref (ad 17), iV x1] : List Value).toArray = args at hts hF ⊢
  generalize hQ : MQ below _ _ _ _ _ _ = Q
  unfold w_M_draw at h
  refine lv_aload_n hx hb dX2_draw_0 rfl (lv_at hl 0 rfl) ?_
  refine gMX2_377_17 hF hK hI dX2_draw_1 (fun f1 => ?_)
  replace h := h f1
  refine lv_iload_n hx hb dX2_draw_4 rfl (lv_at hl 1 rfl) ?_
  have f2 := h.1; replace h := h.2
  have f3 := h.1; replace h := h.2
  refine nr_irem hx hb f1 rx1 f2 dX2_draw_5 ?_
  refine nr_topi (fun v4 ev4 => ?_)
  have rv4 : InR v4 := by rw [ev4]; exact f3
  replace h := h v4 ev4 rv4
  refine lv_istore_n (lv' := [(2, iV v4), (0, .ref (ad 17)), (1, iV x1)]) hx hb dX2_draw_6 rfl hl (by decide) rfl (fun ls hl => ?_)
  refine lv_aload_n hx hb dX2_draw_7 rfl (lv_at hl 1 rfl) ?_
  refine lv_aload_n hx hb dX2_draw_8 rfl (lv_at hl 1 rfl) ?_
  refine gMX2_377_17 hF hK hI dX2_draw_9 (fun f5 => ?_)
  refine nr_i2l hx hb f1 dX2_draw_12 ?_
  have f6 : InL (fI S 35) := ni_L f1
  refine nr_ldc2 (v := 173) hx hb hown (by decide) (hts _ q1655) dX2_draw_13 ?_
  have f7 := h.1; replace h := h.2
  refine nr_lmul hx hb dX2_draw_16 ?_
  refine nr_ldc2 (v := 41) hx hb hown (by decide) (hts _ q1656) dX2_draw_17 ?_
  have f8 := h.1; replace h := h.2
  refine nr_ladd hx hb dX2_draw_20 ?_
  refine nr_ldc2 (v := 30103) hx hb hown (by decide) (hts _ q1657) dX2_draw_21 ?_
  have f9 := h.1; replace h := h.2
  refine nr_lrem hx hb f8 (by decide) (by decide) dX2_draw_24 ?_
  have f10 := h.1; replace h := h.2
  refine nr_l2i hx hb dX2_draw_25 ?_
  refine uMX2_377_17 hF hK hI f10 dX2_draw_26 (fun S11 H locs eS11 hI => ?_)
  replace h := h S11 eS11
  refine lv_iload_n hx hb dX2_draw_29 rfl (lv_at hl 0 rfl) ?_
  rw [← hQ]; exact s_iret (K := K) hx hb hr hlocks hI rv4 h dX2_draw_30
set_option maxHeartbeats 4000000 in
theorem t_M_isHolyTown (l : Launch) (D : va_G) (dA : Nat → ClassId) (ad : Nat → Nat) (S : St) (sz : Nat) (x1 : Int) (K : Int → St → Prop) (rx1 : InR x1) (h : w_M_isHolyTown x1 S K) : Met l yX2_isHolyTown (ws_ yX2_isHolyTown cX2_isHolyTown 3 (Option.some Jvm.ClassFile.FieldType.boolean)) (rmD 4 0 0) (va_Pc [.ref (ad 17), iV x1] (sPre D dA wM ad S sz)) (va_Qi (fun r S' => (r.toInt = 0 ∨ r.toInt = 1) ∧ (K r.toInt S')) (sPost D dA wM ad (wA wM ad S sz)) (wA wM ad S sz)) 0 0 (wA wM ad S sz) := by
  refine Met.ofW (cc := cX2_isHolyTown) (maxL := 3) (ret := (Option.some Jvm.ClassFile.FieldType.boolean)) (by decide) rfl ?_
  intro p e s m args below meth c s₁ B hml hv
  obtain ⟨rfl, hsz, hK, hC⟩ := hv
  have hx := B.exec
  have hb := B.bytes
  have hr := B.returns
  have hlocks := B.notSynchronized
  have hts := atoms_spec (ws := (ws_ yX2_isHolyTown cX2_isHolyTown 3 (Option.some Jvm.ClassFile.FieldType.boolean))) B.pre
  have hts : ∀ w ∈ lw_all, w.before _ s = true := fun w h => hts w (List.mem_cons_of_mem _ h)
  have hown : s.vm.findClass RX2 = some m.cls := findClass_of_methodNamed B.named
  clear B
  subst hsz
  have hI : sI D dA wM ad (wA wM ad S s.heap.size) s.heap S s.heap [] := hC.start
  clear hC
  generalize wA wM ad S s.heap.size = A at hI ⊢
  have hl := lv_entry ([.ref (ad 17), iV x1] : List Value) (n := 3) (Nat.le_of_ble_eq_true rfl)
  rw [lg_entry_eq]
  generalize (lg_sl ([.ref (ad 17), iV x1] : List Value) ++ List.replicate (3 - (lg_sl ([.ref (ad 17), iV x1] : List Value)).length) Slot.unset).toArray = ls at hl ⊢
  have hl : lv_has ls 3 [(0, .ref (ad 17)), (1, iV x1)] := hl
  have hF : CallFix p m c cX2_isHolyTown 3 s _ lw_all RX2 := ⟨hx, hb, hml, hown, hts⟩
  have hR : (headSpec (ws_ yX2_isHolyTown cX2_isHolyTown 3 (Option.some Jvm.ClassFile.FieldType.boolean)) (rmD 4 0 0)).room.frames = 4 + 1 ∧ (headSpec (ws_ yX2_isHolyTown cX2_isHolyTown 3 (Option.some Jvm.ClassFile.FieldType.boolean)) (rmD 4 0 0)).room.locals = 64 * 4 + 64 := ⟨rfl, rfl⟩
  generalize (headSpec (ws_ yX2_isHolyTown cX2_isHolyTown 3 (Option.some Jvm.ClassFile.FieldType.boolean)) (rmD 4 0 0)).room = R at hR ⊢
  generalize ([.ref (ad 17), iV x1] : List Value).toArray = args at hts hF ⊢
  generalize hQ : MQ below _ _ _ _ _ _ = Q
  have L2 : ∀ (x1 : Int), InR x1 → ∀ (n2 : Nat) (x2 : Int) (S : St) (H : Heap) (locs : List Loc) (ls : Array Slot), InR x2 → sI D dA wM ad A s.heap S H locs → lv_has ls 3 [(0, .ref (ad 17)), (1, iV x1), (2, iV x2)] → l_M_isHolyTown_2 x1 K n2 x2 S → W p l e R s m args below meth c H locs 0 0 Q (F0 m 2 ls []) := by
    intro x1 rx1 n2
    induction n2 with
    | zero => intro x2 S H locs ls rx2 hI hl h; exact False.elim h
    | succ n2 ih2 =>
      intro x2 S H locs ls rx2 hI hl h
      have J37 : ∀ (x2 : Int) (S : St) (H : Heap) (locs : List Loc) (ls : Array Slot), InR x2 → sI D dA wM ad A s.heap S H locs → lv_has ls 3 [(0, .ref (ad 17)), (1, iV x1), (2, iV x2)] → j_M_isHolyTown_37 x1 x2 S K (l_M_isHolyTown_2 x1 K n2) → W p l e R s m args below meth c H locs 0 0 Q (F0 m 37 ls []) := by
        intro x2 S H locs ls rx2 hI hl h
        unfold j_M_isHolyTown_37 at h
        have f1 := h.1; replace h := h.2
        refine nr_iinc (lv' := [(2, iV (x2 + 1)), (0, .ref (ad 17)), (1, iV x1)]) hx hb dX2_isHolyTown_37 hl (k := 2) rfl (by decide) rfl (fun ls hl => ?_)
        refine lv_goto (tgt := 2) hx hb dX2_isHolyTown_40 (by decide) ?_
        exact ih2 (x2 + 1) S _ _ _ f1 hI (lv_sub hl [1, 2, 0] rfl) h
      unfold l_M_isHolyTown_2 at h
      refine lv_iload_n hx hb dX2_isHolyTown_2 rfl (lv_at hl 2 rfl) ?_
      refine lv_aload_n hx hb dX2_isHolyTown_3 rfl (lv_at hl 0 rfl) ?_
      refine gMX2_7_17 hF hK hI dX2_isHolyTown_4 ?_
      refine nr_iconst hx hb dX2_isHolyTown_7 ?_
      refine s_iald hx hb hK hI 0 (by decide) wM_0 (by decide) (by decide) dX2_isHolyTown_8 (fun f2 => ?_)
      replace h := h f2
      refine nr_icmp_ge hx hb rx2 f2 dX2_isHolyTown_9 (tgt := 43) (by decide) (fun c3 => ?_) (fun c3 => ?_)
      · replace h := h.1 c3
        refine nr_iconst hx hb dX2_isHolyTown_43 ?_
        rw [← hQ]; exact s_zret (K := K) hx hb hr hlocks hI (by decide) h dX2_isHolyTown_44
      · replace h := h.2 c3
        refine lv_aload_n hx hb dX2_isHolyTown_12 rfl (lv_at hl 0 rfl) ?_
        refine gMX2_7_17 hF hK hI dX2_isHolyTown_13 ?_
        refine lv_iload_n hx hb dX2_isHolyTown_16 rfl (lv_at hl 2 rfl) ?_
        refine cMX2_87 hF hK hI hl.1 hR (by decide) (Nat.le_of_ble_eq_true rfl) ⟨Nat.zero_le _, Nat.zero_le _⟩ rx2 h dX2_isHolyTown_17 (fun r4 H locs fr4 h hI => ?_)
        replace h := h fr4
        refine nr_iconst hx hb dX2_isHolyTown_20 ?_
        have f6 := h.1; replace h := h.2
        refine nr_iadd hx hb dX2_isHolyTown_21 ?_
        have f7 := h.1; replace h := h.2
        refine s_iald hx hb hK hI 0 (by decide) wM_0 f6 f7 dX2_isHolyTown_22 (fun f8 => ?_)
        replace h := h f8
        refine lv_iload_n hx hb dX2_isHolyTown_23 rfl (lv_at hl 1 rfl) ?_
        refine nr_icmp_ne hx hb f8 rx1 dX2_isHolyTown_24 (tgt := 37) (by decide) (fun c9 => ?_) (fun c9 => ?_)
        · replace h := h.1 c9
          exact J37 x2 S _ _ _ rx2 hI (lv_sub hl [0, 1, 2] rfl) h
        · replace h := h.2 c9
          refine lv_aload_n hx hb dX2_isHolyTown_27 rfl (lv_at hl 0 rfl) ?_
          refine lv_iload_n hx hb dX2_isHolyTown_28 rfl (lv_at hl 2 rfl) ?_
          refine cMX2_306 hF hK hI hl.1 hR (by decide) (Nat.le_of_ble_eq_true rfl) ⟨Nat.zero_le _, Nat.zero_le _⟩ rx2 h dX2_isHolyTown_29 (fun r10 S11 H locs fr10 h hI => ?_)
          replace h := h fr10
          have gr10 : InR r10 := kdP_R (k := 2) (by decide) fr10
          refine nr_if_eq hx hb gr10 dX2_isHolyTown_32 (tgt := 37) (by decide) (fun c12 => ?_) (fun c12 => ?_)
          · replace h := h.1 c12
            exact J37 x2 S11 _ _ _ rx2 hI (lv_sub hl [0, 1, 2] rfl) h
          · replace h := h.2 c12
            refine nr_iconst hx hb dX2_isHolyTown_35 ?_
            rw [← hQ]; exact s_zret (K := K) hx hb hr hlocks hI (by decide) h dX2_isHolyTown_36
  unfold w_M_isHolyTown at h
  refine nr_iconst hx hb dX2_isHolyTown_0 ?_
  refine lv_istore_n (lv' := [(2, iV 0), (0, .ref (ad 17)), (1, iV x1)]) hx hb dX2_isHolyTown_1 rfl hl (by decide) rfl (fun ls hl => ?_)
  obtain ⟨n0, h⟩ := h
  exact L2 x1 rx1 n0 0 S _ _ _ (by decide) hI (lv_sub hl [1, 2, 0] rfl) h
theorem cMX2_386 {p : Program} {l : Launch} {e : Env} {R : Room} {s : State} {m : MethodId} {args : Array Value} {below : List Frame} {meth : Method} {c : Code} {H : Heap} {locs : List Loc} {Q : State → Prop} {cc : ByteArray} {nL pc : Nat} {ls : Array Slot} {rest : List Value} {cells slots : Nat} {D : va_G} {dA : Nat → ClassId} {ad : Nat → Nat} {A : Nat → Prop} {H0 : Heap} {S : St} {dk : Nat} (hF : CallFix p m c cc nL s args lw_all RX2) (hK : gK D dA s) (hI : sI D dA wM ad A H0 S H locs) (hls : ls.size = nL) (hR : R.frames = dk + 1 ∧ R.locals = 64 * dk + 64) (hd : 0 + 1 ≤ dk) (hW : (rest.map fun v => v.category).sum ≤ 8) (hf : cells ≤ R.cells ∧ slots ≤ R.slots) {x1 : Int} {K : Int → St → Prop} (r1 : InR x1) (h : w_M_draw x1 S K) (hdg : decode cc pc = .ok (.invokevirtual 386, 3)) (kk : ∀ (r : Int) (S1 : St) (H1 : Heap) (locs1 : List Loc), InR r → K r S1 → sI D dA wM ad A H0 S1 H1 locs1 → W p l e R s m args below meth c H1 locs1 cells slots Q (F0 m (pc + 3) ls (iV r :: rest))) : W p l e R s m args below meth c H locs cells slots Q (F0 m (pc) ls (iV x1 :: .ref (ad 17) :: rest)) := s_callVi (As := [iV x1]) (rest := rest) (K := K) hF (t_M_draw l D dA ad S H.size x1 K r1 h) (s_recv hK hI 17 (by decide) wM_17 rfl) (cwV 1 hF.2.2.2.2 (lw_V q1651 q1653 qs102 q109 q1654) rfl rfl rfl (by decide +kernel) ⟨by have h1 := hR.1; have h2 : (rmD 0 0 0).frames = 0 + 1 := rfl; omega, by have h1 := hR.2; have h2 : (rmD 0 0 0).locals = 64 * 0 + 64 := rfl; omega⟩) hK hI rfl hls rfl hW hdg hf kk
theorem cMX2_389 {p : Program} {l : Launch} {e : Env} {R : Room} {s : State} {m : MethodId} {args : Array Value} {below : List Frame} {meth : Method} {c : Code} {H : Heap} {locs : List Loc} {Q : State → Prop} {cc : ByteArray} {nL pc : Nat} {ls : Array Slot} {rest : List Value} {cells slots : Nat} {D : va_G} {dA : Nat → ClassId} {ad : Nat → Nat} {A : Nat → Prop} {H0 : Heap} {S : St} {dk : Nat} (hF : CallFix p m c cc nL s args lw_all RX2) (hK : gK D dA s) (hI : sI D dA wM ad A H0 S H locs) (hls : ls.size = nL) (hR : R.frames = dk + 1 ∧ R.locals = 64 * dk + 64) (hd : 4 + 1 ≤ dk) (hW : (rest.map fun v => v.category).sum ≤ 8) (hf : cells ≤ R.cells ∧ slots ≤ R.slots) {x1 : Int} {K : Int → St → Prop} (r1 : InR x1) (h : w_M_isHolyTown x1 S K) (hdg : decode cc pc = .ok (.invokevirtual 389, 3)) (kk : ∀ (r : Int) (S1 : St) (H1 : Heap) (locs1 : List Loc), (r = 0 ∨ r = 1) → K r S1 → sI D dA wM ad A H0 S1 H1 locs1 → W p l e R s m args below meth c H1 locs1 cells slots Q (F0 m (pc + 3) ls (iV r :: rest))) : W p l e R s m args below meth c H locs cells slots Q (F0 m (pc) ls (iV x1 :: .ref (ad 17) :: rest)) := s_callVz (As := [iV x1]) (rest := rest) (K := K) hF (t_M_isHolyTown l D dA ad S H.size x1 K r1 h) (s_recv hK hI 17 (by decide) wM_17 rfl) (cwV 1 hF.2.2.2.2 (lw_V q1658 q1660 qs103 q109 q1661) rfl rfl rfl (by decide +kernel) ⟨by have h1 := hR.1; have h2 : (rmD 4 0 0).frames = 4 + 1 := rfl; omega, by have h1 := hR.2; have h2 : (rmD 4 0 0).locals = 64 * 4 + 64 := rfl; omega⟩) hK hI rfl hls rfl hW hdg hf kk
set_option maxHeartbeats 4000000 in
theorem t_M_pilgrims (l : Launch) (D : va_G) (dA : Nat → ClassId) (ad : Nat → Nat) (S : St) (sz : Nat) (x1 : Int) (x2 : Int) (x3 : Int) (x4 : Int) (K : Int → St → Prop) (rx1 : InR x1) (rx2 : InR x2) (rx3 : InR x3) (rx4 : InR x4) (h : w_M_pilgrims x1 x2 x3 x4 S K) : Met l yX2_pilgrims (ws_ yX2_pilgrims cX2_pilgrims 8 (Option.some Jvm.ClassFile.FieldType.int)) (rmD 5 0 0) (va_Pc [.ref (ad 17), iV x1, iV x2, iV x3, iV x4] (sPre D dA wM ad S sz)) (va_Qi (fun r S' => K r.toInt S') (sPost D dA wM ad (wA wM ad S sz)) (wA wM ad S sz)) 0 0 (wA wM ad S sz) := by
  refine Met.ofW (cc := cX2_pilgrims) (maxL := 8) (ret := (Option.some Jvm.ClassFile.FieldType.int)) (by decide) rfl ?_
  intro p e s m args below meth c s₁ B hml hv
  obtain ⟨rfl, hsz, hK, hC⟩ := hv
  have hx := B.exec
  have hb := B.bytes
  have hr := B.returns
  have hlocks := B.notSynchronized
  have hts := atoms_spec (ws := (ws_ yX2_pilgrims cX2_pilgrims 8 (Option.some Jvm.ClassFile.FieldType.int))) B.pre
  have hts : ∀ w ∈ lw_all, w.before _ s = true := fun w h => hts w (List.mem_cons_of_mem _ h)
  have hown : s.vm.findClass RX2 = some m.cls := findClass_of_methodNamed B.named
  clear B
  subst hsz
  have hI : sI D dA wM ad (wA wM ad S s.heap.size) s.heap S s.heap [] := hC.start
  clear hC
  generalize wA wM ad S s.heap.size = A at hI ⊢
  have hl := lv_entry ([.ref (ad 17), iV x1, iV x2, iV x3, iV x4] : List Value) (n := 8) (Nat.le_of_ble_eq_true rfl)
  rw [lg_entry_eq]
  generalize (lg_sl ([.ref (ad 17), iV x1, iV x2, iV x3, iV x4] : List Value) ++ List.replicate (8 - (lg_sl ([.ref (ad 17), iV x1, iV x2, iV x3, iV x4] : List Value)).length) Slot.unset).toArray = ls at hl ⊢
  have hl : lv_has ls 8 [(0, .ref (ad 17)), (1, iV x1), (2, iV x2), (3, iV x3), (4, iV x4)] := hl
  have hF : CallFix p m c cX2_pilgrims 8 s _ lw_all RX2 := ⟨hx, hb, hml, hown, hts⟩
  have hR : (headSpec (ws_ yX2_pilgrims cX2_pilgrims 8 (Option.some Jvm.ClassFile.FieldType.int)) (rmD 5 0 0)).room.frames = 5 + 1 ∧ (headSpec (ws_ yX2_pilgrims cX2_pilgrims 8 (Option.some Jvm.ClassFile.FieldType.int)) (rmD 5 0 0)).room.locals = 64 * 5 + 64 := ⟨rfl, rfl⟩
  generalize (headSpec (ws_ yX2_pilgrims cX2_pilgrims 8 (Option.some Jvm.ClassFile.FieldType.int)) (rmD 5 0 0)).room = R at hR ⊢
  generalize ([.ref (ad 17), iV x1, iV x2, iV x3, iV x4] : List Value).toArray = args at hts hF ⊢
  generalize hQ : MQ below _ _ _ _ _ _ = Q
  have L59 : ∀ (x2 : Int) (x3 : Int) (x4 : Int), InR x2 → InR x3 → InR x4 → ∀ (n59 : Nat) (x5 : Int) (x6 : Int) (S : St) (H : Heap) (locs : List Loc) (ls : Array Slot), InR x5 → InR x6 → sI D dA wM ad A s.heap S H locs → lv_has ls 8 [(0, .ref (ad 17)), (2, iV x2), (3, iV x3), (4, iV x4), (5, iV x5), (6, iV x6)] → l_M_pilgrims_59 x2 x3 x4 K n59 x5 x6 S → W p l e R s m args below meth c H locs 0 0 Q (F0 m 59 ls []) := by
    intro x2 x3 x4 rx2 rx3 rx4 n59
    induction n59 with
    | zero => intro x5 x6 S H locs ls rx5 rx6 hI hl h; exact False.elim h
    | succ n59 ih59 =>
      intro x5 x6 S H locs ls rx5 rx6 hI hl h
      have J106 : ∀ (x5 : Int) (x6 : Int) (S : St) (H : Heap) (locs : List Loc) (ls : Array Slot), InR x5 → InR x6 → sI D dA wM ad A s.heap S H locs → lv_has ls 8 [(0, .ref (ad 17)), (2, iV x2), (3, iV x3), (4, iV x4), (5, iV x5), (6, iV x6)] → j_M_pilgrims_106 x2 x3 x4 x5 x6 S K (l_M_pilgrims_59 x2 x3 x4 K n59) → W p l e R s m args below meth c H locs 0 0 Q (F0 m 106 ls []) := by
        intro x5 x6 S H locs ls rx5 rx6 hI hl h
        unfold j_M_pilgrims_106 at h
        have f1 := h.1; replace h := h.2
        refine nr_iinc (lv' := [(6, iV (x6 + 1)), (0, .ref (ad 17)), (2, iV x2), (3, iV x3), (4, iV x4), (5, iV x5)]) hx hb dX2_pilgrims_106 hl (k := 5) rfl (by decide) rfl (fun ls hl => ?_)
        refine lv_goto (tgt := 59) hx hb dX2_pilgrims_109 (by decide) ?_
        exact ih59 x5 (x6 + 1) S _ _ _ rx5 f1 hI (lv_sub hl [1, 2, 3, 4, 5, 0] rfl) h
      unfold l_M_pilgrims_59 at h
      refine lv_iload hx hb dX2_pilgrims_59 (lv_at hl 5 rfl) ?_
      refine lv_iload_n hx hb dX2_pilgrims_61 rfl (lv_at hl 1 rfl) ?_
      refine nr_icmp_ge hx hb rx6 rx2 dX2_pilgrims_62 (tgt := 112) (by decide) (fun c2 => ?_) (fun c2 => ?_)
      · replace h := h.1 c2
        refine lv_iload hx hb dX2_pilgrims_112 (lv_at hl 4 rfl) ?_
        rw [← hQ]; exact s_iret (K := K) hx hb hr hlocks hI rx5 h dX2_pilgrims_114
      · replace h := h.2 c2
        refine lv_aload_n hx hb dX2_pilgrims_65 rfl (lv_at hl 0 rfl) ?_
        refine lv_aload_n hx hb dX2_pilgrims_66 rfl (lv_at hl 0 rfl) ?_
        refine gMX2_7_17 hF hK hI dX2_pilgrims_67 ?_
        refine nr_iconst hx hb dX2_pilgrims_70 ?_
        refine s_iald hx hb hK hI 0 (by decide) wM_0 (by decide) (by decide) dX2_pilgrims_71 (fun f3 => ?_)
        replace h := h f3
        refine cMX2_386 hF hK hI hl.1 hR (by decide) (Nat.le_of_ble_eq_true rfl) ⟨Nat.zero_le _, Nat.zero_le _⟩ f3 h dX2_pilgrims_72 (fun r4 S5 H locs fr4 h hI => ?_)
        replace h := h fr4
        refine lv_istore (lv' := [(7, iV r4), (0, .ref (ad 17)), (2, iV x2), (3, iV x3), (4, iV x4), (5, iV x5), (6, iV x6)]) hx hb dX2_pilgrims_75 hl (by decide) rfl (fun ls hl => ?_)
        refine lv_aload_n hx hb dX2_pilgrims_77 rfl (lv_at hl 1 rfl) ?_
        refine lv_iload hx hb dX2_pilgrims_78 (lv_at hl 0 rfl) ?_
        refine cMX2_389 hF hK hI hl.1 hR (by decide) (Nat.le_of_ble_eq_true rfl) ⟨Nat.zero_le _, Nat.zero_le _⟩ fr4 h dX2_pilgrims_80 (fun r6 S7 H locs fr6 h hI => ?_)
        replace h := h fr6
        have gr6 : InR r6 := kdP_R (k := 2) (by decide) fr6
        refine nr_if_eq hx hb gr6 dX2_pilgrims_83 (tgt := 106) (by decide) (fun c8 => ?_) (fun c8 => ?_)
        · replace h := h.1 c8
          exact J106 x5 x6 S7 _ _ _ rx5 rx6 hI (lv_sub hl [1, 2, 3, 4, 5, 6] rfl) h
        · replace h := h.2 c8
          refine lv_aload_n hx hb dX2_pilgrims_86 rfl (lv_at hl 1 rfl) ?_
          refine nr_bipush hx hb dX2_pilgrims_87 (by decide) ?_
          refine cMX2_386 hF hK hI hl.1 hR (by decide) (Nat.le_of_ble_eq_true rfl) ⟨Nat.zero_le _, Nat.zero_le _⟩ (by decide) h dX2_pilgrims_89 (fun r9 S10 H locs fr9 h hI => ?_)
          replace h := h fr9
          refine lv_iload_n hx hb dX2_pilgrims_92 rfl (lv_at hl 3 rfl) ?_
          refine nr_icmp_ge hx hb fr9 rx3 dX2_pilgrims_93 (tgt := 106) (by decide) (fun c11 => ?_) (fun c11 => ?_)
          · replace h := h.1 c11
            exact J106 x5 x6 S10 _ _ _ rx5 rx6 hI (lv_sub hl [1, 2, 3, 4, 5, 6] rfl) h
          · replace h := h.2 c11
            refine lv_iload hx hb dX2_pilgrims_96 (lv_at hl 0 rfl) ?_
            refine lv_iload hx hb dX2_pilgrims_98 (lv_at hl 4 rfl) ?_
            refine nr_icmp_ne hx hb fr4 rx4 dX2_pilgrims_100 (tgt := 106) (by decide) (fun c12 => ?_) (fun c12 => ?_)
            · replace h := h.1 c12
              exact J106 x5 x6 S10 _ _ _ rx5 rx6 hI (lv_sub hl [1, 2, 3, 4, 5, 6] rfl) h
            · replace h := h.2 c12
              have f13 := h.1; replace h := h.2
              refine nr_iinc (lv' := [(5, iV (x5 + 1)), (7, iV r4), (0, .ref (ad 17)), (2, iV x2), (3, iV x3), (4, iV x4), (6, iV x6)]) hx hb dX2_pilgrims_103 hl (k := 5) rfl (by decide) rfl (fun ls hl => ?_)
              exact J106 (x5 + 1) x6 S10 _ _ _ f13 rx6 hI (lv_sub hl [2, 3, 4, 5, 0, 6] rfl) h
  unfold w_M_pilgrims at h
  refine lv_iload_n hx hb dX2_pilgrims_0 rfl (lv_at hl 1 rfl) ?_
  refine nr_iconst hx hb dX2_pilgrims_1 ?_
  refine nr_sipush hx hb dX2_pilgrims_2 (by decide) ?_
  refine cMX2_75 hF hK hI hl.1 hR (by decide) (Nat.le_of_ble_eq_true rfl) ⟨Nat.zero_le _, Nat.zero_le _⟩ rx1 (by decide) (by decide) h dX2_pilgrims_5 (fun r14 H locs fr14 h hI => ?_)
  replace h := h fr14
  have gr14 : InR r14 := kdP_R (k := 2) (by decide) fr14
  refine nr_if_eq hx hb gr14 dX2_pilgrims_8 (tgt := 40) (by decide) (fun c16 => ?_) (fun c16 => ?_)
  · replace h := h.1 c16
    refine nr_iconst hx hb dX2_pilgrims_40 ?_
    rw [← hQ]; exact s_iret (K := K) hx hb hr hlocks hI (by decide) h dX2_pilgrims_41
  · replace h := h.2 c16
    refine lv_iload_n hx hb dX2_pilgrims_11 rfl (lv_at hl 2 rfl) ?_
    refine nr_iconst hx hb dX2_pilgrims_12 ?_
    refine nr_bipush hx hb dX2_pilgrims_13 (by decide) ?_
    refine cMX2_75 hF hK hI hl.1 hR (by decide) (Nat.le_of_ble_eq_true rfl) ⟨Nat.zero_le _, Nat.zero_le _⟩ rx2 (by decide) (by decide) h dX2_pilgrims_15 (fun r17 H locs fr17 h hI => ?_)
    replace h := h fr17
    have gr17 : InR r17 := kdP_R (k := 2) (by decide) fr17
    refine nr_if_eq hx hb gr17 dX2_pilgrims_18 (tgt := 40) (by decide) (fun c19 => ?_) (fun c19 => ?_)
    · replace h := h.1 c19
      refine nr_iconst hx hb dX2_pilgrims_40 ?_
      rw [← hQ]; exact s_iret (K := K) hx hb hr hlocks hI (by decide) h dX2_pilgrims_41
    · replace h := h.2 c19
      refine lv_iload_n hx hb dX2_pilgrims_21 rfl (lv_at hl 3 rfl) ?_
      refine nr_iconst hx hb dX2_pilgrims_22 ?_
      refine nr_bipush hx hb dX2_pilgrims_23 (by decide) ?_
      refine cMX2_75 hF hK hI hl.1 hR (by decide) (Nat.le_of_ble_eq_true rfl) ⟨Nat.zero_le _, Nat.zero_le _⟩ rx3 (by decide) (by decide) h dX2_pilgrims_25 (fun r20 H locs fr20 h hI => ?_)
      replace h := h fr20
      have gr20 : InR r20 := kdP_R (k := 2) (by decide) fr20
      refine nr_if_eq hx hb gr20 dX2_pilgrims_28 (tgt := 40) (by decide) (fun c22 => ?_) (fun c22 => ?_)
      · replace h := h.1 c22
        refine nr_iconst hx hb dX2_pilgrims_40 ?_
        rw [← hQ]; exact s_iret (K := K) hx hb hr hlocks hI (by decide) h dX2_pilgrims_41
      · replace h := h.2 c22
        refine lv_aload_n hx hb dX2_pilgrims_31 rfl (lv_at hl 0 rfl) ?_
        refine lv_iload hx hb dX2_pilgrims_32 (lv_at hl 4 rfl) ?_
        refine cMX2_83 hF hK hI hl.1 hR (by decide) (Nat.le_of_ble_eq_true rfl) ⟨Nat.zero_le _, Nat.zero_le _⟩ rx4 h dX2_pilgrims_34 (fun r23 H locs fr23 h hI => ?_)
        replace h := h fr23
        have gr23 : InR r23 := kdP_R (k := 2) (by decide) fr23
        refine nr_if_ne hx hb gr23 dX2_pilgrims_37 (tgt := 42) (by decide) (fun c25 => ?_) (fun c25 => ?_)
        · replace h := h.1 c25
          refine lv_aload_n hx hb dX2_pilgrims_42 rfl (lv_at hl 0 rfl) ?_
          refine lv_iload_n hx hb dX2_pilgrims_43 rfl (lv_at hl 1 rfl) ?_
          refine nr_bipush hx hb dX2_pilgrims_44 (by decide) ?_
          have f26 := h.1; replace h := h.2
          refine nr_imul hx hb dX2_pilgrims_46 ?_
          refine nr_bipush hx hb dX2_pilgrims_47 (by decide) ?_
          have f27 := h.1; replace h := h.2
          refine nr_iadd hx hb dX2_pilgrims_49 ?_
          refine uMX2_377_17 hF hK hI f27 dX2_pilgrims_50 (fun S28 H locs eS28 hI => ?_)
          replace h := h S28 eS28
          refine nr_iconst hx hb dX2_pilgrims_53 ?_
          refine lv_istore (lv' := [(5, iV 0), (0, .ref (ad 17)), (1, iV x1), (2, iV x2), (3, iV x3), (4, iV x4)]) hx hb dX2_pilgrims_54 hl (by decide) rfl (fun ls hl => ?_)
          refine nr_iconst hx hb dX2_pilgrims_56 ?_
          refine lv_istore (lv' := [(6, iV 0), (5, iV 0), (0, .ref (ad 17)), (1, iV x1), (2, iV x2), (3, iV x3), (4, iV x4)]) hx hb dX2_pilgrims_57 hl (by decide) rfl (fun ls hl => ?_)
          obtain ⟨n0, h⟩ := h
          exact L59 x2 x3 x4 rx2 rx3 rx4 n0 0 0 S28 _ _ _ (by decide) (by decide) hI (lv_sub hl [2, 4, 5, 6, 1, 0] rfl) h
        · replace h := h.2 c25
          refine nr_iconst hx hb dX2_pilgrims_40 ?_
          rw [← hQ]; exact s_iret (K := K) hx hb hr hlocks hI (by decide) h dX2_pilgrims_41
