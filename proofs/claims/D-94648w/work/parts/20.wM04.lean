set_option maxRecDepth 100000
set_option maxHeartbeats 4000000 in
theorem t_M_hasParen (l : Launch) (D : va_G) (dA : Nat → ClassId) (ad : Nat → Nat) (S : St) (sz : Nat) (K : Int → Prop) (h : w_M_hasParen S K) : Met l yX2_hasParen (ws_ yX2_hasParen cX2_hasParen 2 (Option.some Jvm.ClassFile.FieldType.boolean)) (rmD 0 0 0) (va_Pc [.ref (ad 17)] (sPre D dA wM ad S sz)) (va_Qi (fun r S' => (r.toInt = 0 ∨ r.toInt = 1) ∧ (S' = S ∧ K r.toInt)) (sPost D dA wM ad (wA wM ad S sz)) (wA wM ad S sz)) 0 0 (wA wM ad S sz) := by
  refine Met.ofW (cc := cX2_hasParen) (maxL := 2) (ret := (Option.some Jvm.ClassFile.FieldType.boolean)) (by decide) rfl ?_
  intro p e s m args below meth c s₁ B hml hv
  obtain ⟨rfl, hsz, hK, hC⟩ := hv
  have hx := B.exec
  have hb := B.bytes
  have hr := B.returns
  have hlocks := B.notSynchronized
  have hts := atoms_spec (ws := (ws_ yX2_hasParen cX2_hasParen 2 (Option.some Jvm.ClassFile.FieldType.boolean))) B.pre
  have hts : ∀ w ∈ lw_all, w.before _ s = true := fun w h => hts w (List.mem_cons_of_mem _ h)
  have hown : s.vm.findClass RX2 = some m.cls := findClass_of_methodNamed B.named
  clear B
  subst hsz
  have hI : sI D dA wM ad (wA wM ad S s.heap.size) s.heap S s.heap [] := hC.start
  clear hC
  generalize wA wM ad S s.heap.size = A at hI ⊢
  have hl := lv_entry ([.ref (ad 17)] : List Value) (n := 2) (Nat.le_of_ble_eq_true rfl)
  rw [lg_entry_eq]
  generalize (lg_sl ([.ref (ad 17)] : List Value) ++ List.replicate (2 - (lg_sl ([.ref (ad 17)] : List Value)).length) Slot.unset).toArray = ls at hl ⊢
  have hl : lv_has ls 2 [(0, .ref (ad 17))] := hl
  have hF : CallFix p m c cX2_hasParen 2 s _ lw_all RX2 := ⟨hx, hb, hml, hown, hts⟩
  have hR : (headSpec (ws_ yX2_hasParen cX2_hasParen 2 (Option.some Jvm.ClassFile.FieldType.boolean)) (rmD 0 0 0)).room.frames = 0 + 1 ∧ (headSpec (ws_ yX2_hasParen cX2_hasParen 2 (Option.some Jvm.ClassFile.FieldType.boolean)) (rmD 0 0 0)).room.locals = 64 * 0 + 64 := ⟨rfl, rfl⟩
  generalize (headSpec (ws_ yX2_hasParen cX2_hasParen 2 (Option.some Jvm.ClassFile.FieldType.boolean)) (rmD 0 0 0)).room = R at hR ⊢
  generalize ([.ref (ad 17)] : List Value).toArray = args at hts hF ⊢
  generalize hQ : MQ below _ _ _ _ _ _ = Q
  have L2 : ∀ (n2 : Nat) (x1 : Int) (H : Heap) (locs : List Loc) (ls : Array Slot), InR x1 → sI D dA wM ad A s.heap S H locs → lv_has ls 2 [(0, .ref (ad 17)), (1, iV x1)] → l_M_hasParen_2 S K n2 x1 → W p l e R s m args below meth c H locs 0 0 Q (F0 m 2 ls []) := by
    intro n2
    induction n2 with
    | zero => intro x1 H locs ls rx1 hI hl h; exact False.elim h
    | succ n2 ih2 =>
      intro x1 H locs ls rx1 hI hl h
      unfold l_M_hasParen_2 at h
      refine lv_iload_n hx hb dX2_hasParen_2 rfl (lv_at hl 1 rfl) ?_
      refine lv_aload_n hx hb dX2_hasParen_3 rfl (lv_at hl 0 rfl) ?_
      refine gMX2_160_17 hF hK hI dX2_hasParen_4 (fun f1 => ?_)
      replace h := h f1
      refine nr_icmp_ge hx hb rx1 f1 dX2_hasParen_7 (tgt := 29) (by decide) (fun c2 => ?_) (fun c2 => ?_)
      · replace h := h.1 c2
        refine nr_iconst hx hb dX2_hasParen_29 ?_
        rw [← hQ]; exact s_zret (K := fun r S' => S' = S ∧ K r) hx hb hr hlocks hI (by decide) ⟨rfl, h⟩ dX2_hasParen_30
      · replace h := h.2 c2
        refine lv_aload_n hx hb dX2_hasParen_10 rfl (lv_at hl 0 rfl) ?_
        refine gMX2_29_17 hF hK hI dX2_hasParen_11 ?_
        refine lv_iload_n hx hb dX2_hasParen_14 rfl (lv_at hl 1 rfl) ?_
        have f3 := h.1; replace h := h.2
        refine s_iald hx hb hK hI 4 (by decide) wM_4 rx1 f3 dX2_hasParen_15 (fun f4 => ?_)
        replace h := h f4
        refine nr_bipush hx hb dX2_hasParen_16 (by decide) ?_
        refine nr_icmp_ne hx hb f4 (by decide) dX2_hasParen_18 (tgt := 23) (by decide) (fun c5 => ?_) (fun c5 => ?_)
        · replace h := h.1 c5
          have f6 := h.1; replace h := h.2
          refine nr_iinc (lv' := [(1, iV (x1 + 1)), (0, .ref (ad 17))]) hx hb dX2_hasParen_23 hl (k := 1) rfl (by decide) rfl (fun ls hl => ?_)
          refine lv_goto (tgt := 2) hx hb dX2_hasParen_26 (by decide) ?_
          exact ih2 (x1 + 1) _ _ _ f6 hI (lv_sub hl [1, 0] rfl) h
        · replace h := h.2 c5
          refine nr_iconst hx hb dX2_hasParen_21 ?_
          rw [← hQ]; exact s_zret (K := fun r S' => S' = S ∧ K r) hx hb hr hlocks hI (by decide) ⟨rfl, h⟩ dX2_hasParen_22
  unfold w_M_hasParen at h
  refine nr_iconst hx hb dX2_hasParen_0 ?_
  refine lv_istore_n (lv' := [(1, iV 0), (0, .ref (ad 17))]) hx hb dX2_hasParen_1 rfl hl (by decide) rfl (fun ls hl => ?_)
  obtain ⟨n0, h⟩ := h
  exact L2 n0 0 _ _ _ (by decide) hI (lv_sub hl [1, 0] rfl) h
theorem cMX2_200 {p : Program} {l : Launch} {e : Env} {R : Room} {s : State} {m : MethodId} {args : Array Value} {below : List Frame} {meth : Method} {c : Code} {H : Heap} {locs : List Loc} {Q : State → Prop} {cc : ByteArray} {nL pc : Nat} {ls : Array Slot} {rest : List Value} {cells slots : Nat} {D : va_G} {dA : Nat → ClassId} {ad : Nat → Nat} {A : Nat → Prop} {H0 : Heap} {S : St} {dk : Nat} (hF : CallFix p m c cc nL s args lw_all RX2) (hK : gK D dA s) (hI : sI D dA wM ad A H0 S H locs) (hls : ls.size = nL) (hR : R.frames = dk + 1 ∧ R.locals = 64 * dk + 64) (hd : 0 + 1 ≤ dk) (hW : (rest.map fun v => v.category).sum ≤ 8) (hf : cells ≤ R.cells ∧ slots ≤ R.slots) {K : Int → Prop} (h : w_M_hasParen S K) (hdg : decode cc pc = .ok (.invokevirtual 200, 3)) (kk : ∀ (r : Int) (H1 : Heap) (locs1 : List Loc), (r = 0 ∨ r = 1) → K r → sI D dA wM ad A H0 S H1 locs1 → W p l e R s m args below meth c H1 locs1 cells slots Q (F0 m (pc + 3) ls (iV r :: rest))) : W p l e R s m args below meth c H locs cells slots Q (F0 m (pc) ls (.ref (ad 17) :: rest)) := s_callVz (As := []) (rest := rest) (K := fun r S' => S' = S ∧ K r) hF (t_M_hasParen l D dA ad S H.size K h) (s_recv hK hI 17 (by decide) wM_17 rfl) (cwV 0 hF.2.2.2.2 (lw_V q1450 q1452 qs72 q109 q1453) rfl rfl rfl (by decide +kernel) ⟨by have h1 := hR.1; have h2 : (rmD 0 0 0).frames = 0 + 1 := rfl; omega, by have h1 := hR.2; have h2 : (rmD 0 0 0).locals = 64 * 0 + 64 := rfl; omega⟩) hK hI rfl hls rfl hW hdg hf (fun r S1 H1 locs1 f hk hI1 => by obtain ⟨rfl, hk⟩ := hk; exact kk r H1 locs1 f hk hI1)
set_option maxHeartbeats 4000000 in
theorem t_M_goesOn (l : Launch) (D : va_G) (dA : Nat → ClassId) (ad : Nat → Nat) (S : St) (sz : Nat) (K : Int → Prop) (h : w_M_goesOn S K) : Met l yX2_goesOn (ws_ yX2_goesOn cX2_goesOn 1 (Option.some Jvm.ClassFile.FieldType.boolean)) (rmD 1 0 0) (va_Pc [.ref (ad 17)] (sPre D dA wM ad S sz)) (va_Qi (fun r S' => (r.toInt = 0 ∨ r.toInt = 1) ∧ (S' = S ∧ K r.toInt)) (sPost D dA wM ad (wA wM ad S sz)) (wA wM ad S sz)) 0 0 (wA wM ad S sz) := by
  refine Met.ofW (cc := cX2_goesOn) (maxL := 1) (ret := (Option.some Jvm.ClassFile.FieldType.boolean)) (by decide) rfl ?_
  intro p e s m args below meth c s₁ B hml hv
  obtain ⟨rfl, hsz, hK, hC⟩ := hv
  have hx := B.exec
  have hb := B.bytes
  have hr := B.returns
  have hlocks := B.notSynchronized
  have hts := atoms_spec (ws := (ws_ yX2_goesOn cX2_goesOn 1 (Option.some Jvm.ClassFile.FieldType.boolean))) B.pre
  have hts : ∀ w ∈ lw_all, w.before _ s = true := fun w h => hts w (List.mem_cons_of_mem _ h)
  have hown : s.vm.findClass RX2 = some m.cls := findClass_of_methodNamed B.named
  clear B
  subst hsz
  have hI : sI D dA wM ad (wA wM ad S s.heap.size) s.heap S s.heap [] := hC.start
  clear hC
  generalize wA wM ad S s.heap.size = A at hI ⊢
  have hl := lv_entry ([.ref (ad 17)] : List Value) (n := 1) (Nat.le_of_ble_eq_true rfl)
  rw [lg_entry_eq]
  generalize (lg_sl ([.ref (ad 17)] : List Value) ++ List.replicate (1 - (lg_sl ([.ref (ad 17)] : List Value)).length) Slot.unset).toArray = ls at hl ⊢
  have hl : lv_has ls 1 [(0, .ref (ad 17))] := hl
  have hF : CallFix p m c cX2_goesOn 1 s _ lw_all RX2 := ⟨hx, hb, hml, hown, hts⟩
  have hR : (headSpec (ws_ yX2_goesOn cX2_goesOn 1 (Option.some Jvm.ClassFile.FieldType.boolean)) (rmD 1 0 0)).room.frames = 1 + 1 ∧ (headSpec (ws_ yX2_goesOn cX2_goesOn 1 (Option.some Jvm.ClassFile.FieldType.boolean)) (rmD 1 0 0)).room.locals = 64 * 1 + 64 := ⟨rfl, rfl⟩
  generalize (headSpec (ws_ yX2_goesOn cX2_goesOn 1 (Option.some Jvm.ClassFile.FieldType.boolean)) (rmD 1 0 0)).room = R at hR ⊢
  generalize ([.ref (ad 17)] : List Value).toArray = args at hts hF ⊢
  generalize hQ : MQ below _ _ _ _ _ _ = Q
  unfold w_M_goesOn at h
  refine lv_aload_n hx hb dX2_goesOn_0 rfl (lv_at hl 0 rfl) ?_
  refine gMX2_129_17 hF hK hI dX2_goesOn_1 (fun f1 => ?_)
  replace h := h f1
  refine nr_bipush hx hb dX2_goesOn_4 (by decide) ?_
  refine nr_icmp_eq hx hb f1 (by decide) dX2_goesOn_6 (tgt := 52) (by decide) (fun c2 => ?_) (fun c2 => ?_)
  · replace h := h.1 c2
    refine nr_iconst hx hb dX2_goesOn_52 ?_
    refine lv_goto (tgt := 57) hx hb dX2_goesOn_53 (by decide) ?_
    rw [← hQ]; exact s_zret (K := fun r S' => S' = S ∧ K r) hx hb hr hlocks hI (by decide) ⟨rfl, h⟩ dX2_goesOn_57
  · replace h := h.2 c2
    refine lv_aload_n hx hb dX2_goesOn_9 rfl (lv_at hl 0 rfl) ?_
    refine gMX2_129_17 hF hK hI dX2_goesOn_10 (fun f3 => ?_)
    refine nr_bipush hx hb dX2_goesOn_13 (by decide) ?_
    refine nr_icmp_eq hx hb f1 (by decide) dX2_goesOn_15 (tgt := 52) (by decide) (fun c4 => ?_) (fun c4 => ?_)
    · replace h := h.1 c4
      refine nr_iconst hx hb dX2_goesOn_52 ?_
      refine lv_goto (tgt := 57) hx hb dX2_goesOn_53 (by decide) ?_
      rw [← hQ]; exact s_zret (K := fun r S' => S' = S ∧ K r) hx hb hr hlocks hI (by decide) ⟨rfl, h⟩ dX2_goesOn_57
    · replace h := h.2 c4
      refine lv_aload_n hx hb dX2_goesOn_18 rfl (lv_at hl 0 rfl) ?_
      refine gMX2_129_17 hF hK hI dX2_goesOn_19 (fun f5 => ?_)
      refine nr_bipush hx hb dX2_goesOn_22 (by decide) ?_
      refine nr_icmp_eq hx hb f1 (by decide) dX2_goesOn_24 (tgt := 52) (by decide) (fun c6 => ?_) (fun c6 => ?_)
      · replace h := h.1 c6
        refine nr_iconst hx hb dX2_goesOn_52 ?_
        refine lv_goto (tgt := 57) hx hb dX2_goesOn_53 (by decide) ?_
        rw [← hQ]; exact s_zret (K := fun r S' => S' = S ∧ K r) hx hb hr hlocks hI (by decide) ⟨rfl, h⟩ dX2_goesOn_57
      · replace h := h.2 c6
        refine lv_aload_n hx hb dX2_goesOn_27 rfl (lv_at hl 0 rfl) ?_
        refine gMX2_129_17 hF hK hI dX2_goesOn_28 (fun f7 => ?_)
        refine nr_bipush hx hb dX2_goesOn_31 (by decide) ?_
        refine nr_icmp_eq hx hb f1 (by decide) dX2_goesOn_33 (tgt := 52) (by decide) (fun c8 => ?_) (fun c8 => ?_)
        · replace h := h.1 c8
          refine nr_iconst hx hb dX2_goesOn_52 ?_
          refine lv_goto (tgt := 57) hx hb dX2_goesOn_53 (by decide) ?_
          rw [← hQ]; exact s_zret (K := fun r S' => S' = S ∧ K r) hx hb hr hlocks hI (by decide) ⟨rfl, h⟩ dX2_goesOn_57
        · replace h := h.2 c8
          refine lv_aload_n hx hb dX2_goesOn_36 rfl (lv_at hl 0 rfl) ?_
          refine gMX2_129_17 hF hK hI dX2_goesOn_37 (fun f9 => ?_)
          refine nr_bipush hx hb dX2_goesOn_40 (by decide) ?_
          refine nr_icmp_ne hx hb f1 (by decide) dX2_goesOn_42 (tgt := 56) (by decide) (fun c10 => ?_) (fun c10 => ?_)
          · replace h := h.1 c10
            refine nr_iconst hx hb dX2_goesOn_56 ?_
            rw [← hQ]; exact s_zret (K := fun r S' => S' = S ∧ K r) hx hb hr hlocks hI (by decide) ⟨rfl, h⟩ dX2_goesOn_57
          · replace h := h.2 c10
            refine lv_aload_n hx hb dX2_goesOn_45 rfl (lv_at hl 0 rfl) ?_
            refine cMX2_200 hF hK hI hl.1 hR (by decide) (Nat.le_of_ble_eq_true rfl) ⟨Nat.zero_le _, Nat.zero_le _⟩ h dX2_goesOn_46 (fun r11 H locs fr11 h hI => ?_)
            replace h := h fr11
            have gr11 : InR r11 := kdP_R (k := 2) (by decide) fr11
            refine nr_if_eq hx hb gr11 dX2_goesOn_49 (tgt := 56) (by decide) (fun c13 => ?_) (fun c13 => ?_)
            · replace h := h.1 c13
              refine nr_iconst hx hb dX2_goesOn_56 ?_
              rw [← hQ]; exact s_zret (K := fun r S' => S' = S ∧ K r) hx hb hr hlocks hI (by decide) ⟨rfl, h⟩ dX2_goesOn_57
            · replace h := h.2 c13
              refine nr_iconst hx hb dX2_goesOn_52 ?_
              refine lv_goto (tgt := 57) hx hb dX2_goesOn_53 (by decide) ?_
              rw [← hQ]; exact s_zret (K := fun r S' => S' = S ∧ K r) hx hb hr hlocks hI (by decide) ⟨rfl, h⟩ dX2_goesOn_57
theorem gMX2_163_17 {p : Program} {l : Launch} {e : Env} {R : Room} {s : State} {m : MethodId} {args : Array Value} {below : List Frame} {meth : Method} {c : Code} {H : Heap} {locs : List Loc} {Q : State → Prop} {cc : ByteArray} {nL pc : Nat} {ls : Array Slot} {rest : List Value} {cells slots : Nat} {D : va_G} {dA : Nat → ClassId} {ad : Nat → Nat} {A : Nat → Prop} {H0 : Heap} {S : St} (hF : CallFix p m c cc nL s args lw_all RX2) (hK : gK D dA s) (hI : sI D dA wM ad A H0 S H locs) (hdg : decode cc pc = .ok (.getfield 163, 3)) (kk : InR (fI S 19) → W p l e R s m args below meth c H locs cells slots Q (F0 m (pc + 3) ls (iV (fI S 19) :: rest))) : W p l e R s m args below meth c H locs cells slots Q (F0 m (pc) ls (.ref (ad 17) :: rest)) := s_geti hF.1 hF.2.1 hF.2.2.2.2 hF.2.2.2.1 hK hI 17 (by decide) wM_17 rfl in_X2 19 (by decide) q1180 rfl 2 19 rfl (by decide) hdg (kk (kdP_R (k := 2) (by decide) (hI.1.2.2.2.1.1 19)))
theorem cMX2_213 {p : Program} {l : Launch} {e : Env} {R : Room} {s : State} {m : MethodId} {args : Array Value} {below : List Frame} {meth : Method} {c : Code} {H : Heap} {locs : List Loc} {Q : State → Prop} {cc : ByteArray} {nL pc : Nat} {ls : Array Slot} {rest : List Value} {cells slots : Nat} {D : va_G} {dA : Nat → ClassId} {ad : Nat → Nat} {A : Nat → Prop} {H0 : Heap} {S : St} {dk : Nat} (hF : CallFix p m c cc nL s args lw_all RX2) (hK : gK D dA s) (hI : sI D dA wM ad A H0 S H locs) (hls : ls.size = nL) (hR : R.frames = dk + 1 ∧ R.locals = 64 * dk + 64) (hd : 4 + 1 ≤ dk) (hW : (rest.map fun v => v.category).sum ≤ 8) (hf : cells ≤ R.cells ∧ slots ≤ R.slots) {K : Int → St → Prop} (h : w_M_beginOne S K) (hdg : decode cc pc = .ok (.invokevirtual 213, 3)) (kk : ∀ (r : Int) (S1 : St) (H1 : Heap) (locs1 : List Loc), InR r → K r S1 → sI D dA wM ad A H0 S1 H1 locs1 → W p l e R s m args below meth c H1 locs1 cells slots Q (F0 m (pc + 3) ls (iV r :: rest))) : W p l e R s m args below meth c H locs cells slots Q (F0 m (pc) ls (.ref (ad 17) :: rest)) := s_callVi (As := []) (rest := rest) (K := K) hF (t_M_beginOne l D dA ad S H.size K h) (s_recv hK hI 17 (by decide) wM_17 rfl) (cwV 0 hF.2.2.2.2 (lw_V q1474 q1476 qs78 q109 q1477) rfl rfl rfl (by decide +kernel) ⟨by have h1 := hR.1; have h2 : (rmD 4 0 0).frames = 4 + 1 := rfl; omega, by have h1 := hR.2; have h2 : (rmD 4 0 0).locals = 64 * 4 + 64 := rfl; omega⟩) hK hI rfl hls rfl hW hdg hf kk
theorem cMX2_210 {p : Program} {l : Launch} {e : Env} {R : Room} {s : State} {m : MethodId} {args : Array Value} {below : List Frame} {meth : Method} {c : Code} {H : Heap} {locs : List Loc} {Q : State → Prop} {cc : ByteArray} {nL pc : Nat} {ls : Array Slot} {rest : List Value} {cells slots : Nat} {D : va_G} {dA : Nat → ClassId} {ad : Nat → Nat} {A : Nat → Prop} {H0 : Heap} {S : St} {dk : Nat} (hF : CallFix p m c cc nL s args lw_all RX2) (hK : gK D dA s) (hI : sI D dA wM ad A H0 S H locs) (hls : ls.size = nL) (hR : R.frames = dk + 1 ∧ R.locals = 64 * dk + 64) (hd : 3 + 1 ≤ dk) (hW : (rest.map fun v => v.category).sum ≤ 8) (hf : cells ≤ R.cells ∧ slots ≤ R.slots) {K : Int → St → Prop} (h : w_M_behindOne S K) (hdg : decode cc pc = .ok (.invokevirtual 210, 3)) (kk : ∀ (r : Int) (S1 : St) (H1 : Heap) (locs1 : List Loc), InR r → K r S1 → sI D dA wM ad A H0 S1 H1 locs1 → W p l e R s m args below meth c H1 locs1 cells slots Q (F0 m (pc + 3) ls (iV r :: rest))) : W p l e R s m args below meth c H locs cells slots Q (F0 m (pc) ls (.ref (ad 17) :: rest)) := s_callVi (As := []) (rest := rest) (K := K) hF (t_M_behindOne l D dA ad S H.size K h) (s_recv hK hI 17 (by decide) wM_17 rfl) (cwV 0 hF.2.2.2.2 (lw_V q1454 q1456 qs73 q109 q1457) rfl rfl rfl (by decide +kernel) ⟨by have h1 := hR.1; have h2 : (rmD 3 0 0).frames = 3 + 1 := rfl; omega, by have h1 := hR.2; have h2 : (rmD 3 0 0).locals = 64 * 3 + 64 := rfl; omega⟩) hK hI rfl hls rfl hW hdg hf kk
theorem cMX2_207 {p : Program} {l : Launch} {e : Env} {R : Room} {s : State} {m : MethodId} {args : Array Value} {below : List Frame} {meth : Method} {c : Code} {H : Heap} {locs : List Loc} {Q : State → Prop} {cc : ByteArray} {nL pc : Nat} {ls : Array Slot} {rest : List Value} {cells slots : Nat} {D : va_G} {dA : Nat → ClassId} {ad : Nat → Nat} {A : Nat → Prop} {H0 : Heap} {S : St} {dk : Nat} (hF : CallFix p m c cc nL s args lw_all RX2) (hK : gK D dA s) (hI : sI D dA wM ad A H0 S H locs) (hls : ls.size = nL) (hR : R.frames = dk + 1 ∧ R.locals = 64 * dk + 64) (hd : 1 + 1 ≤ dk) (hW : (rest.map fun v => v.category).sum ≤ 8) (hf : cells ≤ R.cells ∧ slots ≤ R.slots) {K : Int → Prop} (h : w_M_goesOn S K) (hdg : decode cc pc = .ok (.invokevirtual 207, 3)) (kk : ∀ (r : Int) (H1 : Heap) (locs1 : List Loc), (r = 0 ∨ r = 1) → K r → sI D dA wM ad A H0 S H1 locs1 → W p l e R s m args below meth c H1 locs1 cells slots Q (F0 m (pc + 3) ls (iV r :: rest))) : W p l e R s m args below meth c H locs cells slots Q (F0 m (pc) ls (.ref (ad 17) :: rest)) := s_callVz (As := []) (rest := rest) (K := fun r S' => S' = S ∧ K r) hF (t_M_goesOn l D dA ad S H.size K h) (s_recv hK hI 17 (by decide) wM_17 rfl) (cwV 0 hF.2.2.2.2 (lw_V q1446 q1448 qs71 q109 q1449) rfl rfl rfl (by decide +kernel) ⟨by have h1 := hR.1; have h2 : (rmD 1 0 0).frames = 1 + 1 := rfl; omega, by have h1 := hR.2; have h2 : (rmD 1 0 0).locals = 64 * 1 + 64 := rfl; omega⟩) hK hI rfl hls rfl hW hdg hf (fun r S1 H1 locs1 f hk hI1 => by obtain ⟨rfl, hk⟩ := hk; exact kk r H1 locs1 f hk hI1)
set_option maxHeartbeats 4000000 in
theorem t_M_summed (l : Launch) (D : va_G) (dA : Nat → ClassId) (ad : Nat → Nat) (S : St) (sz : Nat) (K : Int → St → Prop) (h : w_M_summed S K) : Met l yX2_summed (ws_ yX2_summed cX2_summed 2 (Option.some Jvm.ClassFile.FieldType.int)) (rmD 5 0 0) (va_Pc [.ref (ad 17)] (sPre D dA wM ad S sz)) (va_Qi (fun r S' => K r.toInt S') (sPost D dA wM ad (wA wM ad S sz)) (wA wM ad S sz)) 0 0 (wA wM ad S sz) := by
  refine Met.ofW (cc := cX2_summed) (maxL := 2) (ret := (Option.some Jvm.ClassFile.FieldType.int)) (by decide) rfl ?_
  intro p e s m args below meth c s₁ B hml hv
  obtain ⟨rfl, hsz, hK, hC⟩ := hv
  have hx := B.exec
  have hb := B.bytes
  have hr := B.returns
  have hlocks := B.notSynchronized
  have hts := atoms_spec (ws := (ws_ yX2_summed cX2_summed 2 (Option.some Jvm.ClassFile.FieldType.int))) B.pre
  have hts : ∀ w ∈ lw_all, w.before _ s = true := fun w h => hts w (List.mem_cons_of_mem _ h)
  have hown : s.vm.findClass RX2 = some m.cls := findClass_of_methodNamed B.named
  clear B
  subst hsz
  have hI : sI D dA wM ad (wA wM ad S s.heap.size) s.heap S s.heap [] := hC.start
  clear hC
  generalize wA wM ad S s.heap.size = A at hI ⊢
  have hl := lv_entry ([.ref (ad 17)] : List Value) (n := 2) (Nat.le_of_ble_eq_true rfl)
  rw [lg_entry_eq]
  generalize (lg_sl ([.ref (ad 17)] : List Value) ++ List.replicate (2 - (lg_sl ([.ref (ad 17)] : List Value)).length) Slot.unset).toArray = ls at hl ⊢
  have hl : lv_has ls 2 [(0, .ref (ad 17))] := hl
  have hF : CallFix p m c cX2_summed 2 s _ lw_all RX2 := ⟨hx, hb, hml, hown, hts⟩
  have hR : (headSpec (ws_ yX2_summed cX2_summed 2 (Option.some Jvm.ClassFile.FieldType.int)) (rmD 5 0 0)).room.frames = 5 + 1 ∧ (headSpec (ws_ yX2_summed cX2_summed 2 (Option.some Jvm.ClassFile.FieldType.int)) (rmD 5 0 0)).room.locals = 64 * 5 + 64 := ⟨rfl, rfl⟩
  generalize (headSpec (ws_ yX2_summed cX2_summed 2 (Option.some Jvm.ClassFile.FieldType.int)) (rmD 5 0 0)).room = R at hR ⊢
  generalize ([.ref (ad 17)] : List Value).toArray = args at hts hF ⊢
  generalize hQ : MQ below _ _ _ _ _ _ = Q
  have J52 : ∀ (S : St) (H : Heap) (locs : List Loc) (ls : Array Slot), sI D dA wM ad A s.heap S H locs → lv_has ls 2 [(0, .ref (ad 17))] → j_M_summed_52 S K → W p l e R s m args below meth c H locs 0 0 Q (F0 m 52 ls []) := by
    intro S H locs ls hI hl h
    unfold j_M_summed_52 at h
    refine lv_aload_n hx hb dX2_summed_52 rfl (lv_at hl 0 rfl) ?_
    refine nr_iconst hx hb dX2_summed_53 ?_
    refine cMX2_204 hF hK hI hl.1 hR (by decide) (Nat.le_of_ble_eq_true rfl) ⟨Nat.zero_le _, Nat.zero_le _⟩ (by decide) h dX2_summed_54 (fun S2 H locs h hI => ?_)
    refine lv_aload_n hx hb dX2_summed_57 rfl (lv_at hl 0 rfl) ?_
    refine gMX2_160_17 hF hK hI dX2_summed_58 (fun f3 => ?_)
    replace h := h f3
    refine nr_if_le hx hb f3 dX2_summed_61 (tgt := 68) (by decide) (fun c4 => ?_) (fun c4 => ?_)
    · replace h := h.1 c4
      refine nr_iconst hx hb dX2_summed_68 ?_
      rw [← hQ]; exact s_iret (K := K) hx hb hr hlocks hI (by decide) h dX2_summed_69
    · replace h := h.2 c4
      refine nr_iconst hx hb dX2_summed_64 ?_
      refine lv_goto (tgt := 69) hx hb dX2_summed_65 (by decide) ?_
      rw [← hQ]; exact s_iret (K := K) hx hb hr hlocks hI (by decide) h dX2_summed_69
  have L10 : ∀ (n10 : Nat) (S : St) (H : Heap) (locs : List Loc) (ls : Array Slot), sI D dA wM ad A s.heap S H locs → lv_has ls 2 [(0, .ref (ad 17))] → l_M_summed_10 K (fun (zS : St) => j_M_summed_52 zS K) n10 S → W p l e R s m args below meth c H locs 0 0 Q (F0 m 10 ls []) := by
    intro n10
    induction n10 with
    | zero => intro S H locs ls hI hl h; exact False.elim h
    | succ n10 ih10 =>
      intro S H locs ls hI hl h
      have J42 : ∀ (y0 : Int) (S : St) (H : Heap) (locs : List Loc) (ls : Array Slot), InR y0 → sI D dA wM ad A s.heap S H locs → lv_has ls 2 [(0, .ref (ad 17))] → j_M_summed_42 y0 S K (fun (zS : St) => j_M_summed_52 zS K) (l_M_summed_10 K (fun (zS : St) => j_M_summed_52 zS K) n10) → W p l e R s m args below meth c H locs 0 0 Q (F0 m 42 ls [iV y0]) := by
        intro y0 S H locs ls ry0 hI hl h
        unfold j_M_summed_42 at h
        refine lv_istore_n (lv' := [(1, iV y0), (0, .ref (ad 17))]) hx hb dX2_summed_42 rfl hl (by decide) rfl (fun ls hl => ?_)
        refine lv_iload_n hx hb dX2_summed_43 rfl (lv_at hl 0 rfl) ?_
        refine nr_if_eq hx hb ry0 dX2_summed_44 (tgt := 49) (by decide) (fun c5 => ?_) (fun c5 => ?_)
        · replace h := h.1 c5
          refine lv_goto (tgt := 10) hx hb dX2_summed_49 (by decide) ?_
          exact ih10 S _ _ _ hI (lv_sub hl [1] rfl) h
        · replace h := h.2 c5
          refine lv_iload_n hx hb dX2_summed_47 rfl (lv_at hl 0 rfl) ?_
          rw [← hQ]; exact s_iret (K := K) hx hb hr hlocks hI ry0 h dX2_summed_48
      have J24 : ∀ (S : St) (H : Heap) (locs : List Loc) (ls : Array Slot), sI D dA wM ad A s.heap S H locs → lv_has ls 2 [(0, .ref (ad 17))] → j_M_summed_24 S K (fun (zS : St) => j_M_summed_52 zS K) (l_M_summed_10 K (fun (zS : St) => j_M_summed_52 zS K) n10) → W p l e R s m args below meth c H locs 0 0 Q (F0 m 24 ls []) := by
        intro S H locs ls hI hl h
        unfold j_M_summed_24 at h
        refine lv_aload_n hx hb dX2_summed_24 rfl (lv_at hl 0 rfl) ?_
        refine gMX2_163_17 hF hK hI dX2_summed_25 (fun f6 => ?_)
        replace h := h f6
        have f6z : fI S 19 = 0 ∨ fI S 19 = 1 := hI.1.2.2.2.1.1 19
        replace h := h f6z
        refine nr_if_eq hx hb f6 dX2_summed_28 (tgt := 38) (by decide) (fun c7 => ?_) (fun c7 => ?_)
        · replace h := h.1 c7
          refine lv_aload_n hx hb dX2_summed_38 rfl (lv_at hl 0 rfl) ?_
          refine cMX2_213 hF hK hI hl.1 hR (by decide) (Nat.le_of_ble_eq_true rfl) ⟨Nat.zero_le _, Nat.zero_le _⟩ h dX2_summed_39 (fun r8 S9 H locs fr8 h hI => ?_)
          replace h := h fr8
          exact J42 r8 S9 _ _ _ fr8 hI (lv_sub hl [0] rfl) h
        · replace h := h.2 c7
          refine lv_aload_n hx hb dX2_summed_31 rfl (lv_at hl 0 rfl) ?_
          refine cMX2_210 hF hK hI hl.1 hR (by decide) (Nat.le_of_ble_eq_true rfl) ⟨Nat.zero_le _, Nat.zero_le _⟩ h dX2_summed_32 (fun r10 S11 H locs fr10 h hI => ?_)
          replace h := h fr10
          refine lv_goto (tgt := 42) hx hb dX2_summed_35 (by decide) ?_
          exact J42 r10 S11 _ _ _ fr10 hI (lv_sub hl [0] rfl) h
      unfold l_M_summed_10 at h
      refine lv_aload_n hx hb dX2_summed_10 rfl (lv_at hl 0 rfl) ?_
      refine gMX2_163_17 hF hK hI dX2_summed_11 (fun f12 => ?_)
      replace h := h f12
      have f12z : fI S 19 = 0 ∨ fI S 19 = 1 := hI.1.2.2.2.1.1 19
      replace h := h f12z
      refine nr_if_eq hx hb f12 dX2_summed_14 (tgt := 24) (by decide) (fun c13 => ?_) (fun c13 => ?_)
      · replace h := h.1 c13
        exact J24 S _ _ _ hI (lv_sub hl [0] rfl) h
      · replace h := h.2 c13
        refine lv_aload_n hx hb dX2_summed_17 rfl (lv_at hl 0 rfl) ?_
        refine cMX2_207 hF hK hI hl.1 hR (by decide) (Nat.le_of_ble_eq_true rfl) ⟨Nat.zero_le _, Nat.zero_le _⟩ h dX2_summed_18 (fun r14 H locs fr14 h hI => ?_)
        replace h := h fr14
        have gr14 : InR r14 := kdP_R (k := 2) (by decide) fr14
        refine nr_if_eq hx hb gr14 dX2_summed_21 (tgt := 52) (by decide) (fun c16 => ?_) (fun c16 => ?_)
        · replace h := h.1 c16
          exact J52 S _ _ _ hI (lv_sub hl [0] rfl) h
        · replace h := h.2 c16
          exact J24 S _ _ _ hI (lv_sub hl [0] rfl) h
  unfold w_M_summed at h
  refine lv_aload_n hx hb dX2_summed_0 rfl (lv_at hl 0 rfl) ?_
  refine nr_iconst hx hb dX2_summed_1 ?_
  refine uMX2_160_17 hF hK hI (by decide) dX2_summed_2 (fun S17 H locs eS17 hI => ?_)
  replace h := h S17 eS17
  refine lv_aload_n hx hb dX2_summed_5 rfl (lv_at hl 0 rfl) ?_
  refine nr_iconst hx hb dX2_summed_6 ?_
  refine uMX2_163_17 hF hK hI (by decide) dX2_summed_7 (fun S18 H locs eS18 hI => ?_)
  replace h := h S18 eS18
  obtain ⟨n0, h⟩ := h
  exact L10 n0 S18 _ _ _ hI (lv_sub hl [0] rfl) h
theorem cMX2_220 {p : Program} {l : Launch} {e : Env} {R : Room} {s : State} {m : MethodId} {args : Array Value} {below : List Frame} {meth : Method} {c : Code} {H : Heap} {locs : List Loc} {Q : State → Prop} {cc : ByteArray} {nL pc : Nat} {ls : Array Slot} {rest : List Value} {cells slots : Nat} {D : va_G} {dA : Nat → ClassId} {ad : Nat → Nat} {A : Nat → Prop} {H0 : Heap} {S : St} {dk : Nat} (hF : CallFix p m c cc nL s args lw_all RX2) (hK : gK D dA s) (hI : sI D dA wM ad A H0 S H locs) (hls : ls.size = nL) (hR : R.frames = dk + 1 ∧ R.locals = 64 * dk + 64) (hd : 5 + 1 ≤ dk) (hW : (rest.map fun v => v.category).sum ≤ 8) (hf : cells ≤ R.cells ∧ slots ≤ R.slots) {K : Int → St → Prop} (h : w_M_summed S K) (hdg : decode cc pc = .ok (.invokevirtual 220, 3)) (kk : ∀ (r : Int) (S1 : St) (H1 : Heap) (locs1 : List Loc), InR r → K r S1 → sI D dA wM ad A H0 S1 H1 locs1 → W p l e R s m args below meth c H1 locs1 cells slots Q (F0 m (pc + 3) ls (iV r :: rest))) : W p l e R s m args below meth c H locs cells slots Q (F0 m (pc) ls (.ref (ad 17) :: rest)) := s_callVi (As := []) (rest := rest) (K := K) hF (t_M_summed l D dA ad S H.size K h) (s_recv hK hI 17 (by decide) wM_17 rfl) (cwV 0 hF.2.2.2.2 (lw_V q1442 q1444 qs70 q109 q1445) rfl rfl rfl (by decide +kernel) ⟨by have h1 := hR.1; have h2 : (rmD 5 0 0).frames = 5 + 1 := rfl; omega, by have h1 := hR.2; have h2 : (rmD 5 0 0).locals = 64 * 5 + 64 := rfl; omega⟩) hK hI rfl hls rfl hW hdg hf kk
theorem cMX2_223 {p : Program} {l : Launch} {e : Env} {R : Room} {s : State} {m : MethodId} {args : Array Value} {below : List Frame} {meth : Method} {c : Code} {H : Heap} {locs : List Loc} {Q : State → Prop} {cc : ByteArray} {nL pc : Nat} {ls : Array Slot} {rest : List Value} {cells slots : Nat} {D : va_G} {dA : Nat → ClassId} {ad : Nat → Nat} {A : Nat → Prop} {H0 : Heap} {S : St} {dk : Nat} (hF : CallFix p m c cc nL s args lw_all RX2) (hK : gK D dA s) (hI : sI D dA wM ad A H0 S H locs) (hls : ls.size = nL) (hR : R.frames = dk + 1 ∧ R.locals = 64 * dk + 64) (hd : 0 + 1 ≤ dk) (hW : (rest.map fun v => v.category).sum ≤ 8) (hf : cells ≤ R.cells ∧ slots ≤ R.slots) {K : Int → Prop} (h : w_M_compareOf S K) (hdg : decode cc pc = .ok (.invokevirtual 223, 3)) (kk : ∀ (r : Int) (H1 : Heap) (locs1 : List Loc), InR r → K r → sI D dA wM ad A H0 S H1 locs1 → W p l e R s m args below meth c H1 locs1 cells slots Q (F0 m (pc + 3) ls (iV r :: rest))) : W p l e R s m args below meth c H locs cells slots Q (F0 m (pc) ls (.ref (ad 17) :: rest)) := s_callVi (As := []) (rest := rest) (K := fun r S' => S' = S ∧ K r) hF (t_M_compareOf l D dA ad S H.size K h) (s_recv hK hI 17 (by decide) wM_17 rfl) (cwV 0 hF.2.2.2.2 (lw_V q1494 q1496 qs83 q109 q1497) rfl rfl rfl (by decide +kernel) ⟨by have h1 := hR.1; have h2 : (rmD 0 0 0).frames = 0 + 1 := rfl; omega, by have h1 := hR.2; have h2 : (rmD 0 0 0).locals = 64 * 0 + 64 := rfl; omega⟩) hK hI rfl hls rfl hW hdg hf (fun r S1 H1 locs1 f hk hI1 => by obtain ⟨rfl, hk⟩ := hk; exact kk r H1 locs1 f hk hI1)
set_option maxHeartbeats 4000000 in
theorem t_M_asks (l : Launch) (D : va_G) (dA : Nat → ClassId) (ad : Nat → Nat) (S : St) (sz : Nat) (K : Int → St → Prop) (h : w_M_asks S K) : Met l yX2_asks (ws_ yX2_asks cX2_asks 5 (Option.some Jvm.ClassFile.FieldType.int)) (rmD 6 0 0) (va_Pc [.ref (ad 17)] (sPre D dA wM ad S sz)) (va_Qi (fun r S' => K r.toInt S') (sPost D dA wM ad (wA wM ad S sz)) (wA wM ad S sz)) 0 0 (wA wM ad S sz) := by
  refine Met.ofW (cc := cX2_asks) (maxL := 5) (ret := (Option.some Jvm.ClassFile.FieldType.int)) (by decide) rfl ?_
  intro p e s m args below meth c s₁ B hml hv
  obtain ⟨rfl, hsz, hK, hC⟩ := hv
  have hx := B.exec
  have hb := B.bytes
  have hr := B.returns
  have hlocks := B.notSynchronized
  have hts := atoms_spec (ws := (ws_ yX2_asks cX2_asks 5 (Option.some Jvm.ClassFile.FieldType.int))) B.pre
  have hts : ∀ w ∈ lw_all, w.before _ s = true := fun w h => hts w (List.mem_cons_of_mem _ h)
  have hown : s.vm.findClass RX2 = some m.cls := findClass_of_methodNamed B.named
  clear B
  subst hsz
  have hI : sI D dA wM ad (wA wM ad S s.heap.size) s.heap S s.heap [] := hC.start
  clear hC
  generalize wA wM ad S s.heap.size = A at hI ⊢
  have hl := lv_entry ([.ref (ad 17)] : List Value) (n := 5) (Nat.le_of_ble_eq_true rfl)
  rw [lg_entry_eq]
  generalize (lg_sl ([.ref (ad 17)] : List Value) ++ List.replicate (5 - (lg_sl ([.ref (ad 17)] : List Value)).length) Slot.unset).toArray = ls at hl ⊢
  have hl : lv_has ls 5 [(0, .ref (ad 17))] := hl
  have hF : CallFix p m c cX2_asks 5 s _ lw_all RX2 := ⟨hx, hb, hml, hown, hts⟩
  have hR : (headSpec (ws_ yX2_asks cX2_asks 5 (Option.some Jvm.ClassFile.FieldType.int)) (rmD 6 0 0)).room.frames = 6 + 1 ∧ (headSpec (ws_ yX2_asks cX2_asks 5 (Option.some Jvm.ClassFile.FieldType.int)) (rmD 6 0 0)).room.locals = 64 * 6 + 64 := ⟨rfl, rfl⟩
  generalize (headSpec (ws_ yX2_asks cX2_asks 5 (Option.some Jvm.ClassFile.FieldType.int)) (rmD 6 0 0)).room = R at hR ⊢
  generalize ([.ref (ad 17)] : List Value).toArray = args at hts hF ⊢
  generalize hQ : MQ below _ _ _ _ _ _ = Q
  have L105 : ∀ (x1 : Int), InR x1 → ∀ (n105 : Nat) (x4 : Int) (S : St) (H : Heap) (locs : List Loc) (ls : Array Slot), InR x4 → sI D dA wM ad A s.heap S H locs → lv_has ls 5 [(0, .ref (ad 17)), (1, iV x1), (4, iV x4)] → l_M_asks_105 x1 K n105 x4 S → W p l e R s m args below meth c H locs 0 0 Q (F0 m 105 ls []) := by
    intro x1 rx1 n105
    induction n105 with
    | zero => intro x4 S H locs ls rx4 hI hl h; exact False.elim h
    | succ n105 ih105 =>
      intro x4 S H locs ls rx4 hI hl h
      unfold l_M_asks_105 at h
      refine lv_iload hx hb dX2_asks_105 (lv_at hl 2 rfl) ?_
      refine lv_iload_n hx hb dX2_asks_107 rfl (lv_at hl 1 rfl) ?_
      refine nr_icmp_ge hx hb rx4 rx1 dX2_asks_108 (tgt := 124) (by decide) (fun c1 => ?_) (fun c1 => ?_)
      · replace h := h.1 c1
        refine nr_iconst hx hb dX2_asks_124 ?_
        rw [← hQ]; exact s_iret (K := K) hx hb hr hlocks hI (by decide) h dX2_asks_125
      · replace h := h.2 c1
        refine lv_aload_n hx hb dX2_asks_111 rfl (lv_at hl 0 rfl) ?_
        refine nr_bipush hx hb dX2_asks_112 (by decide) ?_
        refine nr_iconst hx hb dX2_asks_114 ?_
        refine cMX2_170 hF hK hI hl.1 hR (by decide) (Nat.le_of_ble_eq_true rfl) ⟨Nat.zero_le _, Nat.zero_le _⟩ (by decide) (by decide) h dX2_asks_115 (fun S3 H locs h hI => ?_)
        have f4 := h.1; replace h := h.2
        refine nr_iinc (lv' := [(4, iV (x4 + 1)), (0, .ref (ad 17)), (1, iV x1)]) hx hb dX2_asks_118 hl (k := 2) rfl (by decide) rfl (fun ls hl => ?_)
        refine lv_goto (tgt := 105) hx hb dX2_asks_121 (by decide) ?_
        exact ih105 (x4 + 1) S3 _ _ _ f4 hI (lv_sub hl [1, 2, 0] rfl) h
  have J49 : ∀ (x1 : Int) (S : St) (H : Heap) (locs : List Loc) (ls : Array Slot), InR x1 → sI D dA wM ad A s.heap S H locs → lv_has ls 5 [(0, .ref (ad 17)), (1, iV x1)] → j_M_asks_49 x1 S K → W p l e R s m args below meth c H locs 0 0 Q (F0 m 49 ls []) := by
    intro x1 S H locs ls rx1 hI hl h
    unfold j_M_asks_49 at h
    refine lv_aload_n hx hb dX2_asks_49 rfl (lv_at hl 0 rfl) ?_
    refine cMX2_220 hF hK hI hl.1 hR (by decide) (Nat.le_of_ble_eq_true rfl) ⟨Nat.zero_le _, Nat.zero_le _⟩ h dX2_asks_50 (fun r5 S6 H locs fr5 h hI => ?_)
    replace h := h fr5
    refine lv_istore_n (lv' := [(2, iV r5), (0, .ref (ad 17)), (1, iV x1)]) hx hb dX2_asks_53 rfl hl (by decide) rfl (fun ls hl => ?_)
    refine lv_iload_n hx hb dX2_asks_54 rfl (lv_at hl 0 rfl) ?_
    refine nr_if_eq hx hb fr5 dX2_asks_55 (tgt := 60) (by decide) (fun c7 => ?_) (fun c7 => ?_)
    · replace h := h.1 c7
      refine lv_aload_n hx hb dX2_asks_60 rfl (lv_at hl 1 rfl) ?_
      refine cMX2_223 hF hK hI hl.1 hR (by decide) (Nat.le_of_ble_eq_true rfl) ⟨Nat.zero_le _, Nat.zero_le _⟩ h dX2_asks_61 (fun r8 H locs fr8 h hI => ?_)
      replace h := h fr8
      refine lv_istore_n (lv' := [(3, iV r8), (2, iV r5), (0, .ref (ad 17)), (1, iV x1)]) hx hb dX2_asks_64 rfl hl (by decide) rfl (fun ls hl => ?_)
      refine lv_iload_n hx hb dX2_asks_65 rfl (lv_at hl 0 rfl) ?_
      refine nr_if_ge hx hb fr8 dX2_asks_66 (tgt := 71) (by decide) (fun c10 => ?_) (fun c10 => ?_)
      · replace h := h.1 c10
        refine lv_aload_n hx hb dX2_asks_71 rfl (lv_at hl 2 rfl) ?_
        refine cMX2_184 hF hK hI hl.1 hR (by decide) (Nat.le_of_ble_eq_true rfl) ⟨Nat.zero_le _, Nat.zero_le _⟩ h dX2_asks_72 (fun S12 H locs h hI => ?_)
        refine lv_aload_n hx hb dX2_asks_75 rfl (lv_at hl 2 rfl) ?_
        refine cMX2_220 hF hK hI hl.1 hR (by decide) (Nat.le_of_ble_eq_true rfl) ⟨Nat.zero_le _, Nat.zero_le _⟩ h dX2_asks_76 (fun r13 S14 H locs fr13 h hI => ?_)
        replace h := h fr13
        refine lv_istore_n (lv' := [(2, iV r13), (3, iV r8), (0, .ref (ad 17)), (1, iV x1)]) hx hb dX2_asks_79 rfl hl (by decide) rfl (fun ls hl => ?_)
        refine lv_iload_n hx hb dX2_asks_80 rfl (lv_at hl 0 rfl) ?_
        refine nr_if_eq hx hb fr13 dX2_asks_81 (tgt := 86) (by decide) (fun c15 => ?_) (fun c15 => ?_)
        · replace h := h.1 c15
          refine lv_aload_n hx hb dX2_asks_86 rfl (lv_at hl 2 rfl) ?_
          refine lv_iload_n hx hb dX2_asks_87 rfl (lv_at hl 1 rfl) ?_
          refine nr_iconst hx hb dX2_asks_88 ?_
          refine cMX2_170 hF hK hI hl.1 hR (by decide) (Nat.le_of_ble_eq_true rfl) ⟨Nat.zero_le _, Nat.zero_le _⟩ fr8 (by decide) h dX2_asks_89 (fun S17 H locs h hI => ?_)
          refine lv_aload_n hx hb dX2_asks_92 rfl (lv_at hl 2 rfl) ?_
          refine lv_dup hx hb dX2_asks_93 rfl ?_
          refine gMX2_167_17 hF hK hI dX2_asks_94 (fun f18 => ?_)
          replace h := h f18
          refine lv_iload_n hx hb dX2_asks_97 rfl (lv_at hl 3 rfl) ?_
          have f19 := h.1; replace h := h.2
          refine nr_isub hx hb dX2_asks_98 ?_
          refine uMX2_167_17 hF hK hI f19 dX2_asks_99 (fun S20 H locs eS20 hI => ?_)
          replace h := h S20 eS20
          refine nr_iconst hx hb dX2_asks_102 ?_
          refine lv_istore (lv' := [(4, iV 0), (2, iV r13), (3, iV r8), (0, .ref (ad 17)), (1, iV x1)]) hx hb dX2_asks_103 hl (by decide) rfl (fun ls hl => ?_)
          obtain ⟨n0, h⟩ := h
          exact L105 x1 rx1 n0 0 S20 _ _ _ (by decide) hI (lv_sub hl [3, 4, 0] rfl) h
        · replace h := h.2 c15
          refine lv_iload_n hx hb dX2_asks_84 rfl (lv_at hl 0 rfl) ?_
          rw [← hQ]; exact s_iret (K := K) hx hb hr hlocks hI fr13 h dX2_asks_85
      · replace h := h.2 c10
        refine nr_iconst hx hb dX2_asks_69 ?_
        rw [← hQ]; exact s_iret (K := K) hx hb hr hlocks hI (by decide) h dX2_asks_70
    · replace h := h.2 c7
      refine lv_iload_n hx hb dX2_asks_58 rfl (lv_at hl 0 rfl) ?_
      rw [← hQ]; exact s_iret (K := K) hx hb hr hlocks hI fr5 h dX2_asks_59
  have L2 : ∀ (n2 : Nat) (x1 : Int) (S : St) (H : Heap) (locs : List Loc) (ls : Array Slot), InR x1 → sI D dA wM ad A s.heap S H locs → lv_has ls 5 [(0, .ref (ad 17)), (1, iV x1)] → l_M_asks_2 K (fun (z1 : Int) (zS : St) => j_M_asks_49 z1 zS K) n2 x1 S → W p l e R s m args below meth c H locs 0 0 Q (F0 m 2 ls []) := by
    intro n2
    induction n2 with
    | zero => intro x1 S H locs ls rx1 hI hl h; exact False.elim h
    | succ n2 ih2 =>
      intro x1 S H locs ls rx1 hI hl h
      unfold l_M_asks_2 at h
      refine lv_aload_n hx hb dX2_asks_2 rfl (lv_at hl 0 rfl) ?_
      refine nr_bipush hx hb dX2_asks_3 (by decide) ?_
      refine nr_bipush hx hb dX2_asks_5 (by decide) ?_
      refine nr_bipush hx hb dX2_asks_7 (by decide) ?_
      refine cMX2_146 hF hK hI hl.1 hR (by decide) (Nat.le_of_ble_eq_true rfl) ⟨Nat.zero_le _, Nat.zero_le _⟩ (by decide) (by decide) (by decide) h dX2_asks_9 (fun r21 H locs fr21 h hI => ?_)
      replace h := h fr21
      refine cMX2_216 hF hK hI hl.1 hR (by decide) (Nat.le_of_ble_eq_true rfl) ⟨Nat.zero_le _, Nat.zero_le _⟩ fr21 h dX2_asks_12 (fun r23 H locs fr23 h hI => ?_)
      replace h := h fr23
      have gr23 : InR r23 := kdP_R (k := 2) (by decide) fr23
      refine nr_if_eq hx hb gr23 dX2_asks_15 (tgt := 49) (by decide) (fun c25 => ?_) (fun c25 => ?_)
      · replace h := h.1 c25
        exact J49 x1 S _ _ _ rx1 hI (lv_sub hl [0, 1] rfl) h
      · replace h := h.2 c25
        refine lv_aload_n hx hb dX2_asks_18 rfl (lv_at hl 0 rfl) ?_
        refine gMX2_167_17 hF hK hI dX2_asks_19 (fun f26 => ?_)
        replace h := h f26
        refine nr_bipush hx hb dX2_asks_22 (by decide) ?_
        refine nr_icmp_ne hx hb f26 (by decide) dX2_asks_24 (tgt := 29) (by decide) (fun c27 => ?_) (fun c27 => ?_)
        · replace h := h.1 c27
          refine lv_aload_n hx hb dX2_asks_29 rfl (lv_at hl 0 rfl) ?_
          refine lv_dup hx hb dX2_asks_30 rfl ?_
          refine gMX2_167_17 hF hK hI dX2_asks_31 (fun f28 => ?_)
          refine nr_iconst hx hb dX2_asks_34 ?_
          have f29 := h.1; replace h := h.2
          refine nr_iadd hx hb dX2_asks_35 ?_
          refine uMX2_167_17 hF hK hI f29 dX2_asks_36 (fun S30 H locs eS30 hI => ?_)
          replace h := h S30 eS30
          have f31 := h.1; replace h := h.2
          refine nr_iinc (lv' := [(1, iV (x1 + 1)), (0, .ref (ad 17))]) hx hb dX2_asks_39 hl (k := 1) rfl (by decide) rfl (fun ls hl => ?_)
          refine lv_aload_n hx hb dX2_asks_42 rfl (lv_at hl 1 rfl) ?_
          refine cMX2_184 hF hK hI hl.1 hR (by decide) (Nat.le_of_ble_eq_true rfl) ⟨Nat.zero_le _, Nat.zero_le _⟩ h dX2_asks_43 (fun S33 H locs h hI => ?_)
          refine lv_goto (tgt := 2) hx hb dX2_asks_46 (by decide) ?_
          exact ih2 (x1 + 1) S33 _ _ _ f31 hI (lv_sub hl [1, 0] rfl) h
        · replace h := h.2 c27
          refine nr_iconst hx hb dX2_asks_27 ?_
          rw [← hQ]; exact s_iret (K := K) hx hb hr hlocks hI (by decide) h dX2_asks_28
  unfold w_M_asks at h
  refine nr_iconst hx hb dX2_asks_0 ?_
  refine lv_istore_n (lv' := [(1, iV 0), (0, .ref (ad 17))]) hx hb dX2_asks_1 rfl hl (by decide) rfl (fun ls hl => ?_)
  obtain ⟨n0, h⟩ := h
  exact L2 n0 0 S _ _ _ (by decide) hI (lv_sub hl [1, 0] rfl) h
theorem cMX2_226 {p : Program} {l : Launch} {e : Env} {R : Room} {s : State} {m : MethodId} {args : Array Value} {below : List Frame} {meth : Method} {c : Code} {H : Heap} {locs : List Loc} {Q : State → Prop} {cc : ByteArray} {nL pc : Nat} {ls : Array Slot} {rest : List Value} {cells slots : Nat} {D : va_G} {dA : Nat → ClassId} {ad : Nat → Nat} {A : Nat → Prop} {H0 : Heap} {S : St} {dk : Nat} (hF : CallFix p m c cc nL s args lw_all RX2) (hK : gK D dA s) (hI : sI D dA wM ad A H0 S H locs) (hls : ls.size = nL) (hR : R.frames = dk + 1 ∧ R.locals = 64 * dk + 64) (hd : 6 + 1 ≤ dk) (hW : (rest.map fun v => v.category).sum ≤ 8) (hf : cells ≤ R.cells ∧ slots ≤ R.slots) {K : Int → St → Prop} (h : w_M_asks S K) (hdg : decode cc pc = .ok (.invokevirtual 226, 3)) (kk : ∀ (r : Int) (S1 : St) (H1 : Heap) (locs1 : List Loc), InR r → K r S1 → sI D dA wM ad A H0 S1 H1 locs1 → W p l e R s m args below meth c H1 locs1 cells slots Q (F0 m (pc + 3) ls (iV r :: rest))) : W p l e R s m args below meth c H locs cells slots Q (F0 m (pc) ls (.ref (ad 17) :: rest)) := s_callVi (As := []) (rest := rest) (K := K) hF (t_M_asks l D dA ad S H.size K h) (s_recv hK hI 17 (by decide) wM_17 rfl) (cwV 0 hF.2.2.2.2 (lw_V q1490 q1492 qs82 q109 q1493) rfl rfl rfl (by decide +kernel) ⟨by have h1 := hR.1; have h2 : (rmD 6 0 0).frames = 6 + 1 := rfl; omega, by have h1 := hR.2; have h2 : (rmD 6 0 0).locals = 64 * 6 + 64 := rfl; omega⟩) hK hI rfl hls rfl hW hdg hf kk
set_option maxHeartbeats 4000000 in
theorem t_M_either (l : Launch) (D : va_G) (dA : Nat → ClassId) (ad : Nat → Nat) (S : St) (sz : Nat) (K : Int → St → Prop) (h : w_M_either S K) : Met l yX2_either (ws_ yX2_either cX2_either 6 (Option.some Jvm.ClassFile.FieldType.int)) (rmD 7 0 0) (va_Pc [.ref (ad 17)] (sPre D dA wM ad S sz)) (va_Qi (fun r S' => K r.toInt S') (sPost D dA wM ad (wA wM ad S sz)) (wA wM ad S sz)) 0 0 (wA wM ad S sz) := by
  refine Met.ofW (cc := cX2_either) (maxL := 6) (ret := (Option.some Jvm.ClassFile.FieldType.int)) (by decide) rfl ?_
  intro p e s m args below meth c s₁ B hml hv
  obtain ⟨rfl, hsz, hK, hC⟩ := hv
  have hx := B.exec
  have hb := B.bytes
  have hr := B.returns
  have hlocks := B.notSynchronized
  have hts := atoms_spec (ws := (ws_ yX2_either cX2_either 6 (Option.some Jvm.ClassFile.FieldType.int))) B.pre
  have hts : ∀ w ∈ lw_all, w.before _ s = true := fun w h => hts w (List.mem_cons_of_mem _ h)
  have hown : s.vm.findClass RX2 = some m.cls := findClass_of_methodNamed B.named
  clear B
  subst hsz
  have hI : sI D dA wM ad (wA wM ad S s.heap.size) s.heap S s.heap [] := hC.start
  clear hC
  generalize wA wM ad S s.heap.size = A at hI ⊢
  have hl := lv_entry ([.ref (ad 17)] : List Value) (n := 6) (Nat.le_of_ble_eq_true rfl)
  rw [lg_entry_eq]
  generalize (lg_sl ([.ref (ad 17)] : List Value) ++ List.replicate (6 - (lg_sl ([.ref (ad 17)] : List Value)).length) Slot.unset).toArray = ls at hl ⊢
  have hl : lv_has ls 6 [(0, .ref (ad 17))] := hl
  have hF : CallFix p m c cX2_either 6 s _ lw_all RX2 := ⟨hx, hb, hml, hown, hts⟩
  have hR : (headSpec (ws_ yX2_either cX2_either 6 (Option.some Jvm.ClassFile.FieldType.int)) (rmD 7 0 0)).room.frames = 7 + 1 ∧ (headSpec (ws_ yX2_either cX2_either 6 (Option.some Jvm.ClassFile.FieldType.int)) (rmD 7 0 0)).room.locals = 64 * 7 + 64 := ⟨rfl, rfl⟩
  generalize (headSpec (ws_ yX2_either cX2_either 6 (Option.some Jvm.ClassFile.FieldType.int)) (rmD 7 0 0)).room = R at hR ⊢
  generalize ([.ref (ad 17)] : List Value).toArray = args at hts hF ⊢
  generalize hQ : MQ below _ _ _ _ _ _ = Q
  have L6 : ∀ (n6 : Nat) (x1 : Int) (x2 : Int) (x3 : Int) (S : St) (H : Heap) (locs : List Loc) (ls : Array Slot), InR x1 → InR x2 → InR x3 → sI D dA wM ad A s.heap S H locs → lv_has ls 6 [(0, .ref (ad 17)), (1, iV x1), (2, iV x2), (3, iV x3)] → l_M_either_6 K n6 x1 x2 x3 S → W p l e R s m args below meth c H locs 0 0 Q (F0 m 6 ls []) := by
    intro n6
    induction n6 with
    | zero => intro x1 x2 x3 S H locs ls rx1 rx2 rx3 hI hl h; exact False.elim h
    | succ n6 ih6 =>
      intro x1 x2 x3 S H locs ls rx1 rx2 rx3 hI hl h
      have J116 : ∀ (x1 : Int) (x2 : Int) (x3 : Int) (S : St) (H : Heap) (locs : List Loc) (ls : Array Slot), InR x1 → InR x2 → InR x3 → sI D dA wM ad A s.heap S H locs → lv_has ls 6 [(0, .ref (ad 17)), (1, iV x1), (2, iV x2), (3, iV x3)] → j_M_either_116 x1 x2 x3 S K (l_M_either_6 K n6) → W p l e R s m args below meth c H locs 0 0 Q (F0 m 116 ls []) := by
        intro x1 x2 x3 S H locs ls rx1 rx2 rx3 hI hl h
        unfold j_M_either_116 at h
        refine lv_goto (tgt := 6) hx hb dX2_either_116 (by decide) ?_
        exact ih6 x1 x2 x3 S _ _ _ rx1 rx2 rx3 hI (lv_sub hl [0, 1, 2, 3] rfl) h
      have J107 : ∀ (x1 : Int) (x2 : Int) (y0 : Int) (S : St) (H : Heap) (locs : List Loc) (ls : Array Slot), InR x1 → InR x2 → InR y0 → sI D dA wM ad A s.heap S H locs → lv_has ls 6 [(0, .ref (ad 17)), (1, iV x1), (2, iV x2)] → j_M_either_107 x1 x2 y0 S K (l_M_either_6 K n6) → W p l e R s m args below meth c H locs 0 0 Q (F0 m 107 ls [iV y0]) := by
        intro x1 x2 y0 S H locs ls rx1 rx2 ry0 hI hl h
        unfold j_M_either_107 at h
        refine lv_istore_n (lv' := [(3, iV y0), (0, .ref (ad 17)), (1, iV x1), (2, iV x2)]) hx hb dX2_either_107 rfl hl (by decide) rfl (fun ls hl => ?_)
        refine lv_iload_n hx hb dX2_either_108 rfl (lv_at hl 0 rfl) ?_
        refine nr_if_eq hx hb ry0 dX2_either_109 (tgt := 116) (by decide) (fun c1 => ?_) (fun c1 => ?_)
        · replace h := h.1 c1
          exact J116 x1 x2 y0 S _ _ _ rx1 rx2 ry0 hI (lv_sub hl [1, 2, 3, 0] rfl) h
        · replace h := h.2 c1
          refine lv_aload_n hx hb dX2_either_112 rfl (lv_at hl 1 rfl) ?_
          refine cMX2_184 hF hK hI hl.1 hR (by decide) (Nat.le_of_ble_eq_true rfl) ⟨Nat.zero_le _, Nat.zero_le _⟩ h dX2_either_113 (fun S3 H locs h hI => ?_)
          exact J116 x1 x2 y0 S3 _ _ _ rx1 rx2 ry0 hI (lv_sub hl [1, 2, 3, 0] rfl) h
      have J102 : ∀ (x1 : Int) (x2 : Int) (S : St) (H : Heap) (locs : List Loc) (ls : Array Slot), InR x1 → InR x2 → sI D dA wM ad A s.heap S H locs → lv_has ls 6 [(0, .ref (ad 17)), (1, iV x1), (2, iV x2)] → j_M_either_102 x1 x2 S K (l_M_either_6 K n6) → W p l e R s m args below meth c H locs 0 0 Q (F0 m 102 ls []) := by
        intro x1 x2 S H locs ls rx1 rx2 hI hl h
        unfold j_M_either_102 at h
        refine nr_iconst hx hb dX2_either_102 ?_
        refine lv_goto (tgt := 107) hx hb dX2_either_103 (by decide) ?_
        exact J107 x1 x2 1 S _ _ _ rx1 rx2 (by decide) hI (lv_sub hl [0, 1, 2] rfl) h
      have J93 : ∀ (x1 : Int) (x2 : Int) (x5 : Int) (S : St) (H : Heap) (locs : List Loc) (ls : Array Slot), InR x1 → InR x2 → InR x5 → sI D dA wM ad A s.heap S H locs → lv_has ls 6 [(0, .ref (ad 17)), (1, iV x1), (2, iV x2), (5, iV x5)] → j_M_either_93 x1 x2 x5 S K (l_M_either_6 K n6) → W p l e R s m args below meth c H locs 0 0 Q (F0 m 93 ls []) := by
        intro x1 x2 x5 S H locs ls rx1 rx2 rx5 hI hl h
        unfold j_M_either_93 at h
        refine lv_iload_n hx hb dX2_either_93 rfl (lv_at hl 1 rfl) ?_
        refine nr_if_ne hx hb rx1 dX2_either_94 (tgt := 102) (by decide) (fun c4 => ?_) (fun c4 => ?_)
        · replace h := h.1 c4
          exact J102 x1 x2 S _ _ _ rx1 rx2 hI (lv_sub hl [0, 1, 2] rfl) h
        · replace h := h.2 c4
          refine lv_iload hx hb dX2_either_97 (lv_at hl 3 rfl) ?_
          refine nr_if_eq hx hb rx5 dX2_either_99 (tgt := 106) (by decide) (fun c5 => ?_) (fun c5 => ?_)
          · replace h := h.1 c5
            refine nr_iconst hx hb dX2_either_106 ?_
            exact J107 x1 x2 0 S _ _ _ rx1 rx2 (by decide) hI (lv_sub hl [0, 1, 2] rfl) h
          · replace h := h.2 c5
            exact J102 x1 x2 S _ _ _ rx1 rx2 hI (lv_sub hl [0, 1, 2] rfl) h
      have J90 : ∀ (x1 : Int) (x5 : Int) (S : St) (H : Heap) (locs : List Loc) (ls : Array Slot), InR x1 → InR x5 → sI D dA wM ad A s.heap S H locs → lv_has ls 6 [(0, .ref (ad 17)), (1, iV x1), (5, iV x5)] → j_M_either_90 x1 x5 S K (l_M_either_6 K n6) → W p l e R s m args below meth c H locs 0 0 Q (F0 m 90 ls []) := by
        intro x1 x5 S H locs ls rx1 rx5 hI hl h
        unfold j_M_either_90 at h
        refine lv_iload hx hb dX2_either_90 (lv_at hl 2 rfl) ?_
        refine lv_istore_n (lv' := [(2, iV x5), (0, .ref (ad 17)), (1, iV x1), (5, iV x5)]) hx hb dX2_either_92 rfl hl (by decide) rfl (fun ls hl => ?_)
        exact J93 x1 x5 x5 S _ _ _ rx1 rx5 rx5 hI (lv_sub hl [1, 2, 0, 3] rfl) h
      have J73 : ∀ (x1 : Int) (x2 : Int) (y0 : Int) (S : St) (H : Heap) (locs : List Loc) (ls : Array Slot), InR x1 → InR x2 → InR y0 → sI D dA wM ad A s.heap S H locs → lv_has ls 6 [(0, .ref (ad 17)), (1, iV x1), (2, iV x2)] → j_M_either_73 x1 x2 y0 S K (l_M_either_6 K n6) → W p l e R s m args below meth c H locs 0 0 Q (F0 m 73 ls [iV y0]) := by
        intro x1 x2 y0 S H locs ls rx1 rx2 ry0 hI hl h
        unfold j_M_either_73 at h
        refine lv_istore (lv' := [(5, iV y0), (0, .ref (ad 17)), (1, iV x1), (2, iV x2)]) hx hb dX2_either_73 hl (by decide) rfl (fun ls hl => ?_)
        refine lv_iload_n hx hb dX2_either_75 rfl (lv_at hl 2 rfl) ?_
        refine nr_if_ne hx hb rx1 dX2_either_76 (tgt := 93) (by decide) (fun c6 => ?_) (fun c6 => ?_)
        · replace h := h.1 c6
          exact J93 x1 x2 y0 S _ _ _ rx1 rx2 ry0 hI (lv_sub hl [1, 2, 3, 0] rfl) h
        · replace h := h.2 c6
          refine lv_iload_n hx hb dX2_either_79 rfl (lv_at hl 3 rfl) ?_
          refine nr_if_eq hx hb rx2 dX2_either_80 (tgt := 90) (by decide) (fun c7 => ?_) (fun c7 => ?_)
          · replace h := h.1 c7
            exact J90 x1 y0 S _ _ _ rx1 ry0 hI (lv_sub hl [1, 2, 0] rfl) h
          · replace h := h.2 c7
            refine lv_aload_n hx hb dX2_either_83 rfl (lv_at hl 1 rfl) ?_
            refine nr_bipush hx hb dX2_either_84 (by decide) ?_
            refine nr_iconst hx hb dX2_either_86 ?_
            refine cMX2_170 hF hK hI hl.1 hR (by decide) (Nat.le_of_ble_eq_true rfl) ⟨Nat.zero_le _, Nat.zero_le _⟩ (by decide) (by decide) h dX2_either_87 (fun S9 H locs h hI => ?_)
            exact J90 x1 y0 S9 _ _ _ rx1 ry0 hI (lv_sub hl [1, 2, 0] rfl) h
      have J72 : ∀ (x1 : Int) (x2 : Int) (S : St) (H : Heap) (locs : List Loc) (ls : Array Slot), InR x1 → InR x2 → sI D dA wM ad A s.heap S H locs → lv_has ls 6 [(0, .ref (ad 17)), (1, iV x1), (2, iV x2)] → j_M_either_72 x1 x2 S K (l_M_either_6 K n6) → W p l e R s m args below meth c H locs 0 0 Q (F0 m 72 ls []) := by
        intro x1 x2 S H locs ls rx1 rx2 hI hl h
        unfold j_M_either_72 at h
        refine nr_iconst hx hb dX2_either_72 ?_
        exact J73 x1 x2 0 S _ _ _ rx1 rx2 (by decide) hI (lv_sub hl [0, 1, 2] rfl) h
      have J35 : ∀ (x2 : Int) (S : St) (H : Heap) (locs : List Loc) (ls : Array Slot), InR x2 → sI D dA wM ad A s.heap S H locs → lv_has ls 6 [(0, .ref (ad 17)), (2, iV x2)] → j_M_either_35 x2 S K (l_M_either_6 K n6) → W p l e R s m args below meth c H locs 0 0 Q (F0 m 35 ls []) := by
        intro x2 S H locs ls rx2 hI hl h
        unfold j_M_either_35 at h
        refine lv_aload_n hx hb dX2_either_35 rfl (lv_at hl 0 rfl) ?_
        refine nr_bipush hx hb dX2_either_36 (by decide) ?_
        refine nr_bipush hx hb dX2_either_38 (by decide) ?_
        refine nr_bipush hx hb dX2_either_40 (by decide) ?_
        refine cMX2_146 hF hK hI hl.1 hR (by decide) (Nat.le_of_ble_eq_true rfl) ⟨Nat.zero_le _, Nat.zero_le _⟩ (by decide) (by decide) (by decide) h dX2_either_42 (fun r10 H locs fr10 h hI => ?_)
        replace h := h fr10
        refine cMX2_216 hF hK hI hl.1 hR (by decide) (Nat.le_of_ble_eq_true rfl) ⟨Nat.zero_le _, Nat.zero_le _⟩ fr10 h dX2_either_45 (fun r12 H locs fr12 h hI => ?_)
        replace h := h fr12
        have gr12 : InR r12 := kdP_R (k := 2) (by decide) fr12
        refine lv_istore_n (lv' := [(1, iV r12), (0, .ref (ad 17)), (2, iV x2)]) hx hb dX2_either_48 rfl hl (by decide) rfl (fun ls hl => ?_)
        refine lv_aload_n hx hb dX2_either_49 rfl (lv_at hl 1 rfl) ?_
        refine gMX2_129_17 hF hK hI dX2_either_50 (fun f14 => ?_)
        replace h := h f14
        refine nr_iconst hx hb dX2_either_53 ?_
        refine nr_icmp_ne hx hb f14 (by decide) dX2_either_54 (tgt := 72) (by decide) (fun c15 => ?_) (fun c15 => ?_)
        · replace h := h.1 c15
          exact J72 r12 x2 S _ _ _ gr12 rx2 hI (lv_sub hl [1, 0, 2] rfl) h
        · replace h := h.2 c15
          refine lv_aload_n hx hb dX2_either_57 rfl (lv_at hl 1 rfl) ?_
          refine gMX2_142_17 hF hK hI dX2_either_58 (fun f16 => ?_)
          replace h := h f16
          refine nr_ldc2 (v := 28530) hx hb hown (by decide) (hts _ q1498) dX2_either_61 ?_
          refine nr_lcmp_ne hx hb f16 (by decide) dX2_either_64 dX2_either_65 (tgt := 72) (by decide) (fun c17 => ?_) (fun c17 => ?_)
          · replace h := h.1 c17
            exact J72 r12 x2 S _ _ _ gr12 rx2 hI (lv_sub hl [1, 0, 2] rfl) h
          · replace h := h.2 c17
            refine nr_iconst hx hb dX2_either_68 ?_
            refine lv_goto (tgt := 73) hx hb dX2_either_69 (by decide) ?_
            exact J73 r12 x2 1 S _ _ _ gr12 rx2 (by decide) hI (lv_sub hl [1, 0, 2] rfl) h
      unfold l_M_either_6 at h
      refine lv_iload_n hx hb dX2_either_6 rfl (lv_at hl 3 rfl) ?_
      refine nr_if_eq hx hb rx3 dX2_either_7 (tgt := 119) (by decide) (fun c18 => ?_) (fun c18 => ?_)
      · replace h := h.1 c18
        refine nr_iconst hx hb dX2_either_119 ?_
        rw [← hQ]; exact s_iret (K := K) hx hb hr hlocks hI (by decide) h dX2_either_120
      · replace h := h.2 c18
        refine lv_aload_n hx hb dX2_either_10 rfl (lv_at hl 0 rfl) ?_
        refine cMX2_226 hF hK hI hl.1 hR (by decide) (Nat.le_of_ble_eq_true rfl) ⟨Nat.zero_le _, Nat.zero_le _⟩ h dX2_either_11 (fun r19 S20 H locs fr19 h hI => ?_)
        replace h := h fr19
        refine lv_istore (lv' := [(4, iV r19), (0, .ref (ad 17)), (1, iV x1), (2, iV x2), (3, iV x3)]) hx hb dX2_either_14 hl (by decide) rfl (fun ls hl => ?_)
        refine lv_iload hx hb dX2_either_16 (lv_at hl 0 rfl) ?_
        refine nr_if_eq hx hb fr19 dX2_either_18 (tgt := 24) (by decide) (fun c21 => ?_) (fun c21 => ?_)
        · replace h := h.1 c21
          refine lv_iload_n hx hb dX2_either_24 rfl (lv_at hl 2 rfl) ?_
          refine nr_if_eq hx hb rx1 dX2_either_25 (tgt := 35) (by decide) (fun c22 => ?_) (fun c22 => ?_)
          · replace h := h.1 c22
            exact J35 x2 S20 _ _ _ rx2 hI (lv_sub hl [1, 3] rfl) h
          · replace h := h.2 c22
            refine lv_aload_n hx hb dX2_either_28 rfl (lv_at hl 1 rfl) ?_
            refine nr_bipush hx hb dX2_either_29 (by decide) ?_
            refine nr_iconst hx hb dX2_either_31 ?_
            refine cMX2_170 hF hK hI hl.1 hR (by decide) (Nat.le_of_ble_eq_true rfl) ⟨Nat.zero_le _, Nat.zero_le _⟩ (by decide) (by decide) h dX2_either_32 (fun S24 H locs h hI => ?_)
            exact J35 x2 S24 _ _ _ rx2 hI (lv_sub hl [1, 3] rfl) h
        · replace h := h.2 c21
          refine lv_iload hx hb dX2_either_21 (lv_at hl 0 rfl) ?_
          rw [← hQ]; exact s_iret (K := K) hx hb hr hlocks hI fr19 h dX2_either_23
  unfold w_M_either at h
  refine nr_iconst hx hb dX2_either_0 ?_
  refine lv_istore_n (lv' := [(1, iV 0), (0, .ref (ad 17))]) hx hb dX2_either_1 rfl hl (by decide) rfl (fun ls hl => ?_)
  refine nr_iconst hx hb dX2_either_2 ?_
  refine lv_istore_n (lv' := [(2, iV 0), (1, iV 0), (0, .ref (ad 17))]) hx hb dX2_either_3 rfl hl (by decide) rfl (fun ls hl => ?_)
  refine nr_iconst hx hb dX2_either_4 ?_
  refine lv_istore_n (lv' := [(3, iV 1), (2, iV 0), (1, iV 0), (0, .ref (ad 17))]) hx hb dX2_either_5 rfl hl (by decide) rfl (fun ls hl => ?_)
  obtain ⟨n0, h⟩ := h
  exact L6 n0 0 0 1 S _ _ _ (by decide) (by decide) (by decide) hI (lv_sub hl [3, 2, 1, 0] rfl) h
set_option maxHeartbeats 4000000 in
theorem t_M_sortOf (l : Launch) (D : va_G) (dA : Nat → ClassId) (ad : Nat → Nat) (S : St) (sz : Nat) (K : Int → Prop) (h : w_M_sortOf S K) : Met l yX2_sortOf (ws_ yX2_sortOf cX2_sortOf 1 (Option.some Jvm.ClassFile.FieldType.int)) (rmD 3 0 0) (va_Pc [.ref (ad 17)] (sPre D dA wM ad S sz)) (va_Qi (fun r S' => S' = S ∧ K r.toInt) (sPost D dA wM ad (wA wM ad S sz)) (wA wM ad S sz)) 0 0 (wA wM ad S sz) := by
  refine Met.ofW (cc := cX2_sortOf) (maxL := 1) (ret := (Option.some Jvm.ClassFile.FieldType.int)) (by decide) rfl ?_
  intro p e s m args below meth c s₁ B hml hv
  obtain ⟨rfl, hsz, hK, hC⟩ := hv
  have hx := B.exec
  have hb := B.bytes
  have hr := B.returns
  have hlocks := B.notSynchronized
  have hts := atoms_spec (ws := (ws_ yX2_sortOf cX2_sortOf 1 (Option.some Jvm.ClassFile.FieldType.int))) B.pre
  have hts : ∀ w ∈ lw_all, w.before _ s = true := fun w h => hts w (List.mem_cons_of_mem _ h)
  have hown : s.vm.findClass RX2 = some m.cls := findClass_of_methodNamed B.named
  clear B
  subst hsz
  have hI : sI D dA wM ad (wA wM ad S s.heap.size) s.heap S s.heap [] := hC.start
  clear hC
  generalize wA wM ad S s.heap.size = A at hI ⊢
  have hl := lv_entry ([.ref (ad 17)] : List Value) (n := 1) (Nat.le_of_ble_eq_true rfl)
  rw [lg_entry_eq]
  generalize (lg_sl ([.ref (ad 17)] : List Value) ++ List.replicate (1 - (lg_sl ([.ref (ad 17)] : List Value)).length) Slot.unset).toArray = ls at hl ⊢
  have hl : lv_has ls 1 [(0, .ref (ad 17))] := hl
  have hF : CallFix p m c cX2_sortOf 1 s _ lw_all RX2 := ⟨hx, hb, hml, hown, hts⟩
  have hR : (headSpec (ws_ yX2_sortOf cX2_sortOf 1 (Option.some Jvm.ClassFile.FieldType.int)) (rmD 3 0 0)).room.frames = 3 + 1 ∧ (headSpec (ws_ yX2_sortOf cX2_sortOf 1 (Option.some Jvm.ClassFile.FieldType.int)) (rmD 3 0 0)).room.locals = 64 * 3 + 64 := ⟨rfl, rfl⟩
  generalize (headSpec (ws_ yX2_sortOf cX2_sortOf 1 (Option.some Jvm.ClassFile.FieldType.int)) (rmD 3 0 0)).room = R at hR ⊢
  generalize ([.ref (ad 17)] : List Value).toArray = args at hts hF ⊢
  generalize hQ : MQ below _ _ _ _ _ _ = Q
  unfold w_M_sortOf at h
  refine lv_aload_n hx hb dX2_sortOf_0 rfl (lv_at hl 0 rfl) ?_
  refine nr_bipush hx hb dX2_sortOf_1 (by decide) ?_
  refine nr_bipush hx hb dX2_sortOf_3 (by decide) ?_
  refine nr_bipush hx hb dX2_sortOf_5 (by decide) ?_
  refine nr_bipush hx hb dX2_sortOf_7 (by decide) ?_
  refine cMX2_173 hF hK hI hl.1 hR (by decide) (Nat.le_of_ble_eq_true rfl) ⟨Nat.zero_le _, Nat.zero_le _⟩ (by decide) (by decide) (by decide) (by decide) h dX2_sortOf_9 (fun r1 H locs fr1 h hI => ?_)
  replace h := h fr1
  refine cMX2_216 hF hK hI hl.1 hR (by decide) (Nat.le_of_ble_eq_true rfl) ⟨Nat.zero_le _, Nat.zero_le _⟩ fr1 h dX2_sortOf_12 (fun r3 H locs fr3 h hI => ?_)
  replace h := h fr3
  have gr3 : InR r3 := kdP_R (k := 2) (by decide) fr3
  refine nr_if_eq hx hb gr3 dX2_sortOf_15 (tgt := 20) (by decide) (fun c5 => ?_) (fun c5 => ?_)
  · replace h := h.1 c5
    refine lv_aload_n hx hb dX2_sortOf_20 rfl (lv_at hl 0 rfl) ?_
    refine nr_bipush hx hb dX2_sortOf_21 (by decide) ?_
    refine nr_bipush hx hb dX2_sortOf_23 (by decide) ?_
    refine nr_bipush hx hb dX2_sortOf_25 (by decide) ?_
    refine nr_bipush hx hb dX2_sortOf_27 (by decide) ?_
    refine cMX2_173 hF hK hI hl.1 hR (by decide) (Nat.le_of_ble_eq_true rfl) ⟨Nat.zero_le _, Nat.zero_le _⟩ (by decide) (by decide) (by decide) (by decide) h dX2_sortOf_29 (fun r6 H locs fr6 h hI => ?_)
    replace h := h fr6
    refine cMX2_216 hF hK hI hl.1 hR (by decide) (Nat.le_of_ble_eq_true rfl) ⟨Nat.zero_le _, Nat.zero_le _⟩ fr6 h dX2_sortOf_32 (fun r8 H locs fr8 h hI => ?_)
    replace h := h fr8
    have gr8 : InR r8 := kdP_R (k := 2) (by decide) fr8
    refine nr_if_eq hx hb gr8 dX2_sortOf_35 (tgt := 40) (by decide) (fun c10 => ?_) (fun c10 => ?_)
    · replace h := h.1 c10
      refine lv_aload_n hx hb dX2_sortOf_40 rfl (lv_at hl 0 rfl) ?_
      refine nr_bipush hx hb dX2_sortOf_41 (by decide) ?_
      refine nr_bipush hx hb dX2_sortOf_43 (by decide) ?_
      refine nr_bipush hx hb dX2_sortOf_45 (by decide) ?_
      refine nr_bipush hx hb dX2_sortOf_47 (by decide) ?_
      refine nr_bipush hx hb dX2_sortOf_49 (by decide) ?_
      refine nr_bipush hx hb dX2_sortOf_51 (by decide) ?_
      refine cMX2_177 hF hK hI hl.1 hR (by decide) (Nat.le_of_ble_eq_true rfl) ⟨Nat.zero_le _, Nat.zero_le _⟩ (by decide) (by decide) (by decide) (by decide) (by decide) (by decide) h dX2_sortOf_53 (fun r11 H locs fr11 h hI => ?_)
      replace h := h fr11
      refine cMX2_216 hF hK hI hl.1 hR (by decide) (Nat.le_of_ble_eq_true rfl) ⟨Nat.zero_le _, Nat.zero_le _⟩ fr11 h dX2_sortOf_56 (fun r13 H locs fr13 h hI => ?_)
      replace h := h fr13
      have gr13 : InR r13 := kdP_R (k := 2) (by decide) fr13
      refine nr_if_eq hx hb gr13 dX2_sortOf_59 (tgt := 64) (by decide) (fun c15 => ?_) (fun c15 => ?_)
      · replace h := h.1 c15
        refine lv_aload_n hx hb dX2_sortOf_64 rfl (lv_at hl 0 rfl) ?_
        refine nr_bipush hx hb dX2_sortOf_65 (by decide) ?_
        refine nr_bipush hx hb dX2_sortOf_67 (by decide) ?_
        refine nr_bipush hx hb dX2_sortOf_69 (by decide) ?_
        refine nr_bipush hx hb dX2_sortOf_71 (by decide) ?_
        refine cMX2_173 hF hK hI hl.1 hR (by decide) (Nat.le_of_ble_eq_true rfl) ⟨Nat.zero_le _, Nat.zero_le _⟩ (by decide) (by decide) (by decide) (by decide) h dX2_sortOf_73 (fun r16 H locs fr16 h hI => ?_)
        replace h := h fr16
        refine cMX2_216 hF hK hI hl.1 hR (by decide) (Nat.le_of_ble_eq_true rfl) ⟨Nat.zero_le _, Nat.zero_le _⟩ fr16 h dX2_sortOf_76 (fun r18 H locs fr18 h hI => ?_)
        replace h := h fr18
        have gr18 : InR r18 := kdP_R (k := 2) (by decide) fr18
        refine nr_if_eq hx hb gr18 dX2_sortOf_79 (tgt := 84) (by decide) (fun c20 => ?_) (fun c20 => ?_)
        · replace h := h.1 c20
          refine lv_aload_n hx hb dX2_sortOf_84 rfl (lv_at hl 0 rfl) ?_
          refine nr_bipush hx hb dX2_sortOf_85 (by decide) ?_
          refine nr_bipush hx hb dX2_sortOf_87 (by decide) ?_
          refine nr_bipush hx hb dX2_sortOf_89 (by decide) ?_
          refine nr_bipush hx hb dX2_sortOf_91 (by decide) ?_
          refine cMX2_173 hF hK hI hl.1 hR (by decide) (Nat.le_of_ble_eq_true rfl) ⟨Nat.zero_le _, Nat.zero_le _⟩ (by decide) (by decide) (by decide) (by decide) h dX2_sortOf_93 (fun r21 H locs fr21 h hI => ?_)
          replace h := h fr21
          refine cMX2_216 hF hK hI hl.1 hR (by decide) (Nat.le_of_ble_eq_true rfl) ⟨Nat.zero_le _, Nat.zero_le _⟩ fr21 h dX2_sortOf_96 (fun r23 H locs fr23 h hI => ?_)
          replace h := h fr23
          have gr23 : InR r23 := kdP_R (k := 2) (by decide) fr23
          refine nr_if_eq hx hb gr23 dX2_sortOf_99 (tgt := 104) (by decide) (fun c25 => ?_) (fun c25 => ?_)
          · replace h := h.1 c25
            refine lv_aload_n hx hb dX2_sortOf_104 rfl (lv_at hl 0 rfl) ?_
            refine nr_bipush hx hb dX2_sortOf_105 (by decide) ?_
            refine nr_bipush hx hb dX2_sortOf_107 (by decide) ?_
            refine nr_bipush hx hb dX2_sortOf_109 (by decide) ?_
            refine nr_bipush hx hb dX2_sortOf_111 (by decide) ?_
            refine cMX2_173 hF hK hI hl.1 hR (by decide) (Nat.le_of_ble_eq_true rfl) ⟨Nat.zero_le _, Nat.zero_le _⟩ (by decide) (by decide) (by decide) (by decide) h dX2_sortOf_113 (fun r26 H locs fr26 h hI => ?_)
            replace h := h fr26
            refine cMX2_216 hF hK hI hl.1 hR (by decide) (Nat.le_of_ble_eq_true rfl) ⟨Nat.zero_le _, Nat.zero_le _⟩ fr26 h dX2_sortOf_116 (fun r28 H locs fr28 h hI => ?_)
            replace h := h fr28
            have gr28 : InR r28 := kdP_R (k := 2) (by decide) fr28
            refine nr_if_eq hx hb gr28 dX2_sortOf_119 (tgt := 124) (by decide) (fun c30 => ?_) (fun c30 => ?_)
            · replace h := h.1 c30
              refine lv_aload_n hx hb dX2_sortOf_124 rfl (lv_at hl 0 rfl) ?_
              refine nr_bipush hx hb dX2_sortOf_125 (by decide) ?_
              refine nr_bipush hx hb dX2_sortOf_127 (by decide) ?_
              refine nr_bipush hx hb dX2_sortOf_129 (by decide) ?_
              refine nr_bipush hx hb dX2_sortOf_131 (by decide) ?_
              refine nr_bipush hx hb dX2_sortOf_133 (by decide) ?_
              refine cMX2_150 hF hK hI hl.1 hR (by decide) (Nat.le_of_ble_eq_true rfl) ⟨Nat.zero_le _, Nat.zero_le _⟩ (by decide) (by decide) (by decide) (by decide) (by decide) h dX2_sortOf_135 (fun r31 H locs fr31 h hI => ?_)
              replace h := h fr31
              refine cMX2_216 hF hK hI hl.1 hR (by decide) (Nat.le_of_ble_eq_true rfl) ⟨Nat.zero_le _, Nat.zero_le _⟩ fr31 h dX2_sortOf_138 (fun r33 H locs fr33 h hI => ?_)
              replace h := h fr33
              have gr33 : InR r33 := kdP_R (k := 2) (by decide) fr33
              refine nr_if_eq hx hb gr33 dX2_sortOf_141 (tgt := 147) (by decide) (fun c35 => ?_) (fun c35 => ?_)
              · replace h := h.1 c35
                refine lv_aload_n hx hb dX2_sortOf_147 rfl (lv_at hl 0 rfl) ?_
                refine nr_bipush hx hb dX2_sortOf_148 (by decide) ?_
                refine nr_bipush hx hb dX2_sortOf_150 (by decide) ?_
                refine nr_bipush hx hb dX2_sortOf_152 (by decide) ?_
                refine nr_bipush hx hb dX2_sortOf_154 (by decide) ?_
                refine cMX2_173 hF hK hI hl.1 hR (by decide) (Nat.le_of_ble_eq_true rfl) ⟨Nat.zero_le _, Nat.zero_le _⟩ (by decide) (by decide) (by decide) (by decide) h dX2_sortOf_156 (fun r36 H locs fr36 h hI => ?_)
                replace h := h fr36
                refine cMX2_216 hF hK hI hl.1 hR (by decide) (Nat.le_of_ble_eq_true rfl) ⟨Nat.zero_le _, Nat.zero_le _⟩ fr36 h dX2_sortOf_159 (fun r38 H locs fr38 h hI => ?_)
                replace h := h fr38
                have gr38 : InR r38 := kdP_R (k := 2) (by decide) fr38
                refine nr_if_eq hx hb gr38 dX2_sortOf_162 (tgt := 170) (by decide) (fun c40 => ?_) (fun c40 => ?_)
                · replace h := h.1 c40
                  refine lv_aload_n hx hb dX2_sortOf_170 rfl (lv_at hl 0 rfl) ?_
                  refine nr_bipush hx hb dX2_sortOf_171 (by decide) ?_
                  refine nr_bipush hx hb dX2_sortOf_173 (by decide) ?_
                  refine nr_bipush hx hb dX2_sortOf_175 (by decide) ?_
                  refine nr_bipush hx hb dX2_sortOf_177 (by decide) ?_
                  refine cMX2_173 hF hK hI hl.1 hR (by decide) (Nat.le_of_ble_eq_true rfl) ⟨Nat.zero_le _, Nat.zero_le _⟩ (by decide) (by decide) (by decide) (by decide) h dX2_sortOf_179 (fun r41 H locs fr41 h hI => ?_)
                  replace h := h fr41
                  refine cMX2_216 hF hK hI hl.1 hR (by decide) (Nat.le_of_ble_eq_true rfl) ⟨Nat.zero_le _, Nat.zero_le _⟩ fr41 h dX2_sortOf_182 (fun r43 H locs fr43 h hI => ?_)
                  replace h := h fr43
                  have gr43 : InR r43 := kdP_R (k := 2) (by decide) fr43
                  refine nr_if_eq hx hb gr43 dX2_sortOf_185 (tgt := 193) (by decide) (fun c45 => ?_) (fun c45 => ?_)
                  · replace h := h.1 c45
                    refine nr_iconst hx hb dX2_sortOf_193 ?_
                    rw [← hQ]; exact s_iret (K := fun r S' => S' = S ∧ K r) hx hb hr hlocks hI (by decide) ⟨rfl, h⟩ dX2_sortOf_194
                  · replace h := h.2 c45
                    refine nr_bipush hx hb dX2_sortOf_188 (by decide) ?_
                    refine lv_goto (tgt := 194) hx hb dX2_sortOf_190 (by decide) ?_
                    rw [← hQ]; exact s_iret (K := fun r S' => S' = S ∧ K r) hx hb hr hlocks hI (by decide) ⟨rfl, h⟩ dX2_sortOf_194
                · replace h := h.2 c40
                  refine nr_bipush hx hb dX2_sortOf_165 (by decide) ?_
                  refine lv_goto (tgt := 194) hx hb dX2_sortOf_167 (by decide) ?_
                  rw [← hQ]; exact s_iret (K := fun r S' => S' = S ∧ K r) hx hb hr hlocks hI (by decide) ⟨rfl, h⟩ dX2_sortOf_194
              · replace h := h.2 c35
                refine nr_bipush hx hb dX2_sortOf_144 (by decide) ?_
                rw [← hQ]; exact s_iret (K := fun r S' => S' = S ∧ K r) hx hb hr hlocks hI (by decide) ⟨rfl, h⟩ dX2_sortOf_146
            · replace h := h.2 c30
              refine nr_iconst hx hb dX2_sortOf_122 ?_
              rw [← hQ]; exact s_iret (K := fun r S' => S' = S ∧ K r) hx hb hr hlocks hI (by decide) ⟨rfl, h⟩ dX2_sortOf_123
          · replace h := h.2 c25
            refine nr_iconst hx hb dX2_sortOf_102 ?_
            rw [← hQ]; exact s_iret (K := fun r S' => S' = S ∧ K r) hx hb hr hlocks hI (by decide) ⟨rfl, h⟩ dX2_sortOf_103
        · replace h := h.2 c20
          refine nr_iconst hx hb dX2_sortOf_82 ?_
          rw [← hQ]; exact s_iret (K := fun r S' => S' = S ∧ K r) hx hb hr hlocks hI (by decide) ⟨rfl, h⟩ dX2_sortOf_83
      · replace h := h.2 c15
        refine nr_iconst hx hb dX2_sortOf_62 ?_
        rw [← hQ]; exact s_iret (K := fun r S' => S' = S ∧ K r) hx hb hr hlocks hI (by decide) ⟨rfl, h⟩ dX2_sortOf_63
    · replace h := h.2 c10
      refine nr_iconst hx hb dX2_sortOf_38 ?_
      rw [← hQ]; exact s_iret (K := fun r S' => S' = S ∧ K r) hx hb hr hlocks hI (by decide) ⟨rfl, h⟩ dX2_sortOf_39
  · replace h := h.2 c5
    refine nr_iconst hx hb dX2_sortOf_18 ?_
    rw [← hQ]; exact s_iret (K := fun r S' => S' = S ∧ K r) hx hb hr hlocks hI (by decide) ⟨rfl, h⟩ dX2_sortOf_19
theorem uMX2_181_17 {p : Program} {l : Launch} {e : Env} {R : Room} {s : State} {m : MethodId} {args : Array Value} {below : List Frame} {meth : Method} {c : Code} {H : Heap} {locs : List Loc} {Q : State → Prop} {cc : ByteArray} {nL pc : Nat} {ls : Array Slot} {rest : List Value} {cells slots : Nat} {D : va_G} {dA : Nat → ClassId} {ad : Nat → Nat} {A : Nat → Prop} {H0 : Heap} {S : St} (hF : CallFix p m c cc nL s args lw_all RX2) (hK : gK D dA s) (hI : sI D dA wM ad A H0 S H locs) {v : Int} (hv : InR v) (hdg : decode cc pc = .ok (.putfield 181, 3)) (kk : ∀ (S1 : St) (H1 : Heap) (locs1 : List Loc), S1 = fset S 20 v → sI D dA wM ad A H0 S1 H1 locs1 → W p l e R s m args below meth c H1 locs1 cells slots Q (F0 m (pc + 3) ls (rest))) : W p l e R s m args below meth c H locs cells slots Q (F0 m (pc) ls (iV v :: .ref (ad 17) :: rest)) := s_put hF.1 hF.2.1 wM_U tyX2 tyX2_ok nmX2 hF.2.2.2.2 hF.2.2.2.1 hK hI 17 (by decide) wM_17 rfl in_X2 20 (by decide) q1181 rfl 0 20 rfl hv rfl rfl rfl hdg (fun H1 locs1 h => kk _ H1 locs1 rfl h)
theorem cMX2_259 {p : Program} {l : Launch} {e : Env} {R : Room} {s : State} {m : MethodId} {args : Array Value} {below : List Frame} {meth : Method} {c : Code} {H : Heap} {locs : List Loc} {Q : State → Prop} {cc : ByteArray} {nL pc : Nat} {ls : Array Slot} {rest : List Value} {cells slots : Nat} {D : va_G} {dA : Nat → ClassId} {ad : Nat → Nat} {A : Nat → Prop} {H0 : Heap} {S : St} {dk : Nat} (hF : CallFix p m c cc nL s args lw_all RX2) (hK : gK D dA s) (hI : sI D dA wM ad A H0 S H locs) (hls : ls.size = nL) (hR : R.frames = dk + 1 ∧ R.locals = 64 * dk + 64) (hd : 7 + 1 ≤ dk) (hW : (rest.map fun v => v.category).sum ≤ 8) (hf : cells ≤ R.cells ∧ slots ≤ R.slots) {K : Int → St → Prop} (h : w_M_either S K) (hdg : decode cc pc = .ok (.invokevirtual 259, 3)) (kk : ∀ (r : Int) (S1 : St) (H1 : Heap) (locs1 : List Loc), InR r → K r S1 → sI D dA wM ad A H0 S1 H1 locs1 → W p l e R s m args below meth c H1 locs1 cells slots Q (F0 m (pc + 3) ls (iV r :: rest))) : W p l e R s m args below meth c H locs cells slots Q (F0 m (pc) ls (.ref (ad 17) :: rest)) := s_callVi (As := []) (rest := rest) (K := K) hF (t_M_either l D dA ad S H.size K h) (s_recv hK hI 17 (by decide) wM_17 rfl) (cwV 0 hF.2.2.2.2 (lw_V q1486 q1488 qs81 q109 q1489) rfl rfl rfl (by decide +kernel) ⟨by have h1 := hR.1; have h2 : (rmD 7 0 0).frames = 7 + 1 := rfl; omega, by have h1 := hR.2; have h2 : (rmD 7 0 0).locals = 64 * 7 + 64 := rfl; omega⟩) hK hI rfl hls rfl hW hdg hf kk
theorem cMX2_256 {p : Program} {l : Launch} {e : Env} {R : Room} {s : State} {m : MethodId} {args : Array Value} {below : List Frame} {meth : Method} {c : Code} {H : Heap} {locs : List Loc} {Q : State → Prop} {cc : ByteArray} {nL pc : Nat} {ls : Array Slot} {rest : List Value} {cells slots : Nat} {D : va_G} {dA : Nat → ClassId} {ad : Nat → Nat} {A : Nat → Prop} {H0 : Heap} {S : St} {dk : Nat} (hF : CallFix p m c cc nL s args lw_all RX2) (hK : gK D dA s) (hI : sI D dA wM ad A H0 S H locs) (hls : ls.size = nL) (hR : R.frames = dk + 1 ∧ R.locals = 64 * dk + 64) (hd : 5 + 1 ≤ dk) (hW : (rest.map fun v => v.category).sum ≤ 8) (hf : cells ≤ R.cells ∧ slots ≤ R.slots) {x1 : Int} {x2 : Int} {K : Int → St → Prop} (r1 : InR x1) (r2 : InR x2) (h : w_M_done x1 x2 S K) (hdg : decode cc pc = .ok (.invokevirtual 256, 3)) (kk : ∀ (r : Int) (S1 : St) (H1 : Heap) (locs1 : List Loc), InR r → K r S1 → sI D dA wM ad A H0 S1 H1 locs1 → W p l e R s m args below meth c H1 locs1 cells slots Q (F0 m (pc + 3) ls (iV r :: rest))) : W p l e R s m args below meth c H locs cells slots Q (F0 m (pc) ls (iV x2 :: iV x1 :: .ref (ad 17) :: rest)) := s_callVi (As := [iV x1, iV x2]) (rest := rest) (K := K) hF (t_M_done l D dA ad S H.size x1 x2 K r1 r2 h) (s_recv hK hI 17 (by decide) wM_17 rfl) (cwV 2 hF.2.2.2.2 (lw_V q1417 q1419 qs64 q109 q1420) rfl rfl rfl (by decide +kernel) ⟨by have h1 := hR.1; have h2 : (rmD 5 0 0).frames = 5 + 1 := rfl; omega, by have h1 := hR.2; have h2 : (rmD 5 0 0).locals = 64 * 5 + 64 := rfl; omega⟩) hK hI rfl hls rfl hW hdg hf kk
theorem gMX2_253_17 {p : Program} {l : Launch} {e : Env} {R : Room} {s : State} {m : MethodId} {args : Array Value} {below : List Frame} {meth : Method} {c : Code} {H : Heap} {locs : List Loc} {Q : State → Prop} {cc : ByteArray} {nL pc : Nat} {ls : Array Slot} {rest : List Value} {cells slots : Nat} {D : va_G} {dA : Nat → ClassId} {ad : Nat → Nat} {A : Nat → Prop} {H0 : Heap} {S : St} (hF : CallFix p m c cc nL s args lw_all RX2) (hK : gK D dA s) (hI : sI D dA wM ad A H0 S H locs) (hdg : decode cc pc = .ok (.getfield 253, 3)) (kk : InR (fI S 21) → W p l e R s m args below meth c H locs cells slots Q (F0 m (pc + 3) ls (iV (fI S 21) :: rest))) : W p l e R s m args below meth c H locs cells slots Q (F0 m (pc) ls (.ref (ad 17) :: rest)) := s_geti hF.1 hF.2.1 hF.2.2.2.2 hF.2.2.2.1 hK hI 17 (by decide) wM_17 rfl in_X2 21 (by decide) q1182 rfl 0 21 rfl (by decide) hdg (kk (kdP_R (k := 0) (by decide) (hI.1.2.2.2.1.1 21)))
theorem uMX2_253_17 {p : Program} {l : Launch} {e : Env} {R : Room} {s : State} {m : MethodId} {args : Array Value} {below : List Frame} {meth : Method} {c : Code} {H : Heap} {locs : List Loc} {Q : State → Prop} {cc : ByteArray} {nL pc : Nat} {ls : Array Slot} {rest : List Value} {cells slots : Nat} {D : va_G} {dA : Nat → ClassId} {ad : Nat → Nat} {A : Nat → Prop} {H0 : Heap} {S : St} (hF : CallFix p m c cc nL s args lw_all RX2) (hK : gK D dA s) (hI : sI D dA wM ad A H0 S H locs) {v : Int} (hv : InR v) (hdg : decode cc pc = .ok (.putfield 253, 3)) (kk : ∀ (S1 : St) (H1 : Heap) (locs1 : List Loc), S1 = fset S 21 v → sI D dA wM ad A H0 S1 H1 locs1 → W p l e R s m args below meth c H1 locs1 cells slots Q (F0 m (pc + 3) ls (rest))) : W p l e R s m args below meth c H locs cells slots Q (F0 m (pc) ls (iV v :: .ref (ad 17) :: rest)) := s_put hF.1 hF.2.1 wM_U tyX2 tyX2_ok nmX2 hF.2.2.2.2 hF.2.2.2.1 hK hI 17 (by decide) wM_17 rfl in_X2 21 (by decide) q1182 rfl 0 21 rfl hv rfl rfl rfl hdg (fun H1 locs1 h => kk _ H1 locs1 rfl h)
theorem cMX2_250 {p : Program} {l : Launch} {e : Env} {R : Room} {s : State} {m : MethodId} {args : Array Value} {below : List Frame} {meth : Method} {c : Code} {H : Heap} {locs : List Loc} {Q : State → Prop} {cc : ByteArray} {nL pc : Nat} {ls : Array Slot} {rest : List Value} {cells slots : Nat} {D : va_G} {dA : Nat → ClassId} {ad : Nat → Nat} {A : Nat → Prop} {H0 : Heap} {S : St} {dk : Nat} (hF : CallFix p m c cc nL s args lw_all RX2) (hK : gK D dA s) (hI : sI D dA wM ad A H0 S H locs) (hls : ls.size = nL) (hR : R.frames = dk + 1 ∧ R.locals = 64 * dk + 64) (hd : 3 + 1 ≤ dk) (hW : (rest.map fun v => v.category).sum ≤ 8) (hf : cells ≤ R.cells ∧ slots ≤ R.slots) {K : Int → Prop} (h : w_M_sortOf S K) (hdg : decode cc pc = .ok (.invokevirtual 250, 3)) (kk : ∀ (r : Int) (H1 : Heap) (locs1 : List Loc), InR r → K r → sI D dA wM ad A H0 S H1 locs1 → W p l e R s m args below meth c H1 locs1 cells slots Q (F0 m (pc + 3) ls (iV r :: rest))) : W p l e R s m args below meth c H locs cells slots Q (F0 m (pc) ls (.ref (ad 17) :: rest)) := s_callVi (As := []) (rest := rest) (K := fun r S' => S' = S ∧ K r) hF (t_M_sortOf l D dA ad S H.size K h) (s_recv hK hI 17 (by decide) wM_17 rfl) (cwV 0 hF.2.2.2.2 (lw_V q1397 q1399 qs62 q109 q1400) rfl rfl rfl (by decide +kernel) ⟨by have h1 := hR.1; have h2 : (rmD 3 0 0).frames = 3 + 1 := rfl; omega, by have h1 := hR.2; have h2 : (rmD 3 0 0).locals = 64 * 3 + 64 := rfl; omega⟩) hK hI rfl hls rfl hW hdg hf (fun r S1 H1 locs1 f hk hI1 => by obtain ⟨rfl, hk⟩ := hk; exact kk r H1 locs1 f hk hI1)
set_option maxHeartbeats 4000000 in
theorem t_M_clause (l : Launch) (D : va_G) (dA : Nat → ClassId) (ad : Nat → Nat) (S : St) (sz : Nat) (K : Int → St → Prop) (h : w_M_clause S K) : Met l yX2_clause (ws_ yX2_clause cX2_clause 6 (Option.some Jvm.ClassFile.FieldType.int)) (rmD 8 0 0) (va_Pc [.ref (ad 17)] (sPre D dA wM ad S sz)) (va_Qi (fun r S' => K r.toInt S') (sPost D dA wM ad (wA wM ad S sz)) (wA wM ad S sz)) 0 0 (wA wM ad S sz) := by
  refine Met.ofW (cc := cX2_clause) (maxL := 6) (ret := (Option.some Jvm.ClassFile.FieldType.int)) (by decide) rfl ?_
  intro p e s m args below meth c s₁ B hml hv
  obtain ⟨rfl, hsz, hK, hC⟩ := hv
  have hx := B.exec
  have hb := B.bytes
  have hr := B.returns
  have hlocks := B.notSynchronized
  have hts := atoms_spec (ws := (ws_ yX2_clause cX2_clause 6 (Option.some Jvm.ClassFile.FieldType.int))) B.pre
  have hts : ∀ w ∈ lw_all, w.before _ s = true := fun w h => hts w (List.mem_cons_of_mem _ h)
  have hown : s.vm.findClass RX2 = some m.cls := findClass_of_methodNamed B.named
  clear B
  subst hsz
  have hI : sI D dA wM ad (wA wM ad S s.heap.size) s.heap S s.heap [] := hC.start
  clear hC
  generalize wA wM ad S s.heap.size = A at hI ⊢
  have hl := lv_entry ([.ref (ad 17)] : List Value) (n := 6) (Nat.le_of_ble_eq_true rfl)
  rw [lg_entry_eq]
  generalize (lg_sl ([.ref (ad 17)] : List Value) ++ List.replicate (6 - (lg_sl ([.ref (ad 17)] : List Value)).length) Slot.unset).toArray = ls at hl ⊢
  have hl : lv_has ls 6 [(0, .ref (ad 17))] := hl
  have hF : CallFix p m c cX2_clause 6 s _ lw_all RX2 := ⟨hx, hb, hml, hown, hts⟩
  have hR : (headSpec (ws_ yX2_clause cX2_clause 6 (Option.some Jvm.ClassFile.FieldType.int)) (rmD 8 0 0)).room.frames = 8 + 1 ∧ (headSpec (ws_ yX2_clause cX2_clause 6 (Option.some Jvm.ClassFile.FieldType.int)) (rmD 8 0 0)).room.locals = 64 * 8 + 64 := ⟨rfl, rfl⟩
  generalize (headSpec (ws_ yX2_clause cX2_clause 6 (Option.some Jvm.ClassFile.FieldType.int)) (rmD 8 0 0)).room = R at hR ⊢
  generalize ([.ref (ad 17)] : List Value).toArray = args at hts hF ⊢
  generalize hQ : MQ below _ _ _ _ _ _ = Q
  have J165 : ∀ (S : St) (H : Heap) (locs : List Loc) (ls : Array Slot), sI D dA wM ad A s.heap S H locs → lv_has ls 6 [(0, .ref (ad 17))] → j_M_clause_165 S K → W p l e R s m args below meth c H locs 0 0 Q (F0 m 165 ls []) := by
    intro S H locs ls hI hl h
    unfold j_M_clause_165 at h
    refine lv_aload_n hx hb dX2_clause_165 rfl (lv_at hl 0 rfl) ?_
    refine gMX2_16_17 hF hK hI dX2_clause_166 ?_
    refine lv_aload_n hx hb dX2_clause_169 rfl (lv_at hl 0 rfl) ?_
    refine gMX2_154_17 hF hK hI dX2_clause_170 (fun f1 => ?_)
    replace h := h f1
    refine lv_dup2_11 hx hb dX2_clause_173 rfl rfl ?_
    have f2 := h.1; replace h := h.2
    refine s_iald hx hb hK hI 2 (by decide) wM_2 f1 f2 dX2_clause_174 (fun f3 => ?_)
    replace h := h f3
    refine nr_iconst hx hb dX2_clause_175 ?_
    have f4 := h.1; replace h := h.2
    refine nr_iadd hx hb dX2_clause_176 ?_
    have f5 := h.1; replace h := h.2
    refine s_iast hx hb hK hI 2 (by decide) wM_2 f1 f5 f4 dX2_clause_177 (fun S6 H locs eS6 hI => ?_)
    replace h := h S6 eS6
    refine lv_aload_n hx hb dX2_clause_178 rfl (lv_at hl 0 rfl) ?_
    refine gMX2_129_17 hF hK hI dX2_clause_179 (fun f7 => ?_)
    replace h := h f7
    refine nr_bipush hx hb dX2_clause_182 (by decide) ?_
    refine nr_icmp_eq hx hb f7 (by decide) dX2_clause_184 (tgt := 189) (by decide) (fun c8 => ?_) (fun c8 => ?_)
    · replace h := h.1 c8
      refine lv_aload_n hx hb dX2_clause_189 rfl (lv_at hl 0 rfl) ?_
      refine cMX2_184 hF hK hI hl.1 hR (by decide) (Nat.le_of_ble_eq_true rfl) ⟨Nat.zero_le _, Nat.zero_le _⟩ h dX2_clause_190 (fun S10 H locs h hI => ?_)
      refine nr_iconst hx hb dX2_clause_193 ?_
      rw [← hQ]; exact s_iret (K := K) hx hb hr hlocks hI (by decide) h dX2_clause_194
    · replace h := h.2 c8
      refine nr_iconst hx hb dX2_clause_187 ?_
      rw [← hQ]; exact s_iret (K := K) hx hb hr hlocks hI (by decide) h dX2_clause_188
  have J128 : ∀ (x1 : Int) (x3 : Int) (x4 : Int) (y0 : Int) (S : St) (H : Heap) (locs : List Loc) (ls : Array Slot), InR x1 → InR x3 → InR x4 → InR y0 → sI D dA wM ad A s.heap S H locs → lv_has ls 6 [(0, .ref (ad 17)), (1, iV x1), (3, iV x3), (4, iV x4)] → j_M_clause_128 x1 x3 x4 y0 S K → W p l e R s m args below meth c H locs 0 0 Q (F0 m 128 ls [iV y0]) := by
    intro x1 x3 x4 y0 S H locs ls rx1 rx3 rx4 ry0 hI hl h
    unfold j_M_clause_128 at h
    refine lv_istore (lv' := [(5, iV y0), (0, .ref (ad 17)), (1, iV x1), (3, iV x3), (4, iV x4)]) hx hb dX2_clause_128 hl (by decide) rfl (fun ls hl => ?_)
    refine lv_iload hx hb dX2_clause_130 (lv_at hl 0 rfl) ?_
    refine nr_if_eq hx hb ry0 dX2_clause_132 (tgt := 138) (by decide) (fun c11 => ?_) (fun c11 => ?_)
    · replace h := h.1 c11
      refine lv_iload_n hx hb dX2_clause_138 rfl (lv_at hl 2 rfl) ?_
      refine nr_iconst hx hb dX2_clause_139 ?_
      refine nr_icmp_ge hx hb rx1 (by decide) dX2_clause_140 (tgt := 165) (by decide) (fun c12 => ?_) (fun c12 => ?_)
      · replace h := h.1 c12
        exact J165 S _ _ _ hI (lv_sub hl [1] rfl) h
      · replace h := h.2 c12
        refine lv_aload_n hx hb dX2_clause_143 rfl (lv_at hl 1 rfl) ?_
        refine gMX2_16_17 hF hK hI dX2_clause_144 ?_
        refine lv_iload_n hx hb dX2_clause_147 rfl (lv_at hl 3 rfl) ?_
        refine nr_iconst hx hb dX2_clause_148 ?_
        have f13 := h.1; replace h := h.2
        refine nr_iadd hx hb dX2_clause_149 ?_
        refine lv_iload hx hb dX2_clause_150 (lv_at hl 4 rfl) ?_
        have f14 := h.1; replace h := h.2
        refine s_iast hx hb hK hI 2 (by decide) wM_2 f13 f14 rx4 dX2_clause_152 (fun S15 H locs eS15 hI => ?_)
        replace h := h S15 eS15
        refine lv_aload_n hx hb dX2_clause_153 rfl (lv_at hl 1 rfl) ?_
        refine gMX2_16_17 hF hK hI dX2_clause_154 ?_
        refine lv_iload_n hx hb dX2_clause_157 rfl (lv_at hl 3 rfl) ?_
        refine nr_iconst hx hb dX2_clause_158 ?_
        have f16 := h.1; replace h := h.2
        refine nr_iadd hx hb dX2_clause_159 ?_
        refine lv_aload_n hx hb dX2_clause_160 rfl (lv_at hl 1 rfl) ?_
        refine gMX2_157_17 hF hK hI dX2_clause_161 (fun f17 => ?_)
        replace h := h f17
        have f18 := h.1; replace h := h.2
        refine s_iast hx hb hK hI 2 (by decide) wM_2 f16 f18 f17 dX2_clause_164 (fun S19 H locs eS19 hI => ?_)
        replace h := h S19 eS19
        exact J165 S19 _ _ _ hI (lv_sub hl [1] rfl) h
    · replace h := h.2 c11
      refine lv_iload hx hb dX2_clause_135 (lv_at hl 0 rfl) ?_
      rw [← hQ]; exact s_iret (K := K) hx hb hr hlocks hI ry0 h dX2_clause_137
  have J66 : ∀ (x1 : Int) (x2 : Int) (S : St) (H : Heap) (locs : List Loc) (ls : Array Slot), InR x1 → InR x2 → sI D dA wM ad A s.heap S H locs → lv_has ls 6 [(0, .ref (ad 17)), (1, iV x1), (2, iV x2)] → j_M_clause_66 x1 x2 S K → W p l e R s m args below meth c H locs 0 0 Q (F0 m 66 ls []) := by
    intro x1 x2 S H locs ls rx1 rx2 hI hl h
    unfold j_M_clause_66 at h
    refine lv_aload_n hx hb dX2_clause_66 rfl (lv_at hl 0 rfl) ?_
    refine lv_iload_n hx hb dX2_clause_67 rfl (lv_at hl 1 rfl) ?_
    refine uMX2_181_17 hF hK hI rx1 dX2_clause_68 (fun S20 H locs eS20 hI => ?_)
    replace h := h S20 eS20
    refine lv_aload_n hx hb dX2_clause_71 rfl (lv_at hl 0 rfl) ?_
    refine cMX2_184 hF hK hI hl.1 hR (by decide) (Nat.le_of_ble_eq_true rfl) ⟨Nat.zero_le _, Nat.zero_le _⟩ h dX2_clause_72 (fun S22 H locs h hI => ?_)
    refine lv_aload_n hx hb dX2_clause_75 rfl (lv_at hl 0 rfl) ?_
    refine gMX2_154_17 hF hK hI dX2_clause_76 (fun f23 => ?_)
    replace h := h f23
    refine nr_iconst hx hb dX2_clause_79 ?_
    have f24 := h.1; replace h := h.2
    refine nr_iadd hx hb dX2_clause_80 ?_
    refine nr_iconst hx hb dX2_clause_81 ?_
    refine lv_iload_n hx hb dX2_clause_82 rfl (lv_at hl 2 rfl) ?_
    have f25 := h.1; replace h := h.2
    refine nr_imul hx hb dX2_clause_83 ?_
    have f26 := h.1; replace h := h.2
    refine nr_iadd hx hb dX2_clause_84 ?_
    refine nr_topi (fun v27 ev27 => ?_)
    have rv27 : InR v27 := by rw [ev27]; exact f26
    replace h := h v27 ev27 rv27
    refine lv_istore_n (lv' := [(3, iV v27), (0, .ref (ad 17)), (1, iV x1), (2, iV x2)]) hx hb dX2_clause_85 rfl hl (by decide) rfl (fun ls hl => ?_)
    refine lv_aload_n hx hb dX2_clause_86 rfl (lv_at hl 1 rfl) ?_
    refine gMX2_16_17 hF hK hI dX2_clause_87 ?_
    refine lv_iload_n hx hb dX2_clause_90 rfl (lv_at hl 0 rfl) ?_
    refine lv_iload_n hx hb dX2_clause_91 rfl (lv_at hl 2 rfl) ?_
    have f28 := h.1; replace h := h.2
    refine s_iast hx hb hK hI 2 (by decide) wM_2 rv27 f28 rx1 dX2_clause_92 (fun S29 H locs eS29 hI => ?_)
    replace h := h S29 eS29
    refine lv_aload_n hx hb dX2_clause_93 rfl (lv_at hl 1 rfl) ?_
    refine gMX2_157_17 hF hK hI dX2_clause_94 (fun f30 => ?_)
    replace h := h f30
    refine nr_topi (fun v31 ev31 => ?_)
    have rv31 : InR v31 := by rw [ev31]; exact f30
    replace h := h v31 ev31 rv31
    refine lv_istore (lv' := [(4, iV v31), (3, iV v27), (0, .ref (ad 17)), (1, iV x1), (2, iV x2)]) hx hb dX2_clause_97 hl (by decide) rfl (fun ls hl => ?_)
    refine lv_iload_n hx hb dX2_clause_99 rfl (lv_at hl 3 rfl) ?_
    refine nr_iconst hx hb dX2_clause_100 ?_
    refine nr_icmp_lt hx hb rx1 (by decide) dX2_clause_101 (tgt := 113) (by decide) (fun c32 => ?_) (fun c32 => ?_)
    · replace h := h.1 c32
      refine lv_iload_n hx hb dX2_clause_113 rfl (lv_at hl 3 rfl) ?_
      refine nr_if_ne hx hb rx1 dX2_clause_114 (tgt := 124) (by decide) (fun c33 => ?_) (fun c33 => ?_)
      · replace h := h.1 c33
        refine lv_aload_n hx hb dX2_clause_124 rfl (lv_at hl 2 rfl) ?_
        refine cMX2_259 hF hK hI hl.1 hR (by decide) (Nat.le_of_ble_eq_true rfl) ⟨Nat.zero_le _, Nat.zero_le _⟩ h dX2_clause_125 (fun r34 S35 H locs fr34 h hI => ?_)
        replace h := h fr34
        exact J128 x1 v27 v31 r34 S35 _ _ _ rx1 rv27 rv31 fr34 hI (lv_sub hl [2, 3, 1, 0] rfl) h
      · replace h := h.2 c33
        refine lv_aload_n hx hb dX2_clause_117 rfl (lv_at hl 2 rfl) ?_
        refine cMX2_220 hF hK hI hl.1 hR (by decide) (Nat.le_of_ble_eq_true rfl) ⟨Nat.zero_le _, Nat.zero_le _⟩ h dX2_clause_118 (fun r36 S37 H locs fr36 h hI => ?_)
        replace h := h fr36
        refine lv_goto (tgt := 128) hx hb dX2_clause_121 (by decide) ?_
        exact J128 x1 v27 v31 r36 S37 _ _ _ rx1 rv27 rv31 fr36 hI (lv_sub hl [2, 3, 1, 0] rfl) h
    · replace h := h.2 c32
      refine lv_aload_n hx hb dX2_clause_104 rfl (lv_at hl 2 rfl) ?_
      refine lv_iload_n hx hb dX2_clause_105 rfl (lv_at hl 1 rfl) ?_
      refine lv_iload_n hx hb dX2_clause_106 rfl (lv_at hl 3 rfl) ?_
      refine cMX2_256 hF hK hI hl.1 hR (by decide) (Nat.le_of_ble_eq_true rfl) ⟨Nat.zero_le _, Nat.zero_le _⟩ rv27 rx1 h dX2_clause_107 (fun r38 S39 H locs fr38 h hI => ?_)
      replace h := h fr38
      refine lv_goto (tgt := 128) hx hb dX2_clause_110 (by decide) ?_
      exact J128 x1 v27 v31 r38 S39 _ _ _ rx1 rv27 rv31 fr38 hI (lv_sub hl [2, 3, 1, 0] rfl) h
  have J30 : ∀ (x1 : Int) (S : St) (H : Heap) (locs : List Loc) (ls : Array Slot), InR x1 → sI D dA wM ad A s.heap S H locs → lv_has ls 6 [(0, .ref (ad 17)), (1, iV x1)] → j_M_clause_30 x1 S K → W p l e R s m args below meth c H locs 0 0 Q (F0 m 30 ls []) := by
    intro x1 S H locs ls rx1 hI hl h
    unfold j_M_clause_30 at h
    refine lv_aload_n hx hb dX2_clause_30 rfl (lv_at hl 0 rfl) ?_
    refine gMX2_16_17 hF hK hI dX2_clause_31 ?_
    refine lv_aload_n hx hb dX2_clause_34 rfl (lv_at hl 0 rfl) ?_
    refine gMX2_154_17 hF hK hI dX2_clause_35 (fun f40 => ?_)
    replace h := h f40
    have f41 := h.1; replace h := h.2
    refine s_iald hx hb hK hI 2 (by decide) wM_2 f40 f41 dX2_clause_38 (fun f42 => ?_)
    replace h := h f42
    refine nr_topi (fun v43 ev43 => ?_)
    have rv43 : InR v43 := by rw [ev43]; exact f42
    replace h := h v43 ev43 rv43
    refine lv_istore_n (lv' := [(2, iV v43), (0, .ref (ad 17)), (1, iV x1)]) hx hb dX2_clause_39 rfl hl (by decide) rfl (fun ls hl => ?_)
    refine lv_iload_n hx hb dX2_clause_40 rfl (lv_at hl 0 rfl) ?_
    refine nr_bipush hx hb dX2_clause_41 (by decide) ?_
    refine nr_icmp_ne hx hb rv43 (by decide) dX2_clause_43 (tgt := 49) (by decide) (fun c44 => ?_) (fun c44 => ?_)
    · replace h := h.1 c44
      refine lv_iload_n hx hb dX2_clause_49 rfl (lv_at hl 2 rfl) ?_
      refine nr_iconst hx hb dX2_clause_50 ?_
      refine nr_icmp_ge hx hb rx1 (by decide) dX2_clause_51 (tgt := 66) (by decide) (fun c45 => ?_) (fun c45 => ?_)
      · replace h := h.1 c45
        exact J66 x1 v43 S _ _ _ rx1 rv43 hI (lv_sub hl [1, 2, 0] rfl) h
      · replace h := h.2 c45
        refine lv_aload_n hx hb dX2_clause_54 rfl (lv_at hl 1 rfl) ?_
        refine lv_dup hx hb dX2_clause_55 rfl ?_
        refine gMX2_253_17 hF hK hI dX2_clause_56 (fun f46 => ?_)
        replace h := h f46
        refine nr_iconst hx hb dX2_clause_59 ?_
        refine lv_iload_n hx hb dX2_clause_60 rfl (lv_at hl 2 rfl) ?_
        have f47 := h.1; replace h := h.2
        have f48 := h.1; replace h := h.2
        refine nr_ishl hx hb f47 f48 dX2_clause_61 ?_
        refine nr_ior hx hb dX2_clause_62 ?_
        refine uMX2_253_17 hF hK hI (iOr_R _ _) dX2_clause_63 (fun S49 H locs eS49 hI => ?_)
        replace h := h S49 eS49
        exact J66 x1 v43 S49 _ _ _ rx1 rv43 hI (lv_sub hl [1, 2, 0] rfl) h
    · replace h := h.2 c44
      refine nr_bipush hx hb dX2_clause_46 (by decide) ?_
      rw [← hQ]; exact s_iret (K := K) hx hb hr hlocks hI (by decide) h dX2_clause_48
  unfold w_M_clause at h
  refine lv_aload_n hx hb dX2_clause_0 rfl (lv_at hl 0 rfl) ?_
  refine cMX2_250 hF hK hI hl.1 hR (by decide) (Nat.le_of_ble_eq_true rfl) ⟨Nat.zero_le _, Nat.zero_le _⟩ h dX2_clause_1 (fun r50 H locs fr50 h hI => ?_)
  replace h := h fr50
  refine lv_istore_n (lv' := [(1, iV r50), (0, .ref (ad 17))]) hx hb dX2_clause_4 rfl hl (by decide) rfl (fun ls hl => ?_)
  refine lv_iload_n hx hb dX2_clause_5 rfl (lv_at hl 0 rfl) ?_
  refine nr_if_ge hx hb fr50 dX2_clause_6 (tgt := 11) (by decide) (fun c52 => ?_) (fun c52 => ?_)
  · replace h := h.1 c52
    refine lv_iload_n hx hb dX2_clause_11 rfl (lv_at hl 0 rfl) ?_
    refine nr_iconst hx hb dX2_clause_12 ?_
    refine nr_icmp_ge hx hb fr50 (by decide) dX2_clause_13 (tgt := 30) (by decide) (fun c53 => ?_) (fun c53 => ?_)
    · replace h := h.1 c53
      exact J30 r50 S _ _ _ fr50 hI (lv_sub hl [1, 0] rfl) h
    · replace h := h.2 c53
      refine lv_aload_n hx hb dX2_clause_16 rfl (lv_at hl 1 rfl) ?_
      refine gMX2_253_17 hF hK hI dX2_clause_17 (fun f54 => ?_)
      replace h := h f54
      refine lv_iload_n hx hb dX2_clause_20 rfl (lv_at hl 0 rfl) ?_
      have f55 := h.1; replace h := h.2
      refine nr_ishr hx hb f55 f54 dX2_clause_21 ?_
      have f56 : InR ((fI S 21) / 2 ^ (Int.toNat r50)) := ni_shrR f54
      refine nr_iconst hx hb dX2_clause_22 ?_
      refine nr_mask hx hb 1 (by decide) (by decide) dX2_clause_23 ?_
      have f57 : InR (((fI S 21) / 2 ^ (Int.toNat r50)) % 2) := by omega
      refine nr_iconst hx hb dX2_clause_24 ?_
      refine nr_icmp_ne hx hb f57 (by decide) dX2_clause_25 (tgt := 30) (by decide) (fun c58 => ?_) (fun c58 => ?_)
      · replace h := h.1 c58
        exact J30 r50 S _ _ _ fr50 hI (lv_sub hl [1, 0] rfl) h
      · replace h := h.2 c58
        refine nr_iconst hx hb dX2_clause_28 ?_
        rw [← hQ]; exact s_iret (K := K) hx hb hr hlocks hI (by decide) h dX2_clause_29
  · replace h := h.2 c52
    refine nr_iconst hx hb dX2_clause_9 ?_
    rw [← hQ]; exact s_iret (K := K) hx hb hr hlocks hI (by decide) h dX2_clause_10
theorem cMX2_262 {p : Program} {l : Launch} {e : Env} {R : Room} {s : State} {m : MethodId} {args : Array Value} {below : List Frame} {meth : Method} {c : Code} {H : Heap} {locs : List Loc} {Q : State → Prop} {cc : ByteArray} {nL pc : Nat} {ls : Array Slot} {rest : List Value} {cells slots : Nat} {D : va_G} {dA : Nat → ClassId} {ad : Nat → Nat} {A : Nat → Prop} {H0 : Heap} {S : St} {dk : Nat} (hF : CallFix p m c cc nL s args lw_all RX2) (hK : gK D dA s) (hI : sI D dA wM ad A H0 S H locs) (hls : ls.size = nL) (hR : R.frames = dk + 1 ∧ R.locals = 64 * dk + 64) (hd : 8 + 1 ≤ dk) (hW : (rest.map fun v => v.category).sum ≤ 8) (hf : cells ≤ R.cells ∧ slots ≤ R.slots) {K : Int → St → Prop} (h : w_M_clause S K) (hdg : decode cc pc = .ok (.invokevirtual 262, 3)) (kk : ∀ (r : Int) (S1 : St) (H1 : Heap) (locs1 : List Loc), InR r → K r S1 → sI D dA wM ad A H0 S1 H1 locs1 → W p l e R s m args below meth c H1 locs1 cells slots Q (F0 m (pc + 3) ls (iV r :: rest))) : W p l e R s m args below meth c H locs cells slots Q (F0 m (pc) ls (.ref (ad 17) :: rest)) := s_callVi (As := []) (rest := rest) (K := K) hF (t_M_clause l D dA ad S H.size K h) (s_recv hK hI 17 (by decide) wM_17 rfl) (cwV 0 hF.2.2.2.2 (lw_V q1393 q1395 qs61 q109 q1396) rfl rfl rfl (by decide +kernel) ⟨by have h1 := hR.1; have h2 : (rmD 8 0 0).frames = 8 + 1 := rfl; omega, by have h1 := hR.2; have h2 : (rmD 8 0 0).locals = 64 * 8 + 64 := rfl; omega⟩) hK hI rfl hls rfl hW hdg hf kk
theorem uMX2_154_17 {p : Program} {l : Launch} {e : Env} {R : Room} {s : State} {m : MethodId} {args : Array Value} {below : List Frame} {meth : Method} {c : Code} {H : Heap} {locs : List Loc} {Q : State → Prop} {cc : ByteArray} {nL pc : Nat} {ls : Array Slot} {rest : List Value} {cells slots : Nat} {D : va_G} {dA : Nat → ClassId} {ad : Nat → Nat} {A : Nat → Prop} {H0 : Heap} {S : St} (hF : CallFix p m c cc nL s args lw_all RX2) (hK : gK D dA s) (hI : sI D dA wM ad A H0 S H locs) {v : Int} (hv : InR v) (hdg : decode cc pc = .ok (.putfield 154, 3)) (kk : ∀ (S1 : St) (H1 : Heap) (locs1 : List Loc), S1 = fset S 12 v → sI D dA wM ad A H0 S1 H1 locs1 → W p l e R s m args below meth c H1 locs1 cells slots Q (F0 m (pc + 3) ls (rest))) : W p l e R s m args below meth c H locs cells slots Q (F0 m (pc) ls (iV v :: .ref (ad 17) :: rest)) := s_put hF.1 hF.2.1 wM_U tyX2 tyX2_ok nmX2 hF.2.2.2.2 hF.2.2.2.1 hK hI 17 (by decide) wM_17 rfl in_X2 12 (by decide) q1175 rfl 0 12 rfl hv rfl rfl rfl hdg (fun H1 locs1 h => kk _ H1 locs1 rfl h)
set_option maxHeartbeats 4000000 in
theorem t_M_readText (l : Launch) (D : va_G) (dA : Nat → ClassId) (ad : Nat → Nat) (S : St) (sz : Nat) (K : Int → St → Prop) (h : w_M_readText S K) : Met l yX2_readText (ws_ yX2_readText cX2_readText 2 (Option.some Jvm.ClassFile.FieldType.int)) (rmD 9 0 0) (va_Pc [.ref (ad 17)] (sPre D dA wM ad S sz)) (va_Qi (fun r S' => K r.toInt S') (sPost D dA wM ad (wA wM ad S sz)) (wA wM ad S sz)) 0 0 (wA wM ad S sz) := by
  refine Met.ofW (cc := cX2_readText) (maxL := 2) (ret := (Option.some Jvm.ClassFile.FieldType.int)) (by decide) rfl ?_
  intro p e s m args below meth c s₁ B hml hv
  obtain ⟨rfl, hsz, hK, hC⟩ := hv
  have hx := B.exec
  have hb := B.bytes
  have hr := B.returns
  have hlocks := B.notSynchronized
  have hts := atoms_spec (ws := (ws_ yX2_readText cX2_readText 2 (Option.some Jvm.ClassFile.FieldType.int))) B.pre
  have hts : ∀ w ∈ lw_all, w.before _ s = true := fun w h => hts w (List.mem_cons_of_mem _ h)
  have hown : s.vm.findClass RX2 = some m.cls := findClass_of_methodNamed B.named
  clear B
  subst hsz
  have hI : sI D dA wM ad (wA wM ad S s.heap.size) s.heap S s.heap [] := hC.start
  clear hC
  generalize wA wM ad S s.heap.size = A at hI ⊢
  have hl := lv_entry ([.ref (ad 17)] : List Value) (n := 2) (Nat.le_of_ble_eq_true rfl)
  rw [lg_entry_eq]
  generalize (lg_sl ([.ref (ad 17)] : List Value) ++ List.replicate (2 - (lg_sl ([.ref (ad 17)] : List Value)).length) Slot.unset).toArray = ls at hl ⊢
  have hl : lv_has ls 2 [(0, .ref (ad 17))] := hl
  have hF : CallFix p m c cX2_readText 2 s _ lw_all RX2 := ⟨hx, hb, hml, hown, hts⟩
  have hR : (headSpec (ws_ yX2_readText cX2_readText 2 (Option.some Jvm.ClassFile.FieldType.int)) (rmD 9 0 0)).room.frames = 9 + 1 ∧ (headSpec (ws_ yX2_readText cX2_readText 2 (Option.some Jvm.ClassFile.FieldType.int)) (rmD 9 0 0)).room.locals = 64 * 9 + 64 := ⟨rfl, rfl⟩
  generalize (headSpec (ws_ yX2_readText cX2_readText 2 (Option.some Jvm.ClassFile.FieldType.int)) (rmD 9 0 0)).room = R at hR ⊢
  generalize ([.ref (ad 17)] : List Value).toArray = args at hts hF ⊢
  generalize hQ : MQ below _ _ _ _ _ _ = Q
  have L48 : ∀ (n48 : Nat) (S : St) (H : Heap) (locs : List Loc) (ls : Array Slot), sI D dA wM ad A s.heap S H locs → lv_has ls 2 [(0, .ref (ad 17))] → l_M_readText_48 K n48 S → W p l e R s m args below meth c H locs 0 0 Q (F0 m 48 ls []) := by
    intro n48
    induction n48 with
    | zero => intro S H locs ls hI hl h; exact False.elim h
    | succ n48 ih48 =>
      intro S H locs ls hI hl h
      unfold l_M_readText_48 at h
      refine lv_aload_n hx hb dX2_readText_48 rfl (lv_at hl 0 rfl) ?_
      refine gMX2_129_17 hF hK hI dX2_readText_49 (fun f1 => ?_)
      replace h := h f1
      refine nr_if_eq hx hb f1 dX2_readText_52 (tgt := 69) (by decide) (fun c2 => ?_) (fun c2 => ?_)
      · replace h := h.1 c2
        refine nr_iconst hx hb dX2_readText_69 ?_
        rw [← hQ]; exact s_iret (K := K) hx hb hr hlocks hI (by decide) h dX2_readText_70
      · replace h := h.2 c2
        refine lv_aload_n hx hb dX2_readText_55 rfl (lv_at hl 0 rfl) ?_
        refine cMX2_262 hF hK hI hl.1 hR (by decide) (Nat.le_of_ble_eq_true rfl) ⟨Nat.zero_le _, Nat.zero_le _⟩ h dX2_readText_56 (fun r3 S4 H locs fr3 h hI => ?_)
        replace h := h fr3
        refine lv_istore_n (lv' := [(1, iV r3), (0, .ref (ad 17))]) hx hb dX2_readText_59 rfl hl (by decide) rfl (fun ls hl => ?_)
        refine lv_iload_n hx hb dX2_readText_60 rfl (lv_at hl 0 rfl) ?_
        refine nr_if_eq hx hb fr3 dX2_readText_61 (tgt := 66) (by decide) (fun c5 => ?_) (fun c5 => ?_)
        · replace h := h.1 c5
          refine lv_goto (tgt := 48) hx hb dX2_readText_66 (by decide) ?_
          exact ih48 S4 _ _ _ hI (lv_sub hl [1] rfl) h
        · replace h := h.2 c5
          refine lv_iload_n hx hb dX2_readText_64 rfl (lv_at hl 0 rfl) ?_
          rw [← hQ]; exact s_iret (K := K) hx hb hr hlocks hI fr3 h dX2_readText_65
  unfold w_M_readText at h
  refine lv_aload_n hx hb dX2_readText_0 rfl (lv_at hl 0 rfl) ?_
  refine nr_sipush hx hb dX2_readText_1 (by decide) ?_
  refine lv_aload_n hx hb dX2_readText_4 rfl (lv_at hl 0 rfl) ?_
  refine gMX2_7_17 hF hK hI dX2_readText_5 ?_
  refine nr_iconst hx hb dX2_readText_8 ?_
  refine s_iald hx hb hK hI 0 (by decide) wM_0 (by decide) (by decide) dX2_readText_9 (fun f6 => ?_)
  replace h := h f6
  have f7 := h.1; replace h := h.2
  refine nr_imul hx hb dX2_readText_10 ?_
  refine uMX2_154_17 hF hK hI f7 dX2_readText_11 (fun S8 H locs eS8 hI => ?_)
  replace h := h S8 eS8
  refine lv_aload_n hx hb dX2_readText_14 rfl (lv_at hl 0 rfl) ?_
  refine gMX2_16_17 hF hK hI dX2_readText_15 ?_
  refine lv_aload_n hx hb dX2_readText_18 rfl (lv_at hl 0 rfl) ?_
  refine gMX2_154_17 hF hK hI dX2_readText_19 (fun f9 => ?_)
  replace h := h f9
  refine nr_iconst hx hb dX2_readText_22 ?_
  have f10 := h.1; replace h := h.2
  refine s_iast hx hb hK hI 2 (by decide) wM_2 f9 f10 (show InR (0) by decide) dX2_readText_23 (fun S11 H locs eS11 hI => ?_)
  replace h := h S11 eS11
  refine lv_aload_n hx hb dX2_readText_24 rfl (lv_at hl 0 rfl) ?_
  refine nr_iconst hx hb dX2_readText_25 ?_
  refine uMX2_157_17 hF hK hI (by decide) dX2_readText_26 (fun S12 H locs eS12 hI => ?_)
  replace h := h S12 eS12
  refine lv_aload_n hx hb dX2_readText_29 rfl (lv_at hl 0 rfl) ?_
  refine nr_iconst hx hb dX2_readText_30 ?_
  refine uMX2_167_17 hF hK hI (by decide) dX2_readText_31 (fun S13 H locs eS13 hI => ?_)
  replace h := h S13 eS13
  refine lv_aload_n hx hb dX2_readText_34 rfl (lv_at hl 0 rfl) ?_
  refine nr_iconst hx hb dX2_readText_35 ?_
  refine uMX2_253_17 hF hK hI (by decide) dX2_readText_36 (fun S14 H locs eS14 hI => ?_)
  replace h := h S14 eS14
  refine lv_aload_n hx hb dX2_readText_39 rfl (lv_at hl 0 rfl) ?_
  refine nr_iconst hx hb dX2_readText_40 ?_
  refine uMX2_120_17 hF hK hI (by decide) dX2_readText_41 (fun S15 H locs eS15 hI => ?_)
  replace h := h S15 eS15
  refine lv_aload_n hx hb dX2_readText_44 rfl (lv_at hl 0 rfl) ?_
  refine cMX2_184 hF hK hI hl.1 hR (by decide) (Nat.le_of_ble_eq_true rfl) ⟨Nat.zero_le _, Nat.zero_le _⟩ h dX2_readText_45 (fun S17 H locs h hI => ?_)
  obtain ⟨n0, h⟩ := h
  exact L48 n0 S17 _ _ _ hI (lv_sub hl [0] rfl) h
theorem uMX2_26_17 {p : Program} {l : Launch} {e : Env} {R : Room} {s : State} {m : MethodId} {args : Array Value} {below : List Frame} {meth : Method} {c : Code} {H : Heap} {locs : List Loc} {Q : State → Prop} {cc : ByteArray} {nL pc : Nat} {ls : Array Slot} {rest : List Value} {cells slots : Nat} {D : va_G} {dA : Nat → ClassId} {ad : Nat → Nat} {A : Nat → Prop} {H0 : Heap} {S : St} (hF : CallFix p m c cc nL s args lw_all RX2) (hK : gK D dA s) (hI : sI D dA wM ad A H0 S H locs) {v : Int} (hv : InR v) (hdg : decode cc pc = .ok (.putfield 26, 3)) (kk : ∀ (S1 : St) (H1 : Heap) (locs1 : List Loc), S1 = fset S 6 v → sI D dA wM ad A H0 S1 H1 locs1 → W p l e R s m args below meth c H1 locs1 cells slots Q (F0 m (pc + 3) ls (rest))) : W p l e R s m args below meth c H locs cells slots Q (F0 m (pc) ls (iV v :: .ref (ad 17) :: rest)) := s_put hF.1 hF.2.1 wM_U tyX2 tyX2_ok nmX2 hF.2.2.2.2 hF.2.2.2.1 hK hI 17 (by decide) wM_17 rfl in_X2 6 (by decide) q1169 rfl 0 6 rfl hv rfl rfl rfl hdg (fun H1 locs1 h => kk _ H1 locs1 rfl h)
theorem gMX2_22_17 {p : Program} {l : Launch} {e : Env} {R : Room} {s : State} {m : MethodId} {args : Array Value} {below : List Frame} {meth : Method} {c : Code} {H : Heap} {locs : List Loc} {Q : State → Prop} {cc : ByteArray} {nL pc : Nat} {ls : Array Slot} {rest : List Value} {cells slots : Nat} {D : va_G} {dA : Nat → ClassId} {ad : Nat → Nat} {A : Nat → Prop} {H0 : Heap} {S : St} (hF : CallFix p m c cc nL s args lw_all RX2) (hK : gK D dA s) (hI : sI D dA wM ad A H0 S H locs) (hdg : decode cc pc = .ok (.getfield 22, 3)) (kk : InR (fI S 5) → W p l e R s m args below meth c H locs cells slots Q (F0 m (pc + 3) ls (iV (fI S 5) :: rest))) : W p l e R s m args below meth c H locs cells slots Q (F0 m (pc) ls (.ref (ad 17) :: rest)) := s_geti hF.1 hF.2.1 hF.2.2.2.2 hF.2.2.2.1 hK hI 17 (by decide) wM_17 rfl in_X2 5 (by decide) q1168 rfl 0 5 rfl (by decide) hdg (kk (kdP_R (k := 0) (by decide) (hI.1.2.2.2.1.1 5)))
theorem cMX2_265 {p : Program} {l : Launch} {e : Env} {R : Room} {s : State} {m : MethodId} {args : Array Value} {below : List Frame} {meth : Method} {c : Code} {H : Heap} {locs : List Loc} {Q : State → Prop} {cc : ByteArray} {nL pc : Nat} {ls : Array Slot} {rest : List Value} {cells slots : Nat} {D : va_G} {dA : Nat → ClassId} {ad : Nat → Nat} {A : Nat → Prop} {H0 : Heap} {S : St} {dk : Nat} (hF : CallFix p m c cc nL s args lw_all RX2) (hK : gK D dA s) (hI : sI D dA wM ad A H0 S H locs) (hls : ls.size = nL) (hR : R.frames = dk + 1 ∧ R.locals = 64 * dk + 64) (hd : 9 + 1 ≤ dk) (hW : (rest.map fun v => v.category).sum ≤ 8) (hf : cells ≤ R.cells ∧ slots ≤ R.slots) {K : Int → St → Prop} (h : w_M_readText S K) (hdg : decode cc pc = .ok (.invokevirtual 265, 3)) (kk : ∀ (r : Int) (S1 : St) (H1 : Heap) (locs1 : List Loc), InR r → K r S1 → sI D dA wM ad A H0 S1 H1 locs1 → W p l e R s m args below meth c H1 locs1 cells slots Q (F0 m (pc + 3) ls (iV r :: rest))) : W p l e R s m args below meth c H locs cells slots Q (F0 m (pc) ls (.ref (ad 17) :: rest)) := s_callVi (As := []) (rest := rest) (K := K) hF (t_M_readText l D dA ad S H.size K h) (s_recv hK hI 17 (by decide) wM_17 rfl) (cwV 0 hF.2.2.2.2 (lw_V q1374 q1376 qs58 q109 q1377) rfl rfl rfl (by decide +kernel) ⟨by have h1 := hR.1; have h2 : (rmD 9 0 0).frames = 9 + 1 := rfl; omega, by have h1 := hR.2; have h2 : (rmD 9 0 0).locals = 64 * 9 + 64 := rfl; omega⟩) hK hI rfl hls rfl hW hdg hf kk
theorem uMX2_22_17 {p : Program} {l : Launch} {e : Env} {R : Room} {s : State} {m : MethodId} {args : Array Value} {below : List Frame} {meth : Method} {c : Code} {H : Heap} {locs : List Loc} {Q : State → Prop} {cc : ByteArray} {nL pc : Nat} {ls : Array Slot} {rest : List Value} {cells slots : Nat} {D : va_G} {dA : Nat → ClassId} {ad : Nat → Nat} {A : Nat → Prop} {H0 : Heap} {S : St} (hF : CallFix p m c cc nL s args lw_all RX2) (hK : gK D dA s) (hI : sI D dA wM ad A H0 S H locs) {v : Int} (hv : InR v) (hdg : decode cc pc = .ok (.putfield 22, 3)) (kk : ∀ (S1 : St) (H1 : Heap) (locs1 : List Loc), S1 = fset S 5 v → sI D dA wM ad A H0 S1 H1 locs1 → W p l e R s m args below meth c H1 locs1 cells slots Q (F0 m (pc + 3) ls (rest))) : W p l e R s m args below meth c H locs cells slots Q (F0 m (pc) ls (iV v :: .ref (ad 17) :: rest)) := s_put hF.1 hF.2.1 wM_U tyX2 tyX2_ok nmX2 hF.2.2.2.2 hF.2.2.2.1 hK hI 17 (by decide) wM_17 rfl in_X2 5 (by decide) q1168 rfl 0 5 rfl hv rfl rfl rfl hdg (fun H1 locs1 h => kk _ H1 locs1 rfl h)
set_option maxHeartbeats 4000000 in
theorem t_M_text (l : Launch) (D : va_G) (dA : Nat → ClassId) (ad : Nat → Nat) (S : St) (sz : Nat) (K : Int → St → Prop) (h : w_M_text S K) : Met l yX2_text (ws_ yX2_text cX2_text 1 (Option.some Jvm.ClassFile.FieldType.int)) (rmD 10 0 0) (va_Pc [.ref (ad 17)] (sPre D dA wM ad S sz)) (va_Qi (fun r S' => K r.toInt S') (sPost D dA wM ad (wA wM ad S sz)) (wA wM ad S sz)) 0 0 (wA wM ad S sz) := by
  refine Met.ofW (cc := cX2_text) (maxL := 1) (ret := (Option.some Jvm.ClassFile.FieldType.int)) (by decide) rfl ?_
  intro p e s m args below meth c s₁ B hml hv
  obtain ⟨rfl, hsz, hK, hC⟩ := hv
  have hx := B.exec
  have hb := B.bytes
  have hr := B.returns
  have hlocks := B.notSynchronized
  have hts := atoms_spec (ws := (ws_ yX2_text cX2_text 1 (Option.some Jvm.ClassFile.FieldType.int))) B.pre
  have hts : ∀ w ∈ lw_all, w.before _ s = true := fun w h => hts w (List.mem_cons_of_mem _ h)
  have hown : s.vm.findClass RX2 = some m.cls := findClass_of_methodNamed B.named
  clear B
  subst hsz
  have hI : sI D dA wM ad (wA wM ad S s.heap.size) s.heap S s.heap [] := hC.start
  clear hC
  generalize wA wM ad S s.heap.size = A at hI ⊢
  have hl := lv_entry ([.ref (ad 17)] : List Value) (n := 1) (Nat.le_of_ble_eq_true rfl)
  rw [lg_entry_eq]
  generalize (lg_sl ([.ref (ad 17)] : List Value) ++ List.replicate (1 - (lg_sl ([.ref (ad 17)] : List Value)).length) Slot.unset).toArray = ls at hl ⊢
  have hl : lv_has ls 1 [(0, .ref (ad 17))] := hl
  have hF : CallFix p m c cX2_text 1 s _ lw_all RX2 := ⟨hx, hb, hml, hown, hts⟩
  have hR : (headSpec (ws_ yX2_text cX2_text 1 (Option.some Jvm.ClassFile.FieldType.int)) (rmD 10 0 0)).room.frames = 10 + 1 ∧ (headSpec (ws_ yX2_text cX2_text 1 (Option.some Jvm.ClassFile.FieldType.int)) (rmD 10 0 0)).room.locals = 64 * 10 + 64 := ⟨rfl, rfl⟩
  generalize (headSpec (ws_ yX2_text cX2_text 1 (Option.some Jvm.ClassFile.FieldType.int)) (rmD 10 0 0)).room = R at hR ⊢
  generalize ([.ref (ad 17)] : List Value).toArray = args at hts hF ⊢
  generalize hQ : MQ below _ _ _ _ _ _ = Q
  have J36 : ∀ (y1 : Int) (S : St) (H : Heap) (locs : List Loc) (ls : Array Slot), InR y1 → sI D dA wM ad A s.heap S H locs → lv_has ls 1 [(0, .ref (ad 17))] → j_M_text_36 y1 S K → W p l e R s m args below meth c H locs 0 0 Q (F0 m 36 ls [iV y1, .ref (ad 17)]) := by
    intro y1 S H locs ls ry1 hI hl h
    unfold j_M_text_36 at h
    refine uMX2_26_17 hF hK hI ry1 dX2_text_36 (fun S1 H locs eS1 hI => ?_)
    replace h := h S1 eS1
    refine lv_aload_n hx hb dX2_text_39 rfl (lv_at hl 0 rfl) ?_
    refine nr_iconst hx hb dX2_text_40 ?_
    refine uMX2_114_17 hF hK hI (by decide) dX2_text_41 (fun S2 H locs eS2 hI => ?_)
    replace h := h S2 eS2
    refine lv_aload_n hx hb dX2_text_44 rfl (lv_at hl 0 rfl) ?_
    refine gMX2_22_17 hF hK hI dX2_text_45 (fun f3 => ?_)
    replace h := h f3
    refine nr_if_eq hx hb f3 dX2_text_48 (tgt := 53) (by decide) (fun c4 => ?_) (fun c4 => ?_)
    · replace h := h.1 c4
      refine lv_aload_n hx hb dX2_text_53 rfl (lv_at hl 0 rfl) ?_
      refine gMX2_7_17 hF hK hI dX2_text_54 ?_
      refine nr_iconst hx hb dX2_text_57 ?_
      refine lv_dup2_11 hx hb dX2_text_58 rfl rfl ?_
      refine s_iald hx hb hK hI 0 (by decide) wM_0 (by decide) (by decide) dX2_text_59 (fun f5 => ?_)
      replace h := h f5
      refine nr_iconst hx hb dX2_text_60 ?_
      have f6 := h.1; replace h := h.2
      refine nr_iadd hx hb dX2_text_61 ?_
      refine s_iast hx hb hK hI 0 (by decide) wM_0 (by decide) (by decide) f6 dX2_text_62 (fun S7 H locs eS7 hI => ?_)
      replace h := h S7 eS7
      refine lv_aload_n hx hb dX2_text_63 rfl (lv_at hl 0 rfl) ?_
      refine gMX2_7_17 hF hK hI dX2_text_64 ?_
      refine nr_iconst hx hb dX2_text_67 ?_
      refine s_iald hx hb hK hI 0 (by decide) wM_0 (by decide) (by decide) dX2_text_68 (fun f8 => ?_)
      replace h := h f8
      refine nr_iconst hx hb dX2_text_69 ?_
      have f9 := h.1; replace h := h.2
      refine nr_isub hx hb dX2_text_70 ?_
      rw [← hQ]; exact s_iret (K := K) hx hb hr hlocks hI f9 h dX2_text_71
    · replace h := h.2 c4
      refine nr_iconst hx hb dX2_text_51 ?_
      rw [← hQ]; exact s_iret (K := K) hx hb hr hlocks hI (by decide) h dX2_text_52
  unfold w_M_text at h
  refine lv_aload_n hx hb dX2_text_0 rfl (lv_at hl 0 rfl) ?_
  refine gMX2_7_17 hF hK hI dX2_text_1 ?_
  refine nr_iconst hx hb dX2_text_4 ?_
  refine s_iald hx hb hK hI 0 (by decide) wM_0 (by decide) (by decide) dX2_text_5 (fun f10 => ?_)
  replace h := h f10
  refine nr_iconst hx hb dX2_text_6 ?_
  refine nr_icmp_ne hx hb f10 (by decide) dX2_text_7 (tgt := 12) (by decide) (fun c11 => ?_) (fun c11 => ?_)
  · replace h := h.1 c11
    refine lv_aload_n hx hb dX2_text_12 rfl (lv_at hl 0 rfl) ?_
    refine lv_aload_n hx hb dX2_text_13 rfl (lv_at hl 0 rfl) ?_
    refine cMX2_265 hF hK hI hl.1 hR (by decide) (Nat.le_of_ble_eq_true rfl) ⟨Nat.zero_le _, Nat.zero_le _⟩ h dX2_text_14 (fun r12 S13 H locs fr12 h hI => ?_)
    replace h := h fr12
    refine uMX2_22_17 hF hK hI fr12 dX2_text_17 (fun S14 H locs eS14 hI => ?_)
    replace h := h S14 eS14
    refine lv_aload_n hx hb dX2_text_20 rfl (lv_at hl 0 rfl) ?_
    refine lv_aload_n hx hb dX2_text_21 rfl (lv_at hl 0 rfl) ?_
    refine gMX2_22_17 hF hK hI dX2_text_22 (fun f15 => ?_)
    replace h := h f15
    refine nr_if_ne hx hb f15 dX2_text_25 (tgt := 32) (by decide) (fun c16 => ?_) (fun c16 => ?_)
    · replace h := h.1 c16
      refine lv_aload_n hx hb dX2_text_32 rfl (lv_at hl 0 rfl) ?_
      refine gMX2_126_17 hF hK hI dX2_text_33 (fun f17 => ?_)
      replace h := h f17
      exact J36 (fI S14 8) S14 _ _ _ f17 hI (lv_sub hl [0] rfl) h
    · replace h := h.2 c16
      refine nr_iconst hx hb dX2_text_28 ?_
      refine lv_goto (tgt := 36) hx hb dX2_text_29 (by decide) ?_
      exact J36 (-1) S14 _ _ _ (by decide) hI (lv_sub hl [0] rfl) h
  · replace h := h.2 c11
    refine nr_iconst hx hb dX2_text_10 ?_
    rw [← hQ]; exact s_iret (K := K) hx hb hr hlocks hI (by decide) h dX2_text_11
theorem gMX2_26_17 {p : Program} {l : Launch} {e : Env} {R : Room} {s : State} {m : MethodId} {args : Array Value} {below : List Frame} {meth : Method} {c : Code} {H : Heap} {locs : List Loc} {Q : State → Prop} {cc : ByteArray} {nL pc : Nat} {ls : Array Slot} {rest : List Value} {cells slots : Nat} {D : va_G} {dA : Nat → ClassId} {ad : Nat → Nat} {A : Nat → Prop} {H0 : Heap} {S : St} (hF : CallFix p m c cc nL s args lw_all RX2) (hK : gK D dA s) (hI : sI D dA wM ad A H0 S H locs) (hdg : decode cc pc = .ok (.getfield 26, 3)) (kk : InR (fI S 6) → W p l e R s m args below meth c H locs cells slots Q (F0 m (pc + 3) ls (iV (fI S 6) :: rest))) : W p l e R s m args below meth c H locs cells slots Q (F0 m (pc) ls (.ref (ad 17) :: rest)) := s_geti hF.1 hF.2.1 hF.2.2.2.2 hF.2.2.2.1 hK hI 17 (by decide) wM_17 rfl in_X2 6 (by decide) q1169 rfl 0 6 rfl (by decide) hdg (kk (kdP_R (k := 0) (by decide) (hI.1.2.2.2.1.1 6)))
set_option maxHeartbeats 4000000 in
theorem t_M_fault (l : Launch) (D : va_G) (dA : Nat → ClassId) (ad : Nat → Nat) (S : St) (sz : Nat) (x1 : Int) (K : Int → Prop) (rx1 : InR x1) (h : w_M_fault x1 S K) : Met l yX2_fault (ws_ yX2_fault cX2_fault 2 (Option.some Jvm.ClassFile.FieldType.int)) (rmD 0 0 0) (va_Pc [.ref (ad 17), iV x1] (sPre D dA wM ad S sz)) (va_Qi (fun r S' => S' = S ∧ K r.toInt) (sPost D dA wM ad (wA wM ad S sz)) (wA wM ad S sz)) 0 0 (wA wM ad S sz) := by
  refine Met.ofW (cc := cX2_fault) (maxL := 2) (ret := (Option.some Jvm.ClassFile.FieldType.int)) (by decide) rfl ?_
  intro p e s m args below meth c s₁ B hml hv
  obtain ⟨rfl, hsz, hK, hC⟩ := hv
  have hx := B.exec
  have hb := B.bytes
  have hr := B.returns
  have hlocks := B.notSynchronized
  have hts := atoms_spec (ws := (ws_ yX2_fault cX2_fault 2 (Option.some Jvm.ClassFile.FieldType.int))) B.pre
  have hts : ∀ w ∈ lw_all, w.before _ s = true := fun w h => hts w (List.mem_cons_of_mem _ h)
  have hown : s.vm.findClass RX2 = some m.cls := findClass_of_methodNamed B.named
  clear B
  subst hsz
  have hI : sI D dA wM ad (wA wM ad S s.heap.size) s.heap S s.heap [] := hC.start
  clear hC
  generalize wA wM ad S s.heap.size = A at hI ⊢
  have hl := lv_entry ([.ref (ad 17), iV x1] : List Value) (n := 2) (Nat.le_of_ble_eq_true rfl)
  rw [lg_entry_eq]
  generalize (lg_sl ([.ref (ad 17), iV x1] : List Value) ++ List.replicate (2 - (lg_sl ([.ref (ad 17), iV x1] : List Value)).length) Slot.unset).toArray = ls at hl ⊢
  have hl : lv_has ls 2 [(0, .ref (ad 17)), (1, iV x1)] := hl
  have hF : CallFix p m c cX2_fault 2 s _ lw_all RX2 := ⟨hx, hb, hml, hown, hts⟩
  have hR : (headSpec (ws_ yX2_fault cX2_fault 2 (Option.some Jvm.ClassFile.FieldType.int)) (rmD 0 0 0)).room.frames = 0 + 1 ∧ (headSpec (ws_ yX2_fault cX2_fault 2 (Option.some Jvm.ClassFile.FieldType.int)) (rmD 0 0 0)).room.locals = 64 * 0 + 64 := ⟨rfl, rfl⟩
  generalize (headSpec (ws_ yX2_fault cX2_fault 2 (Option.some Jvm.ClassFile.FieldType.int)) (rmD 0 0 0)).room = R at hR ⊢
  generalize ([.ref (ad 17), iV x1] : List Value).toArray = args at hts hF ⊢
  generalize hQ : MQ below _ _ _ _ _ _ = Q
  unfold w_M_fault at h
  refine lv_iload_n hx hb dX2_fault_0 rfl (lv_at hl 1 rfl) ?_
  refine nr_if_ne hx hb rx1 dX2_fault_1 (tgt := 11) (by decide) (fun c1 => ?_) (fun c1 => ?_)
  · replace h := h.1 c1
    refine lv_iload_n hx hb dX2_fault_11 rfl (lv_at hl 1 rfl) ?_
    refine nr_iconst hx hb dX2_fault_12 ?_
    refine nr_icmp_ne hx hb rx1 (by decide) dX2_fault_13 (tgt := 23) (by decide) (fun c2 => ?_) (fun c2 => ?_)
    · replace h := h.1 c2
      refine nr_iconst hx hb dX2_fault_23 ?_
      rw [← hQ]; exact s_iret (K := fun r S' => S' = S ∧ K r) hx hb hr hlocks hI (by decide) ⟨rfl, h⟩ dX2_fault_24
    · replace h := h.2 c2
      refine lv_aload_n hx hb dX2_fault_16 rfl (lv_at hl 0 rfl) ?_
      refine gMX2_26_17 hF hK hI dX2_fault_17 (fun f3 => ?_)
      replace h := h f3
      refine lv_goto (tgt := 24) hx hb dX2_fault_20 (by decide) ?_
      rw [← hQ]; exact s_iret (K := fun r S' => S' = S ∧ K r) hx hb hr hlocks hI f3 ⟨rfl, h⟩ dX2_fault_24
  · replace h := h.2 c1
    refine lv_aload_n hx hb dX2_fault_4 rfl (lv_at hl 0 rfl) ?_
    refine gMX2_22_17 hF hK hI dX2_fault_5 (fun f4 => ?_)
    replace h := h f4
    refine lv_goto (tgt := 24) hx hb dX2_fault_8 (by decide) ?_
    rw [← hQ]; exact s_iret (K := fun r S' => S' = S ∧ K r) hx hb hr hlocks hI f4 ⟨rfl, h⟩ dX2_fault_24
set_option maxHeartbeats 4000000 in
theorem t_M_by (l : Launch) (D : va_G) (dA : Nat → ClassId) (ad : Nat → Nat) (S : St) (sz : Nat) (x1 : Int) (K : Int → St → Prop) (rx1 : InR x1) (h : w_M_by x1 S K) : Met l yX2_by (ws_ yX2_by cX2_by 2 (Option.some Jvm.ClassFile.FieldType.boolean)) (rmD 1 0 0) (va_Pc [.ref (ad 17), iV x1] (sPre D dA wM ad S sz)) (va_Qi (fun r S' => (r.toInt = 0 ∨ r.toInt = 1) ∧ (K r.toInt S')) (sPost D dA wM ad (wA wM ad S sz)) (wA wM ad S sz)) 0 0 (wA wM ad S sz) := by
  refine Met.ofW (cc := cX2_by) (maxL := 2) (ret := (Option.some Jvm.ClassFile.FieldType.boolean)) (by decide) rfl ?_
  intro p e s m args below meth c s₁ B hml hv
  obtain ⟨rfl, hsz, hK, hC⟩ := hv
  have hx := B.exec
  have hb := B.bytes
  have hr := B.returns
  have hlocks := B.notSynchronized
  have hts := atoms_spec (ws := (ws_ yX2_by cX2_by 2 (Option.some Jvm.ClassFile.FieldType.boolean))) B.pre
  have hts : ∀ w ∈ lw_all, w.before _ s = true := fun w h => hts w (List.mem_cons_of_mem _ h)
  have hown : s.vm.findClass RX2 = some m.cls := findClass_of_methodNamed B.named
  clear B
  subst hsz
  have hI : sI D dA wM ad (wA wM ad S s.heap.size) s.heap S s.heap [] := hC.start
  clear hC
  generalize wA wM ad S s.heap.size = A at hI ⊢
  have hl := lv_entry ([.ref (ad 17), iV x1] : List Value) (n := 2) (Nat.le_of_ble_eq_true rfl)
  rw [lg_entry_eq]
  generalize (lg_sl ([.ref (ad 17), iV x1] : List Value) ++ List.replicate (2 - (lg_sl ([.ref (ad 17), iV x1] : List Value)).length) Slot.unset).toArray = ls at hl ⊢
  have hl : lv_has ls 2 [(0, .ref (ad 17)), (1, iV x1)] := hl
  have hF : CallFix p m c cX2_by 2 s _ lw_all RX2 := ⟨hx, hb, hml, hown, hts⟩
  have hR : (headSpec (ws_ yX2_by cX2_by 2 (Option.some Jvm.ClassFile.FieldType.boolean)) (rmD 1 0 0)).room.frames = 1 + 1 ∧ (headSpec (ws_ yX2_by cX2_by 2 (Option.some Jvm.ClassFile.FieldType.boolean)) (rmD 1 0 0)).room.locals = 64 * 1 + 64 := ⟨rfl, rfl⟩
  generalize (headSpec (ws_ yX2_by cX2_by 2 (Option.some Jvm.ClassFile.FieldType.boolean)) (rmD 1 0 0)).room = R at hR ⊢
  generalize ([.ref (ad 17), iV x1] : List Value).toArray = args at hts hF ⊢
  generalize hQ : MQ below _ _ _ _ _ _ = Q
  unfold w_M_by at h
  refine lv_iload_n hx hb dX2_by_0 rfl (lv_at hl 1 rfl) ?_
  refine nr_iconst hx hb dX2_by_1 ?_
  refine lv_aload_n hx hb dX2_by_2 rfl (lv_at hl 0 rfl) ?_
  refine gMX2_7_17 hF hK hI dX2_by_3 ?_
  refine nr_iconst hx hb dX2_by_6 ?_
  refine s_iald hx hb hK hI 0 (by decide) wM_0 (by decide) (by decide) dX2_by_7 (fun f1 => ?_)
  replace h := h f1
  refine nr_iconst hx hb dX2_by_8 ?_
  have f2 := h.1; replace h := h.2
  refine nr_isub hx hb dX2_by_9 ?_
  refine cMX2_75 hF hK hI hl.1 hR (by decide) (Nat.le_of_ble_eq_true rfl) ⟨Nat.zero_le _, Nat.zero_le _⟩ rx1 (by decide) f2 h dX2_by_10 (fun r3 H locs fr3 h hI => ?_)
  replace h := h fr3
  have gr3 : InR r3 := kdP_R (k := 2) (by decide) fr3
  refine nr_if_ne hx hb gr3 dX2_by_13 (tgt := 18) (by decide) (fun c5 => ?_) (fun c5 => ?_)
  · replace h := h.1 c5
    refine lv_aload_n hx hb dX2_by_18 rfl (lv_at hl 0 rfl) ?_
    refine gMX2_7_17 hF hK hI dX2_by_19 ?_
    refine nr_iconst hx hb dX2_by_22 ?_
    refine lv_iload_n hx hb dX2_by_23 rfl (lv_at hl 1 rfl) ?_
    refine s_iast hx hb hK hI 0 (by decide) wM_0 (by decide) (by decide) rx1 dX2_by_24 (fun S6 H locs eS6 hI => ?_)
    replace h := h S6 eS6
    refine nr_iconst hx hb dX2_by_25 ?_
    rw [← hQ]; exact s_zret (K := K) hx hb hr hlocks hI (by decide) h dX2_by_26
  · replace h := h.2 c5
    refine nr_iconst hx hb dX2_by_16 ?_
    rw [← hQ]; exact s_zret (K := K) hx hb hr hlocks hI (by decide) h dX2_by_17
theorem cMX2_268 {p : Program} {l : Launch} {e : Env} {R : Room} {s : State} {m : MethodId} {args : Array Value} {below : List Frame} {meth : Method} {c : Code} {H : Heap} {locs : List Loc} {Q : State → Prop} {cc : ByteArray} {nL pc : Nat} {ls : Array Slot} {rest : List Value} {cells slots : Nat} {D : va_G} {dA : Nat → ClassId} {ad : Nat → Nat} {A : Nat → Prop} {H0 : Heap} {S : St} {dk : Nat} (hF : CallFix p m c cc nL s args lw_all RX2) (hK : gK D dA s) (hI : sI D dA wM ad A H0 S H locs) (hls : ls.size = nL) (hR : R.frames = dk + 1 ∧ R.locals = 64 * dk + 64) (hd : 2 + 1 ≤ dk) (hW : (rest.map fun v => v.category).sum ≤ 8) (hf : cells ≤ R.cells ∧ slots ≤ R.slots) {x1 : Int} {x2 : Int} {x3 : Int} {K : Int → St → Prop} (r1 : InR x1) (r2 : InR x2) (r3 : InR x3) (h : w_M_lend x1 x2 x3 S K) (hdg : decode cc pc = .ok (.invokevirtual 268, 3)) (kk : ∀ (r : Int) (S1 : St) (H1 : Heap) (locs1 : List Loc), InR r → K r S1 → sI D dA wM ad A H0 S1 H1 locs1 → W p l e R s m args below meth c H1 locs1 cells slots Q (F0 m (pc + 3) ls (iV r :: rest))) : W p l e R s m args below meth c H locs cells slots Q (F0 m (pc) ls (iV x3 :: iV x2 :: iV x1 :: .ref (ad 17) :: rest)) := s_callVi (As := [iV x1, iV x2, iV x3]) (rest := rest) (K := K) hF (t_M_lend l D dA ad S H.size x1 x2 x3 K r1 r2 r3 h) (s_recv hK hI 17 (by decide) wM_17 rfl) (cwV 3 hF.2.2.2.2 (lw_V q1515 q1305 q1306 q109 q1307) rfl rfl rfl (by decide +kernel) ⟨by have h1 := hR.1; have h2 : (rmD 2 0 0).frames = 2 + 1 := rfl; omega, by have h1 := hR.2; have h2 : (rmD 2 0 0).locals = 64 * 2 + 64 := rfl; omega⟩) hK hI rfl hls rfl hW hdg hf kk
theorem cMX2_271 {p : Program} {l : Launch} {e : Env} {R : Room} {s : State} {m : MethodId} {args : Array Value} {below : List Frame} {meth : Method} {c : Code} {H : Heap} {locs : List Loc} {Q : State → Prop} {cc : ByteArray} {nL pc : Nat} {ls : Array Slot} {rest : List Value} {cells slots : Nat} {D : va_G} {dA : Nat → ClassId} {ad : Nat → Nat} {A : Nat → Prop} {H0 : Heap} {S : St} {dk : Nat} (hF : CallFix p m c cc nL s args lw_all RX2) (hK : gK D dA s) (hI : sI D dA wM ad A H0 S H locs) (hls : ls.size = nL) (hR : R.frames = dk + 1 ∧ R.locals = 64 * dk + 64) (hd : 2 + 1 ≤ dk) (hW : (rest.map fun v => v.category).sum ≤ 8) (hf : cells ≤ R.cells ∧ slots ≤ R.slots) {x1 : Int} {x2 : Int} {K : Int → St → Prop} (r1 : InR x1) (r2 : InR x2) (h : w_M_swap x1 x2 S K) (hdg : decode cc pc = .ok (.invokevirtual 271, 3)) (kk : ∀ (r : Int) (S1 : St) (H1 : Heap) (locs1 : List Loc), (r = 0 ∨ r = 1) → K r S1 → sI D dA wM ad A H0 S1 H1 locs1 → W p l e R s m args below meth c H1 locs1 cells slots Q (F0 m (pc + 3) ls (iV r :: rest))) : W p l e R s m args below meth c H locs cells slots Q (F0 m (pc) ls (iV x2 :: iV x1 :: .ref (ad 17) :: rest)) := s_callVz (As := [iV x1, iV x2]) (rest := rest) (K := K) hF (t_M_swap l D dA ad S H.size x1 x2 K r1 r2 h) (s_recv hK hI 17 (by decide) wM_17 rfl) (cwV 2 hF.2.2.2.2 (lw_V q1516 q1309 q1310 q109 q1311) rfl rfl rfl (by decide +kernel) ⟨by have h1 := hR.1; have h2 : (rmD 2 0 0).frames = 2 + 1 := rfl; omega, by have h1 := hR.2; have h2 : (rmD 2 0 0).locals = 64 * 2 + 64 := rfl; omega⟩) hK hI rfl hls rfl hW hdg hf kk
theorem cMX2_275 {p : Program} {l : Launch} {e : Env} {R : Room} {s : State} {m : MethodId} {args : Array Value} {below : List Frame} {meth : Method} {c : Code} {H : Heap} {locs : List Loc} {Q : State → Prop} {cc : ByteArray} {nL pc : Nat} {ls : Array Slot} {rest : List Value} {cells slots : Nat} {D : va_G} {dA : Nat → ClassId} {ad : Nat → Nat} {A : Nat → Prop} {H0 : Heap} {S : St} {dk : Nat} (hF : CallFix p m c cc nL s args lw_all RX2) (hK : gK D dA s) (hI : sI D dA wM ad A H0 S H locs) (hls : ls.size = nL) (hR : R.frames = dk + 1 ∧ R.locals = 64 * dk + 64) (hd : 2 + 1 ≤ dk) (hW : (rest.map fun v => v.category).sum ≤ 8) (hf : cells ≤ R.cells ∧ slots ≤ R.slots) {x1 : Int} {x2 : Int} {K : Int → St → Prop} (r1 : InR x1) (r2 : InR x2) (h : w_M_steal x1 x2 S K) (hdg : decode cc pc = .ok (.invokevirtual 275, 3)) (kk : ∀ (r : Int) (S1 : St) (H1 : Heap) (locs1 : List Loc), (r = 0 ∨ r = 1) → K r S1 → sI D dA wM ad A H0 S1 H1 locs1 → W p l e R s m args below meth c H1 locs1 cells slots Q (F0 m (pc + 3) ls (iV r :: rest))) : W p l e R s m args below meth c H locs cells slots Q (F0 m (pc) ls (iV x2 :: iV x1 :: .ref (ad 17) :: rest)) := s_callVz (As := [iV x1, iV x2]) (rest := rest) (K := K) hF (t_M_steal l D dA ad S H.size x1 x2 K r1 r2 h) (s_recv hK hI 17 (by decide) wM_17 rfl) (cwV 2 hF.2.2.2.2 (lw_V q1517 q1313 q1314 q109 q1315) rfl rfl rfl (by decide +kernel) ⟨by have h1 := hR.1; have h2 : (rmD 2 0 0).frames = 2 + 1 := rfl; omega, by have h1 := hR.2; have h2 : (rmD 2 0 0).locals = 64 * 2 + 64 := rfl; omega⟩) hK hI rfl hls rfl hW hdg hf kk
theorem cMX2_278 {p : Program} {l : Launch} {e : Env} {R : Room} {s : State} {m : MethodId} {args : Array Value} {below : List Frame} {meth : Method} {c : Code} {H : Heap} {locs : List Loc} {Q : State → Prop} {cc : ByteArray} {nL pc : Nat} {ls : Array Slot} {rest : List Value} {cells slots : Nat} {D : va_G} {dA : Nat → ClassId} {ad : Nat → Nat} {A : Nat → Prop} {H0 : Heap} {S : St} {dk : Nat} (hF : CallFix p m c cc nL s args lw_all RX2) (hK : gK D dA s) (hI : sI D dA wM ad A H0 S H locs) (hls : ls.size = nL) (hR : R.frames = dk + 1 ∧ R.locals = 64 * dk + 64) (hd : 2 + 1 ≤ dk) (hW : (rest.map fun v => v.category).sum ≤ 8) (hf : cells ≤ R.cells ∧ slots ≤ R.slots) {x1 : Int} {K : Int → St → Prop} (r1 : InR x1) (h : w_M_burn x1 S K) (hdg : decode cc pc = .ok (.invokevirtual 278, 3)) (kk : ∀ (r : Int) (S1 : St) (H1 : Heap) (locs1 : List Loc), InR r → K r S1 → sI D dA wM ad A H0 S1 H1 locs1 → W p l e R s m args below meth c H1 locs1 cells slots Q (F0 m (pc + 3) ls (iV r :: rest))) : W p l e R s m args below meth c H locs cells slots Q (F0 m (pc) ls (iV x1 :: .ref (ad 17) :: rest)) := s_callVi (As := [iV x1]) (rest := rest) (K := K) hF (t_M_burn l D dA ad S H.size x1 K r1 h) (s_recv hK hI 17 (by decide) wM_17 rfl) (cwV 1 hF.2.2.2.2 (lw_V q1518 q1317 q1318 q109 q1319) rfl rfl rfl (by decide +kernel) ⟨by have h1 := hR.1; have h2 : (rmD 2 0 0).frames = 2 + 1 := rfl; omega, by have h1 := hR.2; have h2 : (rmD 2 0 0).locals = 64 * 2 + 64 := rfl; omega⟩) hK hI rfl hls rfl hW hdg hf kk
theorem cMX2_281 {p : Program} {l : Launch} {e : Env} {R : Room} {s : State} {m : MethodId} {args : Array Value} {below : List Frame} {meth : Method} {c : Code} {H : Heap} {locs : List Loc} {Q : State → Prop} {cc : ByteArray} {nL pc : Nat} {ls : Array Slot} {rest : List Value} {cells slots : Nat} {D : va_G} {dA : Nat → ClassId} {ad : Nat → Nat} {A : Nat → Prop} {H0 : Heap} {S : St} {dk : Nat} (hF : CallFix p m c cc nL s args lw_all RX2) (hK : gK D dA s) (hI : sI D dA wM ad A H0 S H locs) (hls : ls.size = nL) (hR : R.frames = dk + 1 ∧ R.locals = 64 * dk + 64) (hd : 4 + 1 ≤ dk) (hW : (rest.map fun v => v.category).sum ≤ 8) (hf : cells ≤ R.cells ∧ slots ≤ R.slots) {x1 : Int} {K : Int → St → Prop} (r1 : InR x1) (h : w_M_pass x1 S K) (hdg : decode cc pc = .ok (.invokevirtual 281, 3)) (kk : ∀ (r : Int) (S1 : St) (H1 : Heap) (locs1 : List Loc), InR r → K r S1 → sI D dA wM ad A H0 S1 H1 locs1 → W p l e R s m args below meth c H1 locs1 cells slots Q (F0 m (pc + 3) ls (iV r :: rest))) : W p l e R s m args below meth c H locs cells slots Q (F0 m (pc) ls (iV x1 :: .ref (ad 17) :: rest)) := s_callVi (As := [iV x1]) (rest := rest) (K := K) hF (t_M_pass l D dA ad S H.size x1 K r1 h) (s_recv hK hI 17 (by decide) wM_17 rfl) (cwV 1 hF.2.2.2.2 (lw_V q1519 q1325 q1326 q109 q1327) rfl rfl rfl (by decide +kernel) ⟨by have h1 := hR.1; have h2 : (rmD 4 0 0).frames = 4 + 1 := rfl; omega, by have h1 := hR.2; have h2 : (rmD 4 0 0).locals = 64 * 4 + 64 := rfl; omega⟩) hK hI rfl hls rfl hW hdg hf kk
set_option maxHeartbeats 4000000 in
theorem t_M_isPlayed (l : Launch) (D : va_G) (dA : Nat → ClassId) (ad : Nat → Nat) (S : St) (sz : Nat) (x1 : Int) (K : Int → St → Prop) (rx1 : InR x1) (h : w_M_isPlayed x1 S K) : Met l yX2_isPlayed (ws_ yX2_isPlayed cX2_isPlayed 4 (Option.some Jvm.ClassFile.FieldType.boolean)) (rmD 5 0 0) (va_Pc [.ref (ad 17), iV x1] (sPre D dA wM ad S sz)) (va_Qi (fun r S' => (r.toInt = 0 ∨ r.toInt = 1) ∧ (K r.toInt S')) (sPost D dA wM ad (wA wM ad S sz)) (wA wM ad S sz)) 0 0 (wA wM ad S sz) := by
  refine Met.ofW (cc := cX2_isPlayed) (maxL := 4) (ret := (Option.some Jvm.ClassFile.FieldType.boolean)) (by decide) rfl ?_
  intro p e s m args below meth c s₁ B hml hv
  obtain ⟨rfl, hsz, hK, hC⟩ := hv
  have hx := B.exec
  have hb := B.bytes
  have hr := B.returns
  have hlocks := B.notSynchronized
  have hts := atoms_spec (ws := (ws_ yX2_isPlayed cX2_isPlayed 4 (Option.some Jvm.ClassFile.FieldType.boolean))) B.pre
  have hts : ∀ w ∈ lw_all, w.before _ s = true := fun w h => hts w (List.mem_cons_of_mem _ h)
  have hown : s.vm.findClass RX2 = some m.cls := findClass_of_methodNamed B.named
  clear B
  subst hsz
  have hI : sI D dA wM ad (wA wM ad S s.heap.size) s.heap S s.heap [] := hC.start
  clear hC
  generalize wA wM ad S s.heap.size = A at hI ⊢
  have hl := lv_entry ([.ref (ad 17), iV x1] : List Value) (n := 4) (Nat.le_of_ble_eq_true rfl)
  rw [lg_entry_eq]
  generalize (lg_sl ([.ref (ad 17), iV x1] : List Value) ++ List.replicate (4 - (lg_sl ([.ref (ad 17), iV x1] : List Value)).length) Slot.unset).toArray = ls at hl ⊢
  have hl : lv_has ls 4 [(0, .ref (ad 17)), (1, iV x1)] := hl
  have hF : CallFix p m c cX2_isPlayed 4 s _ lw_all RX2 := ⟨hx, hb, hml, hown, hts⟩
  have hR : (headSpec (ws_ yX2_isPlayed cX2_isPlayed 4 (Option.some Jvm.ClassFile.FieldType.boolean)) (rmD 5 0 0)).room.frames = 5 + 1 ∧ (headSpec (ws_ yX2_isPlayed cX2_isPlayed 4 (Option.some Jvm.ClassFile.FieldType.boolean)) (rmD 5 0 0)).room.locals = 64 * 5 + 64 := ⟨rfl, rfl⟩
  generalize (headSpec (ws_ yX2_isPlayed cX2_isPlayed 4 (Option.some Jvm.ClassFile.FieldType.boolean)) (rmD 5 0 0)).room = R at hR ⊢
  generalize ([.ref (ad 17), iV x1] : List Value).toArray = args at hts hF ⊢
  generalize hQ : MQ below _ _ _ _ _ _ = Q
  unfold w_M_isPlayed at h
  refine lv_aload_n hx hb dX2_isPlayed_0 rfl (lv_at hl 0 rfl) ?_
  refine gMX2_16_17 hF hK hI dX2_isPlayed_1 ?_
  refine lv_iload_n hx hb dX2_isPlayed_4 rfl (lv_at hl 1 rfl) ?_
  refine nr_iconst hx hb dX2_isPlayed_5 ?_
  have f1 := h.1; replace h := h.2
  refine nr_iadd hx hb dX2_isPlayed_6 ?_
  have f2 := h.1; replace h := h.2
  refine s_iald hx hb hK hI 2 (by decide) wM_2 f1 f2 dX2_isPlayed_7 (fun f3 => ?_)
  replace h := h f3
  refine nr_topi (fun v4 ev4 => ?_)
  have rv4 : InR v4 := by rw [ev4]; exact f3
  replace h := h v4 ev4 rv4
  refine lv_istore_n (lv' := [(2, iV v4), (0, .ref (ad 17)), (1, iV x1)]) hx hb dX2_isPlayed_8 rfl hl (by decide) rfl (fun ls hl => ?_)
  refine lv_aload_n hx hb dX2_isPlayed_9 rfl (lv_at hl 1 rfl) ?_
  refine gMX2_16_17 hF hK hI dX2_isPlayed_10 ?_
  refine lv_iload_n hx hb dX2_isPlayed_13 rfl (lv_at hl 2 rfl) ?_
  refine nr_iconst hx hb dX2_isPlayed_14 ?_
  have f5 := h.1; replace h := h.2
  refine nr_iadd hx hb dX2_isPlayed_15 ?_
  have f6 := h.1; replace h := h.2
  refine s_iald hx hb hK hI 2 (by decide) wM_2 f5 f6 dX2_isPlayed_16 (fun f7 => ?_)
  replace h := h f7
  refine nr_topi (fun v8 ev8 => ?_)
  have rv8 : InR v8 := by rw [ev8]; exact f7
  replace h := h v8 ev8 rv8
  refine lv_istore_n (lv' := [(3, iV v8), (2, iV v4), (0, .ref (ad 17)), (1, iV x1)]) hx hb dX2_isPlayed_17 rfl hl (by decide) rfl (fun ls hl => ?_)
  refine lv_aload_n hx hb dX2_isPlayed_18 rfl (lv_at hl 2 rfl) ?_
  refine gMX2_16_17 hF hK hI dX2_isPlayed_19 ?_
  refine lv_iload_n hx hb dX2_isPlayed_22 rfl (lv_at hl 3 rfl) ?_
  have f9 := h.1; replace h := h.2
  refine s_iald hx hb hK hI 2 (by decide) wM_2 rx1 f9 dX2_isPlayed_23 (fun f10 => ?_)
  replace h := h f10
  have hcs : (aI S 2 x1) = 4 ∨ (aI S 2 x1) = 5 ∨ (aI S 2 x1) = 6 ∨ (aI S 2 x1) = 7 ∨ (aI S 2 x1) = 8 ∨ ¬ (4 ≤ (aI S 2 x1) ∧ (aI S 2 x1) ≤ 8) := by omega
  rcases hcs with c11 | c11 | c11 | c11 | c11 | c11
  · replace h := h.1 c11
    refine nr_tableIn hx hb 4 c11 (by decide) dX2_isPlayed_24 (by decide) rfl (tgt := 60) (by decide) ?_
    refine lv_aload_n hx hb dX2_isPlayed_60 rfl (lv_at hl 2 rfl) ?_
    refine lv_iload_n hx hb dX2_isPlayed_61 rfl (lv_at hl 1 rfl) ?_
    refine lv_iload_n hx hb dX2_isPlayed_62 rfl (lv_at hl 0 rfl) ?_
    refine lv_aload_n hx hb dX2_isPlayed_63 rfl (lv_at hl 2 rfl) ?_
    refine gMX2_16_17 hF hK hI dX2_isPlayed_64 ?_
    refine lv_iload_n hx hb dX2_isPlayed_67 rfl (lv_at hl 3 rfl) ?_
    refine nr_iconst hx hb dX2_isPlayed_68 ?_
    have f12 := h.1; replace h := h.2
    refine nr_iadd hx hb dX2_isPlayed_69 ?_
    have f13 := h.1; replace h := h.2
    refine s_iald hx hb hK hI 2 (by decide) wM_2 f12 f13 dX2_isPlayed_70 (fun f14 => ?_)
    replace h := h f14
    refine cMX2_268 hF hK hI hl.1 hR (by decide) (Nat.le_of_ble_eq_true rfl) ⟨Nat.zero_le _, Nat.zero_le _⟩ rv4 rv8 f14 h dX2_isPlayed_71 (fun r15 S16 H locs fr15 h hI => ?_)
    replace h := h fr15
    refine nr_if_lt hx hb fr15 dX2_isPlayed_74 (tgt := 81) (by decide) (fun c17 => ?_) (fun c17 => ?_)
    · replace h := h.1 c17
      refine nr_iconst hx hb dX2_isPlayed_81 ?_
      rw [← hQ]; exact s_zret (K := K) hx hb hr hlocks hI (by decide) h dX2_isPlayed_82
    · replace h := h.2 c17
      refine nr_iconst hx hb dX2_isPlayed_77 ?_
      refine lv_goto (tgt := 82) hx hb dX2_isPlayed_78 (by decide) ?_
      rw [← hQ]; exact s_zret (K := K) hx hb hr hlocks hI (by decide) h dX2_isPlayed_82
  · replace h := h.2.1 c11
    refine nr_tableIn hx hb 5 c11 (by decide) dX2_isPlayed_24 (by decide) rfl (tgt := 83) (by decide) ?_
    refine lv_aload_n hx hb dX2_isPlayed_83 rfl (lv_at hl 2 rfl) ?_
    refine lv_iload_n hx hb dX2_isPlayed_84 rfl (lv_at hl 1 rfl) ?_
    refine lv_iload_n hx hb dX2_isPlayed_85 rfl (lv_at hl 0 rfl) ?_
    refine cMX2_271 hF hK hI hl.1 hR (by decide) (Nat.le_of_ble_eq_true rfl) ⟨Nat.zero_le _, Nat.zero_le _⟩ rv4 rv8 h dX2_isPlayed_86 (fun r18 S19 H locs fr18 h hI => ?_)
    replace h := h fr18
    have gr18 : InR r18 := kdP_R (k := 2) (by decide) fr18
    rw [← hQ]; exact s_zret (K := K) hx hb hr hlocks hI fr18 h dX2_isPlayed_89
  · replace h := h.2.2.1 c11
    refine nr_tableIn hx hb 6 c11 (by decide) dX2_isPlayed_24 (by decide) rfl (tgt := 90) (by decide) ?_
    refine lv_aload_n hx hb dX2_isPlayed_90 rfl (lv_at hl 2 rfl) ?_
    refine lv_iload_n hx hb dX2_isPlayed_91 rfl (lv_at hl 1 rfl) ?_
    refine lv_iload_n hx hb dX2_isPlayed_92 rfl (lv_at hl 0 rfl) ?_
    refine cMX2_275 hF hK hI hl.1 hR (by decide) (Nat.le_of_ble_eq_true rfl) ⟨Nat.zero_le _, Nat.zero_le _⟩ rv4 rv8 h dX2_isPlayed_93 (fun r20 S21 H locs fr20 h hI => ?_)
    replace h := h fr20
    have gr20 : InR r20 := kdP_R (k := 2) (by decide) fr20
    rw [← hQ]; exact s_zret (K := K) hx hb hr hlocks hI fr20 h dX2_isPlayed_96
  · replace h := h.2.2.2.1 c11
    refine nr_tableIn hx hb 7 c11 (by decide) dX2_isPlayed_24 (by decide) rfl (tgt := 97) (by decide) ?_
    refine lv_aload_n hx hb dX2_isPlayed_97 rfl (lv_at hl 2 rfl) ?_
    refine lv_iload_n hx hb dX2_isPlayed_98 rfl (lv_at hl 1 rfl) ?_
    refine cMX2_278 hF hK hI hl.1 hR (by decide) (Nat.le_of_ble_eq_true rfl) ⟨Nat.zero_le _, Nat.zero_le _⟩ rv4 h dX2_isPlayed_99 (fun r22 S23 H locs fr22 h hI => ?_)
    replace h := h fr22
    refine nr_if_lt hx hb fr22 dX2_isPlayed_102 (tgt := 109) (by decide) (fun c24 => ?_) (fun c24 => ?_)
    · replace h := h.1 c24
      refine nr_iconst hx hb dX2_isPlayed_109 ?_
      rw [← hQ]; exact s_zret (K := K) hx hb hr hlocks hI (by decide) h dX2_isPlayed_110
    · replace h := h.2 c24
      refine nr_iconst hx hb dX2_isPlayed_105 ?_
      refine lv_goto (tgt := 110) hx hb dX2_isPlayed_106 (by decide) ?_
      rw [← hQ]; exact s_zret (K := K) hx hb hr hlocks hI (by decide) h dX2_isPlayed_110
  · replace h := h.2.2.2.2.1 c11
    refine nr_tableIn hx hb 8 c11 (by decide) dX2_isPlayed_24 (by decide) rfl (tgt := 111) (by decide) ?_
    refine lv_aload_n hx hb dX2_isPlayed_111 rfl (lv_at hl 2 rfl) ?_
    refine lv_iload_n hx hb dX2_isPlayed_112 rfl (lv_at hl 1 rfl) ?_
    refine cMX2_281 hF hK hI hl.1 hR (by decide) (Nat.le_of_ble_eq_true rfl) ⟨Nat.zero_le _, Nat.zero_le _⟩ rv4 h dX2_isPlayed_113 (fun r25 S26 H locs fr25 h hI => ?_)
    replace h := h fr25
    refine nr_if_lt hx hb fr25 dX2_isPlayed_116 (tgt := 123) (by decide) (fun c27 => ?_) (fun c27 => ?_)
    · replace h := h.1 c27
      refine nr_iconst hx hb dX2_isPlayed_123 ?_
      rw [← hQ]; exact s_zret (K := K) hx hb hr hlocks hI (by decide) h dX2_isPlayed_124
    · replace h := h.2 c27
      refine nr_iconst hx hb dX2_isPlayed_119 ?_
      refine lv_goto (tgt := 124) hx hb dX2_isPlayed_120 (by decide) ?_
      rw [← hQ]; exact s_zret (K := K) hx hb hr hlocks hI (by decide) h dX2_isPlayed_124
  · replace h := h.2.2.2.2.2 c11
    refine nr_tableOut hx hb f10 dX2_isPlayed_24 c11 (tgt := 125) (by decide) ?_
    refine nr_iconst hx hb dX2_isPlayed_125 ?_
    rw [← hQ]; exact s_zret (K := K) hx hb hr hlocks hI (by decide) h dX2_isPlayed_126
theorem cMX2_284 {p : Program} {l : Launch} {e : Env} {R : Room} {s : State} {m : MethodId} {args : Array Value} {below : List Frame} {meth : Method} {c : Code} {H : Heap} {locs : List Loc} {Q : State → Prop} {cc : ByteArray} {nL pc : Nat} {ls : Array Slot} {rest : List Value} {cells slots : Nat} {D : va_G} {dA : Nat → ClassId} {ad : Nat → Nat} {A : Nat → Prop} {H0 : Heap} {S : St} {dk : Nat} (hF : CallFix p m c cc nL s args lw_all RX2) (hK : gK D dA s) (hI : sI D dA wM ad A H0 S H locs) (hls : ls.size = nL) (hR : R.frames = dk + 1 ∧ R.locals = 64 * dk + 64) (hd : 5 + 1 ≤ dk) (hW : (rest.map fun v => v.category).sum ≤ 8) (hf : cells ≤ R.cells ∧ slots ≤ R.slots) {x1 : Int} {K : Int → St → Prop} (r1 : InR x1) (h : w_M_isPlayed x1 S K) (hdg : decode cc pc = .ok (.invokevirtual 284, 3)) (kk : ∀ (r : Int) (S1 : St) (H1 : Heap) (locs1 : List Loc), (r = 0 ∨ r = 1) → K r S1 → sI D dA wM ad A H0 S1 H1 locs1 → W p l e R s m args below meth c H1 locs1 cells slots Q (F0 m (pc + 3) ls (iV r :: rest))) : W p l e R s m args below meth c H locs cells slots Q (F0 m (pc) ls (iV x1 :: .ref (ad 17) :: rest)) := s_callVz (As := [iV x1]) (rest := rest) (K := K) hF (t_M_isPlayed l D dA ad S H.size x1 K r1 h) (s_recv hK hI 17 (by decide) wM_17 rfl) (cwV 1 hF.2.2.2.2 (lw_V q1511 q1513 qs84 q109 q1514) rfl rfl rfl (by decide +kernel) ⟨by have h1 := hR.1; have h2 : (rmD 5 0 0).frames = 5 + 1 := rfl; omega, by have h1 := hR.2; have h2 : (rmD 5 0 0).locals = 64 * 5 + 64 := rfl; omega⟩) hK hI rfl hls rfl hW hdg hf kk
set_option maxHeartbeats 4000000 in
theorem t_M_played (l : Launch) (D : va_G) (dA : Nat → ClassId) (ad : Nat → Nat) (S : St) (sz : Nat) (x1 : Int) (K : Int → St → Prop) (rx1 : InR x1) (h : w_M_played x1 S K) : Met l yX2_played (ws_ yX2_played cX2_played 3 (Option.some Jvm.ClassFile.FieldType.int)) (rmD 6 0 0) (va_Pc [.ref (ad 17), iV x1] (sPre D dA wM ad S sz)) (va_Qi (fun r S' => K r.toInt S') (sPost D dA wM ad (wA wM ad S sz)) (wA wM ad S sz)) 0 0 (wA wM ad S sz) := by
  refine Met.ofW (cc := cX2_played) (maxL := 3) (ret := (Option.some Jvm.ClassFile.FieldType.int)) (by decide) rfl ?_
  intro p e s m args below meth c s₁ B hml hv
  obtain ⟨rfl, hsz, hK, hC⟩ := hv
  have hx := B.exec
  have hb := B.bytes
  have hr := B.returns
  have hlocks := B.notSynchronized
  have hts := atoms_spec (ws := (ws_ yX2_played cX2_played 3 (Option.some Jvm.ClassFile.FieldType.int))) B.pre
  have hts : ∀ w ∈ lw_all, w.before _ s = true := fun w h => hts w (List.mem_cons_of_mem _ h)
  have hown : s.vm.findClass RX2 = some m.cls := findClass_of_methodNamed B.named
  clear B
  subst hsz
  have hI : sI D dA wM ad (wA wM ad S s.heap.size) s.heap S s.heap [] := hC.start
  clear hC
  generalize wA wM ad S s.heap.size = A at hI ⊢
  have hl := lv_entry ([.ref (ad 17), iV x1] : List Value) (n := 3) (Nat.le_of_ble_eq_true rfl)
  rw [lg_entry_eq]
  generalize (lg_sl ([.ref (ad 17), iV x1] : List Value) ++ List.replicate (3 - (lg_sl ([.ref (ad 17), iV x1] : List Value)).length) Slot.unset).toArray = ls at hl ⊢
  have hl : lv_has ls 3 [(0, .ref (ad 17)), (1, iV x1)] := hl
  have hF : CallFix p m c cX2_played 3 s _ lw_all RX2 := ⟨hx, hb, hml, hown, hts⟩
  have hR : (headSpec (ws_ yX2_played cX2_played 3 (Option.some Jvm.ClassFile.FieldType.int)) (rmD 6 0 0)).room.frames = 6 + 1 ∧ (headSpec (ws_ yX2_played cX2_played 3 (Option.some Jvm.ClassFile.FieldType.int)) (rmD 6 0 0)).room.locals = 64 * 6 + 64 := ⟨rfl, rfl⟩
  generalize (headSpec (ws_ yX2_played cX2_played 3 (Option.some Jvm.ClassFile.FieldType.int)) (rmD 6 0 0)).room = R at hR ⊢
  generalize ([.ref (ad 17), iV x1] : List Value).toArray = args at hts hF ⊢
  generalize hQ : MQ below _ _ _ _ _ _ = Q
  have L21 : ∀ (x1 : Int), InR x1 → ∀ (n21 : Nat) (x2 : Int) (S : St) (H : Heap) (locs : List Loc) (ls : Array Slot), InR x2 → sI D dA wM ad A s.heap S H locs → lv_has ls 3 [(0, .ref (ad 17)), (1, iV x1), (2, iV x2)] → l_M_played_21 x1 K n21 x2 S → W p l e R s m args below meth c H locs 0 0 Q (F0 m 21 ls []) := by
    intro x1 rx1 n21
    induction n21 with
    | zero => intro x2 S H locs ls rx2 hI hl h; exact False.elim h
    | succ n21 ih21 =>
      intro x2 S H locs ls rx2 hI hl h
      unfold l_M_played_21 at h
      refine lv_iload_n hx hb dX2_played_21 rfl (lv_at hl 2 rfl) ?_
      refine lv_aload_n hx hb dX2_played_22 rfl (lv_at hl 0 rfl) ?_
      refine gMX2_16_17 hF hK hI dX2_played_23 ?_
      refine nr_sipush hx hb dX2_played_26 (by decide) ?_
      refine lv_iload_n hx hb dX2_played_29 rfl (lv_at hl 1 rfl) ?_
      have f1 := h.1; replace h := h.2
      refine nr_imul hx hb dX2_played_30 ?_
      have f2 := h.1; replace h := h.2
      refine s_iald hx hb hK hI 2 (by decide) wM_2 f1 f2 dX2_played_31 (fun f3 => ?_)
      replace h := h f3
      refine nr_icmp_ge hx hb rx2 f3 dX2_played_32 (tgt := 61) (by decide) (fun c4 => ?_) (fun c4 => ?_)
      · replace h := h.1 c4
        refine nr_iconst hx hb dX2_played_61 ?_
        rw [← hQ]; exact s_iret (K := K) hx hb hr hlocks hI (by decide) h dX2_played_62
      · replace h := h.2 c4
        refine lv_aload_n hx hb dX2_played_35 rfl (lv_at hl 0 rfl) ?_
        refine nr_sipush hx hb dX2_played_36 (by decide) ?_
        refine lv_iload_n hx hb dX2_played_39 rfl (lv_at hl 1 rfl) ?_
        refine nr_imul hx hb dX2_played_40 ?_
        refine nr_iconst hx hb dX2_played_41 ?_
        have f5 := h.1; replace h := h.2
        refine nr_iadd hx hb dX2_played_42 ?_
        refine nr_iconst hx hb dX2_played_43 ?_
        refine lv_iload_n hx hb dX2_played_44 rfl (lv_at hl 2 rfl) ?_
        have f6 := h.1; replace h := h.2
        refine nr_imul hx hb dX2_played_45 ?_
        have f7 := h.1; replace h := h.2
        refine nr_iadd hx hb dX2_played_46 ?_
        refine cMX2_284 hF hK hI hl.1 hR (by decide) (Nat.le_of_ble_eq_true rfl) ⟨Nat.zero_le _, Nat.zero_le _⟩ f7 h dX2_played_47 (fun r8 S9 H locs fr8 h hI => ?_)
        replace h := h fr8
        have gr8 : InR r8 := kdP_R (k := 2) (by decide) fr8
        refine nr_if_ne hx hb gr8 dX2_played_50 (tgt := 55) (by decide) (fun c10 => ?_) (fun c10 => ?_)
        · replace h := h.1 c10
          have f11 := h.1; replace h := h.2
          refine nr_iinc (lv' := [(2, iV (x2 + 1)), (0, .ref (ad 17)), (1, iV x1)]) hx hb dX2_played_55 hl (k := 2) rfl (by decide) rfl (fun ls hl => ?_)
          refine lv_goto (tgt := 21) hx hb dX2_played_58 (by decide) ?_
          exact ih21 (x2 + 1) S9 _ _ _ f11 hI (lv_sub hl [1, 2, 0] rfl) h
        · replace h := h.2 c10
          refine lv_iload_n hx hb dX2_played_53 rfl (lv_at hl 2 rfl) ?_
          rw [← hQ]; exact s_iret (K := K) hx hb hr hlocks hI rx2 h dX2_played_54
  unfold w_M_played at h
  refine lv_iload_n hx hb dX2_played_0 rfl (lv_at hl 1 rfl) ?_
  refine nr_iconst hx hb dX2_played_1 ?_
  refine lv_aload_n hx hb dX2_played_2 rfl (lv_at hl 0 rfl) ?_
  refine gMX2_7_17 hF hK hI dX2_played_3 ?_
  refine nr_iconst hx hb dX2_played_6 ?_
  refine s_iald hx hb hK hI 0 (by decide) wM_0 (by decide) (by decide) dX2_played_7 (fun f12 => ?_)
  replace h := h f12
  refine nr_iconst hx hb dX2_played_8 ?_
  have f13 := h.1; replace h := h.2
  refine nr_isub hx hb dX2_played_9 ?_
  refine cMX2_75 hF hK hI hl.1 hR (by decide) (Nat.le_of_ble_eq_true rfl) ⟨Nat.zero_le _, Nat.zero_le _⟩ rx1 (by decide) f13 h dX2_played_10 (fun r14 H locs fr14 h hI => ?_)
  replace h := h fr14
  have gr14 : InR r14 := kdP_R (k := 2) (by decide) fr14
  refine nr_if_ne hx hb gr14 dX2_played_13 (tgt := 19) (by decide) (fun c16 => ?_) (fun c16 => ?_)
  · replace h := h.1 c16
    refine nr_iconst hx hb dX2_played_19 ?_
    refine lv_istore_n (lv' := [(2, iV 0), (0, .ref (ad 17)), (1, iV x1)]) hx hb dX2_played_20 rfl hl (by decide) rfl (fun ls hl => ?_)
    obtain ⟨n0, h⟩ := h
    exact L21 x1 rx1 n0 0 S _ _ _ (by decide) hI (lv_sub hl [1, 2, 0] rfl) h
  · replace h := h.2 c16
    refine nr_bipush hx hb dX2_played_16 (by decide) ?_
    rw [← hQ]; exact s_iret (K := K) hx hb hr hlocks hI (by decide) h dX2_played_18
set_option maxHeartbeats 4000000 in
theorem t_M_isHoly (l : Launch) (D : va_G) (dA : Nat → ClassId) (ad : Nat → Nat) (S : St) (sz : Nat) (x1 : Int) (K : Int → St → Prop) (rx1 : InR x1) (h : w_M_isHoly x1 S K) : Met l yX2_isHoly (ws_ yX2_isHoly cX2_isHoly 3 (Option.some Jvm.ClassFile.FieldType.boolean)) (rmD 3 0 0) (va_Pc [.ref (ad 17), iV x1] (sPre D dA wM ad S sz)) (va_Qi (fun r S' => (r.toInt = 0 ∨ r.toInt = 1) ∧ (K r.toInt S')) (sPost D dA wM ad (wA wM ad S sz)) (wA wM ad S sz)) 0 0 (wA wM ad S sz) := by
  refine Met.ofW (cc := cX2_isHoly) (maxL := 3) (ret := (Option.some Jvm.ClassFile.FieldType.boolean)) (by decide) rfl ?_
  intro p e s m args below meth c s₁ B hml hv
  obtain ⟨rfl, hsz, hK, hC⟩ := hv
  have hx := B.exec
  have hb := B.bytes
  have hr := B.returns
  have hlocks := B.notSynchronized
  have hts := atoms_spec (ws := (ws_ yX2_isHoly cX2_isHoly 3 (Option.some Jvm.ClassFile.FieldType.boolean))) B.pre
  have hts : ∀ w ∈ lw_all, w.before _ s = true := fun w h => hts w (List.mem_cons_of_mem _ h)
  have hown : s.vm.findClass RX2 = some m.cls := findClass_of_methodNamed B.named
  clear B
  subst hsz
  have hI : sI D dA wM ad (wA wM ad S s.heap.size) s.heap S s.heap [] := hC.start
  clear hC
  generalize wA wM ad S s.heap.size = A at hI ⊢
  have hl := lv_entry ([.ref (ad 17), iV x1] : List Value) (n := 3) (Nat.le_of_ble_eq_true rfl)
  rw [lg_entry_eq]
  generalize (lg_sl ([.ref (ad 17), iV x1] : List Value) ++ List.replicate (3 - (lg_sl ([.ref (ad 17), iV x1] : List Value)).length) Slot.unset).toArray = ls at hl ⊢
  have hl : lv_has ls 3 [(0, .ref (ad 17)), (1, iV x1)] := hl
  have hF : CallFix p m c cX2_isHoly 3 s _ lw_all RX2 := ⟨hx, hb, hml, hown, hts⟩
  have hR : (headSpec (ws_ yX2_isHoly cX2_isHoly 3 (Option.some Jvm.ClassFile.FieldType.boolean)) (rmD 3 0 0)).room.frames = 3 + 1 ∧ (headSpec (ws_ yX2_isHoly cX2_isHoly 3 (Option.some Jvm.ClassFile.FieldType.boolean)) (rmD 3 0 0)).room.locals = 64 * 3 + 64 := ⟨rfl, rfl⟩
  generalize (headSpec (ws_ yX2_isHoly cX2_isHoly 3 (Option.some Jvm.ClassFile.FieldType.boolean)) (rmD 3 0 0)).room = R at hR ⊢
  generalize ([.ref (ad 17), iV x1] : List Value).toArray = args at hts hF ⊢
  generalize hQ : MQ below _ _ _ _ _ _ = Q
  unfold w_M_isHoly at h
  refine lv_aload_n hx hb dX2_isHoly_0 rfl (lv_at hl 0 rfl) ?_
  refine nr_iconst hx hb dX2_isHoly_1 ?_
  refine cMX2_103 hF hK hI hl.1 hR (by decide) (Nat.le_of_ble_eq_true rfl) ⟨Nat.zero_le _, Nat.zero_le _⟩ (by decide) h dX2_isHoly_2 (fun r1 H locs fr1 h hI => ?_)
  replace h := h fr1
  refine lv_istore_n (lv' := [(2, iV r1), (0, .ref (ad 17)), (1, iV x1)]) hx hb dX2_isHoly_5 rfl hl (by decide) rfl (fun ls hl => ?_)
  refine lv_iload_n hx hb dX2_isHoly_6 rfl (lv_at hl 0 rfl) ?_
  refine nr_if_ge hx hb fr1 dX2_isHoly_7 (tgt := 12) (by decide) (fun c3 => ?_) (fun c3 => ?_)
  · replace h := h.1 c3
    refine lv_aload_n hx hb dX2_isHoly_12 rfl (lv_at hl 1 rfl) ?_
    refine lv_iload_n hx hb dX2_isHoly_13 rfl (lv_at hl 2 rfl) ?_
    refine nr_iconst hx hb dX2_isHoly_14 ?_
    refine cMX2_106 hF hK hI hl.1 hR (by decide) (Nat.le_of_ble_eq_true rfl) ⟨Nat.zero_le _, Nat.zero_le _⟩ rx1 (by decide) h dX2_isHoly_15 (fun S5 H locs h hI => ?_)
    refine lv_aload_n hx hb dX2_isHoly_18 rfl (lv_at hl 1 rfl) ?_
    refine lv_iload_n hx hb dX2_isHoly_19 rfl (lv_at hl 0 rfl) ?_
    refine cMX2_110 hF hK hI hl.1 hR (by decide) (Nat.le_of_ble_eq_true rfl) ⟨Nat.zero_le _, Nat.zero_le _⟩ fr1 h dX2_isHoly_20 (fun S7 H locs h hI => ?_)
    refine lv_aload_n hx hb dX2_isHoly_23 rfl (lv_at hl 1 rfl) ?_
    refine gMX2_39_17 hF hK hI dX2_isHoly_24 ?_
    refine nr_iconst hx hb dX2_isHoly_27 ?_
    refine s_zald hx hb hK hI 7 (by decide) wM_7 (by decide) (by decide) dX2_isHoly_28 (fun f8 f8z => ?_)
    replace h := h f8
    replace h := h f8z
    rw [← hQ]; exact s_zret (K := K) hx hb hr hlocks hI f8z h dX2_isHoly_29
  · replace h := h.2 c3
    refine nr_iconst hx hb dX2_isHoly_10 ?_
    rw [← hQ]; exact s_zret (K := K) hx hb hr hlocks hI (by decide) h dX2_isHoly_11
theorem cMX2_306 {p : Program} {l : Launch} {e : Env} {R : Room} {s : State} {m : MethodId} {args : Array Value} {below : List Frame} {meth : Method} {c : Code} {H : Heap} {locs : List Loc} {Q : State → Prop} {cc : ByteArray} {nL pc : Nat} {ls : Array Slot} {rest : List Value} {cells slots : Nat} {D : va_G} {dA : Nat → ClassId} {ad : Nat → Nat} {A : Nat → Prop} {H0 : Heap} {S : St} {dk : Nat} (hF : CallFix p m c cc nL s args lw_all RX2) (hK : gK D dA s) (hI : sI D dA wM ad A H0 S H locs) (hls : ls.size = nL) (hR : R.frames = dk + 1 ∧ R.locals = 64 * dk + 64) (hd : 3 + 1 ≤ dk) (hW : (rest.map fun v => v.category).sum ≤ 8) (hf : cells ≤ R.cells ∧ slots ≤ R.slots) {x1 : Int} {K : Int → St → Prop} (r1 : InR x1) (h : w_M_isHoly x1 S K) (hdg : decode cc pc = .ok (.invokevirtual 306, 3)) (kk : ∀ (r : Int) (S1 : St) (H1 : Heap) (locs1 : List Loc), (r = 0 ∨ r = 1) → K r S1 → sI D dA wM ad A H0 S1 H1 locs1 → W p l e R s m args below meth c H1 locs1 cells slots Q (F0 m (pc + 3) ls (iV r :: rest))) : W p l e R s m args below meth c H locs cells slots Q (F0 m (pc) ls (iV x1 :: .ref (ad 17) :: rest)) := s_callVz (As := [iV x1]) (rest := rest) (K := K) hF (t_M_isHoly l D dA ad S H.size x1 K r1 h) (s_recv hK hI 17 (by decide) wM_17 rfl) (cwV 1 hF.2.2.2.2 (lw_V q1524 q1526 qs85 q109 q1527) rfl rfl rfl (by decide +kernel) ⟨by have h1 := hR.1; have h2 : (rmD 3 0 0).frames = 3 + 1 := rfl; omega, by have h1 := hR.2; have h2 : (rmD 3 0 0).locals = 64 * 3 + 64 := rfl; omega⟩) hK hI rfl hls rfl hW hdg hf kk
set_option maxHeartbeats 4000000 in
theorem t_M_of (l : Launch) (D : va_G) (dA : Nat → ClassId) (ad : Nat → Nat) (S : St) (sz : Nat) (x1 : Int) (x2 : Int) (K : Int → St → Prop) (rx1 : InR x1) (rx2 : InR x2) (h : w_M_of x1 x2 S K) : Met l yX2_of (ws_ yX2_of cX2_of 3 (Option.some Jvm.ClassFile.FieldType.int)) (rmD 4 0 0) (va_Pc [.ref (ad 17), iV x1, iV x2] (sPre D dA wM ad S sz)) (va_Qi (fun r S' => K r.toInt S') (sPost D dA wM ad (wA wM ad S sz)) (wA wM ad S sz)) 0 0 (wA wM ad S sz) := by
  refine Met.ofW (cc := cX2_of) (maxL := 3) (ret := (Option.some Jvm.ClassFile.FieldType.int)) (by decide) rfl ?_
  intro p e s m args below meth c s₁ B hml hv
  obtain ⟨rfl, hsz, hK, hC⟩ := hv
  have hx := B.exec
  have hb := B.bytes
  have hr := B.returns
  have hlocks := B.notSynchronized
  have hts := atoms_spec (ws := (ws_ yX2_of cX2_of 3 (Option.some Jvm.ClassFile.FieldType.int))) B.pre
  have hts : ∀ w ∈ lw_all, w.before _ s = true := fun w h => hts w (List.mem_cons_of_mem _ h)
  have hown : s.vm.findClass RX2 = some m.cls := findClass_of_methodNamed B.named
  clear B
  subst hsz
  have hI : sI D dA wM ad (wA wM ad S s.heap.size) s.heap S s.heap [] := hC.start
  clear hC
  generalize wA wM ad S s.heap.size = A at hI ⊢
  have hl := lv_entry ([.ref (ad 17), iV x1, iV x2] : List Value) (n := 3) (Nat.le_of_ble_eq_true rfl)
  rw [lg_entry_eq]
  generalize (lg_sl ([.ref (ad 17), iV x1, iV x2] : List Value) ++ List.replicate (3 - (lg_sl ([.ref (ad 17), iV x1, iV x2] : List Value)).length) Slot.unset).toArray = ls at hl ⊢
  have hl : lv_has ls 3 [(0, .ref (ad 17)), (1, iV x1), (2, iV x2)] := hl
  have hF : CallFix p m c cX2_of 3 s _ lw_all RX2 := ⟨hx, hb, hml, hown, hts⟩
  have hR : (headSpec (ws_ yX2_of cX2_of 3 (Option.some Jvm.ClassFile.FieldType.int)) (rmD 4 0 0)).room.frames = 4 + 1 ∧ (headSpec (ws_ yX2_of cX2_of 3 (Option.some Jvm.ClassFile.FieldType.int)) (rmD 4 0 0)).room.locals = 64 * 4 + 64 := ⟨rfl, rfl⟩
  generalize (headSpec (ws_ yX2_of cX2_of 3 (Option.some Jvm.ClassFile.FieldType.int)) (rmD 4 0 0)).room = R at hR ⊢
  generalize ([.ref (ad 17), iV x1, iV x2] : List Value).toArray = args at hts hF ⊢
  generalize hQ : MQ below _ _ _ _ _ _ = Q
  unfold w_M_of at h
  refine lv_aload_n hx hb dX2_of_0 rfl (lv_at hl 0 rfl) ?_
  refine lv_iload_n hx hb dX2_of_1 rfl (lv_at hl 1 rfl) ?_
  refine cMX2_91 hF hK hI hl.1 hR (by decide) (Nat.le_of_ble_eq_true rfl) ⟨Nat.zero_le _, Nat.zero_le _⟩ rx1 h dX2_of_2 (fun r1 H locs fr1 h hI => ?_)
  replace h := h fr1
  have gr1 : InR r1 := kdP_R (k := 2) (by decide) fr1
  refine nr_if_ne hx hb gr1 dX2_of_5 (tgt := 11) (by decide) (fun c3 => ?_) (fun c3 => ?_)
  · replace h := h.1 c3
    refine lv_iload_n hx hb dX2_of_11 rfl (lv_at hl 2 rfl) ?_
    have hcs : x2 = 0 ∨ x2 = 1 ∨ x2 = 2 ∨ x2 = 3 ∨ x2 = 4 ∨ x2 = 5 ∨ x2 = 6 ∨ ¬ (0 ≤ x2 ∧ x2 ≤ 6) := by omega
    rcases hcs with c4 | c4 | c4 | c4 | c4 | c4 | c4 | c4
    · replace h := h.1 c4
      refine nr_tableIn hx hb 0 c4 (by decide) dX2_of_12 (by decide) rfl (tgt := 56) (by decide) ?_
      refine lv_aload_n hx hb dX2_of_56 rfl (lv_at hl 0 rfl) ?_
      refine gMX2_7_17 hF hK hI dX2_of_57 ?_
      refine lv_iload_n hx hb dX2_of_60 rfl (lv_at hl 1 rfl) ?_
      refine cMX2_87 hF hK hI hl.1 hR (by decide) (Nat.le_of_ble_eq_true rfl) ⟨Nat.zero_le _, Nat.zero_le _⟩ rx1 h dX2_of_61 (fun r5 H locs fr5 h hI => ?_)
      replace h := h fr5
      refine lv_iload_n hx hb dX2_of_64 rfl (lv_at hl 2 rfl) ?_
      have f7 := h.1; replace h := h.2
      refine nr_iadd hx hb dX2_of_65 ?_
      have f8 := h.1; replace h := h.2
      refine s_iald hx hb hK hI 0 (by decide) wM_0 f7 f8 dX2_of_66 (fun f9 => ?_)
      replace h := h f9
      rw [← hQ]; exact s_iret (K := K) hx hb hr hlocks hI f9 h dX2_of_67
    · replace h := h.2.1 c4
      refine nr_tableIn hx hb 1 c4 (by decide) dX2_of_12 (by decide) rfl (tgt := 56) (by decide) ?_
      refine lv_aload_n hx hb dX2_of_56 rfl (lv_at hl 0 rfl) ?_
      refine gMX2_7_17 hF hK hI dX2_of_57 ?_
      refine lv_iload_n hx hb dX2_of_60 rfl (lv_at hl 1 rfl) ?_
      refine cMX2_87 hF hK hI hl.1 hR (by decide) (Nat.le_of_ble_eq_true rfl) ⟨Nat.zero_le _, Nat.zero_le _⟩ rx1 h dX2_of_61 (fun r10 H locs fr10 h hI => ?_)
      replace h := h fr10
      refine lv_iload_n hx hb dX2_of_64 rfl (lv_at hl 2 rfl) ?_
      have f12 := h.1; replace h := h.2
      refine nr_iadd hx hb dX2_of_65 ?_
      have f13 := h.1; replace h := h.2
      refine s_iald hx hb hK hI 0 (by decide) wM_0 f12 f13 dX2_of_66 (fun f14 => ?_)
      replace h := h f14
      rw [← hQ]; exact s_iret (K := K) hx hb hr hlocks hI f14 h dX2_of_67
    · replace h := h.2.2.1 c4
      refine nr_tableIn hx hb 2 c4 (by decide) dX2_of_12 (by decide) rfl (tgt := 56) (by decide) ?_
      refine lv_aload_n hx hb dX2_of_56 rfl (lv_at hl 0 rfl) ?_
      refine gMX2_7_17 hF hK hI dX2_of_57 ?_
      refine lv_iload_n hx hb dX2_of_60 rfl (lv_at hl 1 rfl) ?_
      refine cMX2_87 hF hK hI hl.1 hR (by decide) (Nat.le_of_ble_eq_true rfl) ⟨Nat.zero_le _, Nat.zero_le _⟩ rx1 h dX2_of_61 (fun r15 H locs fr15 h hI => ?_)
      replace h := h fr15
      refine lv_iload_n hx hb dX2_of_64 rfl (lv_at hl 2 rfl) ?_
      have f17 := h.1; replace h := h.2
      refine nr_iadd hx hb dX2_of_65 ?_
      have f18 := h.1; replace h := h.2
      refine s_iald hx hb hK hI 0 (by decide) wM_0 f17 f18 dX2_of_66 (fun f19 => ?_)
      replace h := h f19
      rw [← hQ]; exact s_iret (K := K) hx hb hr hlocks hI f19 h dX2_of_67
    · replace h := h.2.2.2.1 c4
      refine nr_tableIn hx hb 3 c4 (by decide) dX2_of_12 (by decide) rfl (tgt := 56) (by decide) ?_
      refine lv_aload_n hx hb dX2_of_56 rfl (lv_at hl 0 rfl) ?_
      refine gMX2_7_17 hF hK hI dX2_of_57 ?_
      refine lv_iload_n hx hb dX2_of_60 rfl (lv_at hl 1 rfl) ?_
      refine cMX2_87 hF hK hI hl.1 hR (by decide) (Nat.le_of_ble_eq_true rfl) ⟨Nat.zero_le _, Nat.zero_le _⟩ rx1 h dX2_of_61 (fun r20 H locs fr20 h hI => ?_)
      replace h := h fr20
      refine lv_iload_n hx hb dX2_of_64 rfl (lv_at hl 2 rfl) ?_
      have f22 := h.1; replace h := h.2
      refine nr_iadd hx hb dX2_of_65 ?_
      have f23 := h.1; replace h := h.2
      refine s_iald hx hb hK hI 0 (by decide) wM_0 f22 f23 dX2_of_66 (fun f24 => ?_)
      replace h := h f24
      rw [← hQ]; exact s_iret (K := K) hx hb hr hlocks hI f24 h dX2_of_67
    · replace h := h.2.2.2.2.1 c4
      refine nr_tableIn hx hb 4 c4 (by decide) dX2_of_12 (by decide) rfl (tgt := 56) (by decide) ?_
      refine lv_aload_n hx hb dX2_of_56 rfl (lv_at hl 0 rfl) ?_
      refine gMX2_7_17 hF hK hI dX2_of_57 ?_
      refine lv_iload_n hx hb dX2_of_60 rfl (lv_at hl 1 rfl) ?_
      refine cMX2_87 hF hK hI hl.1 hR (by decide) (Nat.le_of_ble_eq_true rfl) ⟨Nat.zero_le _, Nat.zero_le _⟩ rx1 h dX2_of_61 (fun r25 H locs fr25 h hI => ?_)
      replace h := h fr25
      refine lv_iload_n hx hb dX2_of_64 rfl (lv_at hl 2 rfl) ?_
      have f27 := h.1; replace h := h.2
      refine nr_iadd hx hb dX2_of_65 ?_
      have f28 := h.1; replace h := h.2
      refine s_iald hx hb hK hI 0 (by decide) wM_0 f27 f28 dX2_of_66 (fun f29 => ?_)
      replace h := h f29
      rw [← hQ]; exact s_iret (K := K) hx hb hr hlocks hI f29 h dX2_of_67
    · replace h := h.2.2.2.2.2.1 c4
      refine nr_tableIn hx hb 5 c4 (by decide) dX2_of_12 (by decide) rfl (tgt := 68) (by decide) ?_
      refine lv_aload_n hx hb dX2_of_68 rfl (lv_at hl 0 rfl) ?_
      refine gMX2_7_17 hF hK hI dX2_of_69 ?_
      refine lv_iload_n hx hb dX2_of_72 rfl (lv_at hl 1 rfl) ?_
      refine cMX2_87 hF hK hI hl.1 hR (by decide) (Nat.le_of_ble_eq_true rfl) ⟨Nat.zero_le _, Nat.zero_le _⟩ rx1 h dX2_of_73 (fun r30 H locs fr30 h hI => ?_)
      replace h := h fr30
      refine nr_iconst hx hb dX2_of_76 ?_
      have f32 := h.1; replace h := h.2
      refine nr_iadd hx hb dX2_of_77 ?_
      have f33 := h.1; replace h := h.2
      refine s_iald hx hb hK hI 0 (by decide) wM_0 f32 f33 dX2_of_78 (fun f34 => ?_)
      replace h := h f34
      refine cMX2_303 hF hK hI hl.1 hR (by decide) (Nat.le_of_ble_eq_true rfl) ⟨Nat.zero_le _, Nat.zero_le _⟩ f34 h dX2_of_79 (fun r35 H locs fr35 h hI => ?_)
      replace h := h fr35
      rw [← hQ]; exact s_iret (K := K) hx hb hr hlocks hI fr35 h dX2_of_82
    · replace h := h.2.2.2.2.2.2.1 c4
      refine nr_tableIn hx hb 6 c4 (by decide) dX2_of_12 (by decide) rfl (tgt := 83) (by decide) ?_
      refine lv_aload_n hx hb dX2_of_83 rfl (lv_at hl 0 rfl) ?_
      refine lv_iload_n hx hb dX2_of_84 rfl (lv_at hl 1 rfl) ?_
      refine cMX2_306 hF hK hI hl.1 hR (by decide) (Nat.le_of_ble_eq_true rfl) ⟨Nat.zero_le _, Nat.zero_le _⟩ rx1 h dX2_of_85 (fun r37 S38 H locs fr37 h hI => ?_)
      replace h := h fr37
      have gr37 : InR r37 := kdP_R (k := 2) (by decide) fr37
      refine nr_if_eq hx hb gr37 dX2_of_88 (tgt := 95) (by decide) (fun c39 => ?_) (fun c39 => ?_)
      · replace h := h.1 c39
        refine nr_iconst hx hb dX2_of_95 ?_
        rw [← hQ]; exact s_iret (K := K) hx hb hr hlocks hI (by decide) h dX2_of_96
      · replace h := h.2 c39
        refine nr_iconst hx hb dX2_of_91 ?_
        refine lv_goto (tgt := 96) hx hb dX2_of_92 (by decide) ?_
        rw [← hQ]; exact s_iret (K := K) hx hb hr hlocks hI (by decide) h dX2_of_96
    · replace h := h.2.2.2.2.2.2.2 c4
      refine nr_tableOut hx hb rx2 dX2_of_12 c4 (tgt := 97) (by decide) ?_
      refine nr_bipush hx hb dX2_of_97 (by decide) ?_
      rw [← hQ]; exact s_iret (K := K) hx hb hr hlocks hI (by decide) h dX2_of_99
  · replace h := h.2 c3
    refine nr_bipush hx hb dX2_of_8 (by decide) ?_
    rw [← hQ]; exact s_iret (K := K) hx hb hr hlocks hI (by decide) h dX2_of_10
