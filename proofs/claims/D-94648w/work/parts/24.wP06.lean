set_option maxRecDepth 100000
theorem gPX3_15 {p : Program} {l : Launch} {e : Env} {R : Room} {s : State} {m : MethodId} {args : Array Value} {below : List Frame} {meth : Method} {c : Code} {H : Heap} {locs : List Loc} {Q : State → Prop} {cc : ByteArray} {nL pc : Nat} {ls : Array Slot} {rest : List Value} {cells slots : Nat} {w : Wd} {D : va_G} {dA : Nat → ClassId} {ad : Nat → Nat} {A : Nat → Prop} {H0 : Heap} {S : St} {q : Nat} {fs : List PV} {v : Int} (hF : CallFix p m c cc nL s args lw_all RX3) (hK : gK D dA s) (hI : sI D dA w ad A H0 S H locs) (hg : gI S q = some (.inr (.inl (3, fs)))) (hv : fs[1]? = some (.inl v)) (hdg : decode cc pc = .ok (.getfield 15, 3)) (kk : InR v → W p l e R s m args below meth c H locs cells slots Q (F0 m (pc + 3) ls (iV v :: rest))) : W p l e R s m args below meth c H locs cells slots Q (F0 m (pc) ls (.ref q :: rest)) := s_pgi hF.1 hF.2.1 hF.2.2.2.2 hF.2.2.2.1 hK hI hg rfl in_X3 1 (by decide) q331 rfl hv hdg kk
theorem uPX3_25 {p : Program} {l : Launch} {e : Env} {R : Room} {s : State} {m : MethodId} {args : Array Value} {below : List Frame} {meth : Method} {c : Code} {H : Heap} {locs : List Loc} {Q : State → Prop} {cc : ByteArray} {nL pc : Nat} {ls : Array Slot} {rest : List Value} {cells slots : Nat} {D : va_G} {dA : Nat → ClassId} {ad : Nat → Nat} {A : Nat → Prop} {H0 : Heap} {S : St} {q : Nat} {fs : List PV} {v : Int} (hF : CallFix p m c cc nL s args lw_all RX3) (hK : gK D dA s) (hI : sI D dA wX ad A H0 S H locs) (hg : gI S q = some (.inr (.inl (3, fs)))) (hlen : fs.length = 8) (hv : InR v) (hdg : decode cc pc = .ok (.putfield 25, 3)) (kk : ∀ (S1 : St) (H1 : Heap) (locs1 : List Loc), S1 = gset S q (.inr (.inl (3, fs.set 4 (.inl v)))) → sI D dA wX ad A H0 S1 H1 locs1 → W p l e R s m args below meth c H1 locs1 cells slots Q (F0 m (pc + 3) ls (rest))) : W p l e R s m args below meth c H locs cells slots Q (F0 m (pc) ls (iV v :: .ref q :: rest)) := s_pput (v := .inl v) hF.1 hF.2.1 tyX3 tyX3_ok nmX3 hF.2.2.2.2 hF.2.2.2.1 hK hI (by decide) hg hlen rfl in_X3 4 (by decide) q334 rfl hv rfl rfl rfl hdg kk
theorem uPX3_19 {p : Program} {l : Launch} {e : Env} {R : Room} {s : State} {m : MethodId} {args : Array Value} {below : List Frame} {meth : Method} {c : Code} {H : Heap} {locs : List Loc} {Q : State → Prop} {cc : ByteArray} {nL pc : Nat} {ls : Array Slot} {rest : List Value} {cells slots : Nat} {D : va_G} {dA : Nat → ClassId} {ad : Nat → Nat} {A : Nat → Prop} {H0 : Heap} {S : St} {q : Nat} {fs : List PV} {v : Int} (hF : CallFix p m c cc nL s args lw_all RX3) (hK : gK D dA s) (hI : sI D dA wX ad A H0 S H locs) (hg : gI S q = some (.inr (.inl (3, fs)))) (hlen : fs.length = 8) (hv : InR v) (hdg : decode cc pc = .ok (.putfield 19, 3)) (kk : ∀ (S1 : St) (H1 : Heap) (locs1 : List Loc), S1 = gset S q (.inr (.inl (3, fs.set 2 (.inl v)))) → sI D dA wX ad A H0 S1 H1 locs1 → W p l e R s m args below meth c H1 locs1 cells slots Q (F0 m (pc + 3) ls (rest))) : W p l e R s m args below meth c H locs cells slots Q (F0 m (pc) ls (iV v :: .ref q :: rest)) := s_pput (v := .inl v) hF.1 hF.2.1 tyX3 tyX3_ok nmX3 hF.2.2.2.2 hF.2.2.2.1 hK hI (by decide) hg hlen rfl in_X3 2 (by decide) q332 rfl hv rfl rfl rfl hdg kk
theorem cXX3_40 {p : Program} {l : Launch} {e : Env} {R : Room} {s : State} {m : MethodId} {args : Array Value} {below : List Frame} {meth : Method} {c : Code} {H : Heap} {locs : List Loc} {Q : State → Prop} {cc : ByteArray} {nL pc : Nat} {ls : Array Slot} {rest : List Value} {cells slots : Nat} {D : va_G} {dA : Nat → ClassId} {ad : Nat → Nat} {A : Nat → Prop} {H0 : Heap} {S : St} {dk : Nat} (hF : CallFix p m c cc nL s args lw_all RX3) (hK : gK D dA s) (hI : sI D dA wX ad A H0 S H locs) (hls : ls.size = nL) (hR : R.frames = dk + 1 ∧ R.locals = 64 * dk + 64) (hd : 0 + 1 ≤ dk) (hW : (rest.map fun v => v.category).sum ≤ 8) (hf : cells ≤ R.cells ∧ slots ≤ R.slots) {x0 : Int} {K : Int → Prop} (r0 : InR x0) (h : w_X3_isDigit x0 K) (hdg : decode cc pc = .ok (.invokestatic 40, 3)) (kk : ∀ (r : Int) (H1 : Heap) (locs1 : List Loc), (r = 0 ∨ r = 1) → K r → sI D dA wX ad A H0 S H1 locs1 → W p l e R s m args below meth c H1 locs1 cells slots Q (F0 m (pc + 3) ls (iV r :: rest))) : W p l e R s m args below meth c H locs cells slots Q (F0 m (pc) ls (iV x0 :: rest)) := s_callPz (As := [iV x0]) (rest := rest) hF (t_X3_isDigit l x0 K r0 h) (va_cwS 1 hF.2.2.2.2 (lw_S q478 q479 q110 q480) rfl rfl rfl (by decide +kernel) ⟨by have h1 := hR.1; have h2 : (rmD 0 0 0).frames = 0 + 1 := rfl; omega, by have h1 := hR.2; have h2 : (rmD 0 0 0).locals = 64 * 0 + 64 := rfl; omega⟩) hI rfl hls rfl hW hdg hf kk
theorem gPX3_43 {p : Program} {l : Launch} {e : Env} {R : Room} {s : State} {m : MethodId} {args : Array Value} {below : List Frame} {meth : Method} {c : Code} {H : Heap} {locs : List Loc} {Q : State → Prop} {cc : ByteArray} {nL pc : Nat} {ls : Array Slot} {rest : List Value} {cells slots : Nat} {w : Wd} {D : va_G} {dA : Nat → ClassId} {ad : Nat → Nat} {A : Nat → Prop} {H0 : Heap} {S : St} {q : Nat} {fs : List PV} {v : Int} (hF : CallFix p m c cc nL s args lw_all RX3) (hK : gK D dA s) (hI : sI D dA w ad A H0 S H locs) (hg : gI S q = some (.inr (.inl (3, fs)))) (hv : fs[5]? = some (.inl v)) (hdg : decode cc pc = .ok (.getfield 43, 3)) (kk : InR v → W p l e R s m args below meth c H locs cells slots Q (F0 m (pc + 3) ls (iV v :: rest))) : W p l e R s m args below meth c H locs cells slots Q (F0 m (pc) ls (.ref q :: rest)) := s_pgi hF.1 hF.2.1 hF.2.2.2.2 hF.2.2.2.1 hK hI hg rfl in_X3 5 (by decide) q335 rfl hv hdg kk
theorem uPX3_43 {p : Program} {l : Launch} {e : Env} {R : Room} {s : State} {m : MethodId} {args : Array Value} {below : List Frame} {meth : Method} {c : Code} {H : Heap} {locs : List Loc} {Q : State → Prop} {cc : ByteArray} {nL pc : Nat} {ls : Array Slot} {rest : List Value} {cells slots : Nat} {D : va_G} {dA : Nat → ClassId} {ad : Nat → Nat} {A : Nat → Prop} {H0 : Heap} {S : St} {q : Nat} {fs : List PV} {v : Int} (hF : CallFix p m c cc nL s args lw_all RX3) (hK : gK D dA s) (hI : sI D dA wX ad A H0 S H locs) (hg : gI S q = some (.inr (.inl (3, fs)))) (hlen : fs.length = 8) (hv : InR v) (hdg : decode cc pc = .ok (.putfield 43, 3)) (kk : ∀ (S1 : St) (H1 : Heap) (locs1 : List Loc), S1 = gset S q (.inr (.inl (3, fs.set 5 (.inl v)))) → sI D dA wX ad A H0 S1 H1 locs1 → W p l e R s m args below meth c H1 locs1 cells slots Q (F0 m (pc + 3) ls (rest))) : W p l e R s m args below meth c H locs cells slots Q (F0 m (pc) ls (iV v :: .ref q :: rest)) := s_pput (v := .inl v) hF.1 hF.2.1 tyX3 tyX3_ok nmX3 hF.2.2.2.2 hF.2.2.2.1 hK hI (by decide) hg hlen rfl in_X3 5 (by decide) q335 rfl hv rfl rfl rfl hdg kk
theorem cXX3_28 {p : Program} {l : Launch} {e : Env} {R : Room} {s : State} {m : MethodId} {args : Array Value} {below : List Frame} {meth : Method} {c : Code} {H : Heap} {locs : List Loc} {Q : State → Prop} {cc : ByteArray} {nL pc : Nat} {ls : Array Slot} {rest : List Value} {cells slots : Nat} {D : va_G} {dA : Nat → ClassId} {ad : Nat → Nat} {A : Nat → Prop} {H0 : Heap} {S : St} {dk : Nat} (hF : CallFix p m c cc nL s args lw_all RX3) (hK : gK D dA s) (hI : sI D dA wX ad A H0 S H locs) (hls : ls.size = nL) (hR : R.frames = dk + 1 ∧ R.locals = 64 * dk + 64) (hd : 0 + 1 ≤ dk) (hW : (rest.map fun v => v.category).sum ≤ 8) (hf : cells ≤ R.cells ∧ slots ≤ R.slots) {x0 : Int} {K : Int → Prop} (r0 : InR x0) (h : w_X3_isLetter x0 K) (hdg : decode cc pc = .ok (.invokestatic 28, 3)) (kk : ∀ (r : Int) (H1 : Heap) (locs1 : List Loc), (r = 0 ∨ r = 1) → K r → sI D dA wX ad A H0 S H1 locs1 → W p l e R s m args below meth c H1 locs1 cells slots Q (F0 m (pc + 3) ls (iV r :: rest))) : W p l e R s m args below meth c H locs cells slots Q (F0 m (pc) ls (iV x0 :: rest)) := s_callPz (As := [iV x0]) (rest := rest) hF (t_X3_isLetter l x0 K r0 h) (va_cwS 1 hF.2.2.2.2 (lw_S q421 q422 q110 q423) rfl rfl rfl (by decide +kernel) ⟨by have h1 := hR.1; have h2 : (rmD 0 0 0).frames = 0 + 1 := rfl; omega, by have h1 := hR.2; have h2 : (rmD 0 0 0).locals = 64 * 0 + 64 := rfl; omega⟩) hI rfl hls rfl hW hdg hf kk
theorem uPX3_22 {p : Program} {l : Launch} {e : Env} {R : Room} {s : State} {m : MethodId} {args : Array Value} {below : List Frame} {meth : Method} {c : Code} {H : Heap} {locs : List Loc} {Q : State → Prop} {cc : ByteArray} {nL pc : Nat} {ls : Array Slot} {rest : List Value} {cells slots : Nat} {D : va_G} {dA : Nat → ClassId} {ad : Nat → Nat} {A : Nat → Prop} {H0 : Heap} {S : St} {q : Nat} {fs : List PV} {v : Int} (hF : CallFix p m c cc nL s args lw_all RX3) (hK : gK D dA s) (hI : sI D dA wX ad A H0 S H locs) (hg : gI S q = some (.inr (.inl (3, fs)))) (hlen : fs.length = 8) (hv : InR v) (hdg : decode cc pc = .ok (.putfield 22, 3)) (kk : ∀ (S1 : St) (H1 : Heap) (locs1 : List Loc), S1 = gset S q (.inr (.inl (3, fs.set 3 (.inl v)))) → sI D dA wX ad A H0 S1 H1 locs1 → W p l e R s m args below meth c H1 locs1 cells slots Q (F0 m (pc + 3) ls (rest))) : W p l e R s m args below meth c H locs cells slots Q (F0 m (pc) ls (iV v :: .ref q :: rest)) := s_pput (v := .inl v) hF.1 hF.2.1 tyX3 tyX3_ok nmX3 hF.2.2.2.2 hF.2.2.2.1 hK hI (by decide) hg hlen rfl in_X3 3 (by decide) q333 rfl hv rfl rfl rfl hdg kk
set_option maxHeartbeats 4000000 in
theorem t_X3_next (l : Launch) (hlt : l.stackTraces = false) (D : va_G) (dA : Nat → ClassId) (ad : Nat → Nat) (S : St) (sz : Nat) (x0 : Nat) (K : St → Prop) (mc ms : Nat) (hmc : mc = bC S) (hms : ms = bL S) (h : w_X3_next x0 S K) : Met l yX3_next (ws_ yX3_next cX3_next 3 (Option.none : Option Jvm.ClassFile.FieldType)) (rmD 7 mc ms) (va_Pc [.ref x0] (tPre D dA ad S sz)) (va_Qv (fun S' => K S') (sPost D dA wX ad (wA wX ad S sz)) (wA wX ad S sz)) mc ms (wA wX ad S sz) := by
  refine Met.ofW (cc := cX3_next) (maxL := 3) (ret := (Option.none : Option Jvm.ClassFile.FieldType)) (by decide) rfl ?_
  intro p e s m args below meth c s₁ B hml hv
  obtain ⟨rfl, ⟨hsz, hK, hC⟩, hZ⟩ := hv
  have hx := B.exec
  have hb := B.bytes
  have hr := B.returns
  have hlocks := B.notSynchronized
  have hts := atoms_spec (ws := (ws_ yX3_next cX3_next 3 (Option.none : Option Jvm.ClassFile.FieldType))) B.pre
  have hts : ∀ w ∈ lw_all, w.before _ s = true := fun w h => hts w (List.mem_cons_of_mem _ h)
  have hown : s.vm.findClass RX3 = some m.cls := findClass_of_methodNamed B.named
  clear B
  subst hsz
  have hI : sI D dA wX ad (wA wX ad S s.heap.size) s.heap S s.heap [] := hC.start
  clear hC
  generalize wA wX ad S s.heap.size = A at hI hZ ⊢
  have hl := lv_entry ([.ref x0] : List Value) (n := 3) (Nat.le_of_ble_eq_true rfl)
  rw [lg_entry_eq]
  generalize (lg_sl ([.ref x0] : List Value) ++ List.replicate (3 - (lg_sl ([.ref x0] : List Value)).length) Slot.unset).toArray = ls at hl ⊢
  have hl : lv_has ls 3 [(0, .ref x0)] := hl
  have hF : CallFix p m c cX3_next 3 s _ lw_all RX3 := ⟨hx, hb, hml, hown, hts⟩
  have hR : (headSpec (ws_ yX3_next cX3_next 3 (Option.none : Option Jvm.ClassFile.FieldType)) (rmD 7 mc ms)).room.frames = 7 + 1 ∧ (headSpec (ws_ yX3_next cX3_next 3 (Option.none : Option Jvm.ClassFile.FieldType)) (rmD 7 mc ms)).room.locals = 64 * 7 + 64 := ⟨rfl, rfl⟩
  have hRc : (headSpec (ws_ yX3_next cX3_next 3 (Option.none : Option Jvm.ClassFile.FieldType)) (rmD 7 mc ms)).room.cells = mc ∧ (headSpec (ws_ yX3_next cX3_next 3 (Option.none : Option Jvm.ClassFile.FieldType)) (rmD 7 mc ms)).room.slots = ms := ⟨rfl, rfl⟩
  generalize (headSpec (ws_ yX3_next cX3_next 3 (Option.none : Option Jvm.ClassFile.FieldType)) (rmD 7 mc ms)).room = R at hR hRc ⊢
  obtain ⟨hRc, hRs⟩ := hRc
  have hcs : bOK R S 0 0 := ⟨by omega, by omega⟩
  clear hmc hms
  have hcs0 := hcs
  generalize ([.ref x0] : List Value).toArray = args at hts hF ⊢
  generalize hQ : MQ below _ _ _ _ _ _ = Q
  have J348 : ∀ (x0 : Nat) (x1 : Int) (S : St) (H : Heap) (locs : List Loc) (ls : Array Slot) (cells slots : Nat), InR x1 → (sI D dA wX ad A s.heap S H locs ∧ bOK R S cells slots) → lv_has ls 3 [(0, .ref x0), (1, iV x1)] → j_X3_next_348 x0 x1 S K → W p l e R s m args below meth c H locs cells slots Q (F0 m 348 ls []) := by
    intro x0 x1 S H locs ls cells slots rx1 hI hl h
    obtain ⟨hI, hcs⟩ := hI
    unfold j_X3_next_348 at h
    refine lv_aload_n hx hb dX3_next_348 rfl (lv_at hl 0 rfl) ?_
    obtain ⟨fs1, v4, hg2, hv3, h⟩ := h
    refine gPX3_19 hF hK hI hg2 hv3 dX3_next_349 (fun f5 => ?_)
    replace h := h f5
    refine lv_aload_n hx hb dX3_next_352 rfl (lv_at hl 0 rfl) ?_
    obtain ⟨fs6, v9, hg7, hv8, h⟩ := h
    refine gPX3_15 hF hK hI hg7 hv8 dX3_next_353 (fun f10 => ?_)
    replace h := h f10
    refine nr_icmp_ge hx hb f5 f10 dX3_next_356 (tgt := 402) (by decide) (fun c11 => ?_) (fun c11 => ?_)
    · replace h := h.1 c11
      rw [← hQ]; refine W.widen (k := mc) (n := ms) (by have h1 := hcs.1; omega) (by have h1 := hcs.2; omega) ?_; exact s_vret (K := K) hx hb hr hlocks hI h dX3_next_402
    · replace h := h.2 c11
      refine lv_aload_n hx hb dX3_next_359 rfl (lv_at hl 0 rfl) ?_
      obtain ⟨fs12, tq13, hg14, hv15, ht16, h⟩ := h
      refine gTX3_9 hF hK hI hg14 hv15 ht16 dX3_next_360 ?_
      refine lv_aload_n hx hb dX3_next_363 rfl (lv_at hl 0 rfl) ?_
      obtain ⟨fs17, v20, hg18, hv19, h⟩ := h
      refine gPX3_19 hF hK hI hg18 hv19 dX3_next_364 (fun f21 => ?_)
      replace h := h f21
      have f22 := h.1; replace h := h.2
      refine s_bald hx hb hK hI 8 (by decide) wX_8 f21 f22 dX3_next_367 (fun f23 f23z => ?_)
      replace h := h f23
      replace h := h f23z
      refine nr_bipush hx hb dX3_next_368 (by decide) ?_
      refine nr_icmp_ne hx hb f23 (by decide) dX3_next_370 (tgt := 402) (by decide) (fun c24 => ?_) (fun c24 => ?_)
      · replace h := h.1 c24
        rw [← hQ]; refine W.widen (k := mc) (n := ms) (by have h1 := hcs.1; omega) (by have h1 := hcs.2; omega) ?_; exact s_vret (K := K) hx hb hr hlocks hI h dX3_next_402
      · replace h := h.2 c24
        refine lv_aload_n hx hb dX3_next_373 rfl (lv_at hl 0 rfl) ?_
        refine lv_iload_n hx hb dX3_next_374 rfl (lv_at hl 1 rfl) ?_
        refine nr_bipush hx hb dX3_next_375 (by decide) ?_
        refine nr_icmp_ne hx hb rx1 (by decide) dX3_next_377 (tgt := 386) (by decide) (fun c25 => ?_) (fun c25 => ?_)
        · replace h := h.1 c25
          refine nr_sipush hx hb dX3_next_386 (by decide) ?_
          obtain ⟨fs26, hg27, hn28, h⟩ := h
          refine uPX3_25 hF hK hI hg27 hn28 (by decide) dX3_next_389 (fun S29 H locs eS29 hI => ?_)
          replace h := h S29 eS29
          have hcs := bOK.to (S' := S29) hcs (by rw [eS29]; exact ⟨rfl, rfl⟩)
          refine lv_aload_n hx hb dX3_next_392 rfl (lv_at hl 0 rfl) ?_
          refine lv_dup hx hb dX3_next_393 rfl ?_
          obtain ⟨fs30, v33, hg31, hv32, h⟩ := h
          refine gPX3_19 hF hK hI hg31 hv32 dX3_next_394 (fun f34 => ?_)
          replace h := h f34
          refine nr_iconst hx hb dX3_next_397 ?_
          have f35 := h.1; replace h := h.2
          refine nr_iadd hx hb dX3_next_398 ?_
          obtain ⟨fs36, hg37, hn38, h⟩ := h
          refine uPX3_19 hF hK hI hg37 hn38 f35 dX3_next_399 (fun S39 H locs eS39 hI => ?_)
          replace h := h S39 eS39
          have hcs := bOK.to (S' := S39) hcs (by rw [eS39]; exact ⟨rfl, rfl⟩)
          rw [← hQ]; refine W.widen (k := mc) (n := ms) (by have h1 := hcs.1; omega) (by have h1 := hcs.2; omega) ?_; exact s_vret (K := K) hx hb hr hlocks hI h dX3_next_402
        · replace h := h.2 c25
          refine nr_sipush hx hb dX3_next_380 (by decide) ?_
          refine lv_goto (tgt := 389) hx hb dX3_next_383 (by decide) ?_
          obtain ⟨fs40, hg41, hn42, h⟩ := h
          refine uPX3_25 hF hK hI hg41 hn42 (by decide) dX3_next_389 (fun S43 H locs eS43 hI => ?_)
          replace h := h S43 eS43
          have hcs := bOK.to (S' := S43) hcs (by rw [eS43]; exact ⟨rfl, rfl⟩)
          refine lv_aload_n hx hb dX3_next_392 rfl (lv_at hl 0 rfl) ?_
          refine lv_dup hx hb dX3_next_393 rfl ?_
          obtain ⟨fs44, v47, hg45, hv46, h⟩ := h
          refine gPX3_19 hF hK hI hg45 hv46 dX3_next_394 (fun f48 => ?_)
          replace h := h f48
          refine nr_iconst hx hb dX3_next_397 ?_
          have f49 := h.1; replace h := h.2
          refine nr_iadd hx hb dX3_next_398 ?_
          obtain ⟨fs50, hg51, hn52, h⟩ := h
          refine uPX3_19 hF hK hI hg51 hn52 f49 dX3_next_399 (fun S53 H locs eS53 hI => ?_)
          replace h := h S53 eS53
          have hcs := bOK.to (S' := S53) hcs (by rw [eS53]; exact ⟨rfl, rfl⟩)
          rw [← hQ]; refine W.widen (k := mc) (n := ms) (by have h1 := hcs.1; omega) (by have h1 := hcs.2; omega) ?_; exact s_vret (K := K) hx hb hr hlocks hI h dX3_next_402
  have J336 : ∀ (x0 : Nat) (x1 : Int) (S : St) (H : Heap) (locs : List Loc) (ls : Array Slot) (cells slots : Nat), InR x1 → (sI D dA wX ad A s.heap S H locs ∧ bOK R S cells slots) → lv_has ls 3 [(0, .ref x0), (1, iV x1)] → j_X3_next_336 x0 x1 S K → W p l e R s m args below meth c H locs cells slots Q (F0 m 336 ls []) := by
    intro x0 x1 S H locs ls cells slots rx1 hI hl h
    obtain ⟨hI, hcs⟩ := hI
    unfold j_X3_next_336 at h
    refine lv_iload_n hx hb dX3_next_336 rfl (lv_at hl 1 rfl) ?_
    refine nr_bipush hx hb dX3_next_337 (by decide) ?_
    refine nr_icmp_eq hx hb rx1 (by decide) dX3_next_339 (tgt := 348) (by decide) (fun c54 => ?_) (fun c54 => ?_)
    · replace h := h.1 c54
      exact J348 x0 x1 S _ _ _ _ _ rx1 ⟨hI, hcs⟩ (lv_sub hl [0, 1] rfl) h
    · replace h := h.2 c54
      refine lv_iload_n hx hb dX3_next_342 rfl (lv_at hl 1 rfl) ?_
      refine nr_bipush hx hb dX3_next_343 (by decide) ?_
      refine nr_icmp_ne hx hb rx1 (by decide) dX3_next_345 (tgt := 402) (by decide) (fun c55 => ?_) (fun c55 => ?_)
      · replace h := h.1 c55
        rw [← hQ]; refine W.widen (k := mc) (n := ms) (by have h1 := hcs.1; omega) (by have h1 := hcs.2; omega) ?_; exact s_vret (K := K) hx hb hr hlocks hI h dX3_next_402
      · replace h := h.2 c55
        exact J348 x0 x1 S _ _ _ _ _ rx1 ⟨hI, hcs⟩ (lv_sub hl [0, 1] rfl) h
  have L306 : ∀ (x0 : Nat) (x1 : Int), InR x1 → ∀ (n306 : Nat) (x2 : Int) (S : St) (H : Heap) (locs : List Loc) (ls : Array Slot) (cells slots : Nat), InR x2 → (sI D dA wX ad A s.heap S H locs ∧ bOK R S cells slots) → lv_has ls 3 [(0, .ref x0), (1, iV x1), (2, iV x2)] → l_X3_next_306 x0 x1 K (fun (zS : St) => j_X3_next_336 x0 x1 zS K) n306 x2 S → W p l e R s m args below meth c H locs cells slots Q (F0 m 306 ls []) := by
    intro x0 x1 rx1 n306
    induction n306 with
    | zero => intro x2 S H locs ls cells slots rx2 hI hl h; exact False.elim h
    | succ n306 ih306 =>
      intro x2 S H locs ls cells slots rx2 hI hl h
      obtain ⟨hI, hcs⟩ := hI
      have J330 : ∀ (x2 : Int) (S : St) (H : Heap) (locs : List Loc) (ls : Array Slot) (cells slots : Nat), InR x2 → (sI D dA wX ad A s.heap S H locs ∧ bOK R S cells slots) → lv_has ls 3 [(0, .ref x0), (1, iV x1), (2, iV x2)] → j_X3_next_330 x0 x1 x2 S K (fun (zS : St) => j_X3_next_336 x0 x1 zS K) (l_X3_next_306 x0 x1 K (fun (zS : St) => j_X3_next_336 x0 x1 zS K) n306) → W p l e R s m args below meth c H locs cells slots Q (F0 m 330 ls []) := by
        intro x2 S H locs ls cells slots rx2 hI hl h
        obtain ⟨hI, hcs⟩ := hI
        unfold j_X3_next_330 at h
        have f56 := h.1; replace h := h.2
        refine nr_iinc (lv' := [(2, iV (x2 + 1)), (0, .ref x0), (1, iV x1)]) hx hb dX3_next_330 hl (k := 2) rfl (by decide) rfl (fun ls hl => ?_)
        refine lv_goto (tgt := 306) hx hb dX3_next_333 (by decide) ?_
        exact ih306 (x2 + 1) S _ _ _ _ _ f56 ⟨hI, hcs⟩ (lv_sub hl [1, 2, 0] rfl) h
      unfold l_X3_next_306 at h
      refine lv_iload_n hx hb dX3_next_306 rfl (lv_at hl 2 rfl) ?_
      refine t_signs hx hb hown rfl rfl hZ dX3_next_307 ?_
      refine k_slen hF q430 hI hZ hcs hl.1 hR (by decide) (by decide) (Nat.le_of_ble_eq_true rfl) dX3_next_309 (fun H locs hI => ?_)
      refine nr_icmp_ge hx hb rx2 (wlen_R 24) dX3_next_312 (tgt := 336) (by decide) (fun c57 => ?_) (fun c57 => ?_)
      · replace h := h.1 c57
        exact J336 x0 x1 S _ _ _ _ _ rx1 ⟨hI, hcs⟩ (lv_sub hl [0, 1] rfl) h
      · replace h := h.2 c57
        refine t_signs hx hb hown rfl rfl hZ dX3_next_315 ?_
        refine lv_iload_n hx hb dX3_next_317 rfl (lv_at hl 2 rfl) ?_
        have f58 := h.1; replace h := h.2
        refine k_scha hF q440 hI hZ hcs hl.1 hR (by decide) (by decide) rx2 f58 (Nat.le_of_ble_eq_true rfl) dX3_next_318 (fun H locs hI => ?_)
        refine lv_iload_n hx hb dX3_next_321 rfl (lv_at hl 1 rfl) ?_
        refine nr_icmp_ne hx hb (wch_R 24 x2) rx1 dX3_next_322 (tgt := 330) (by decide) (fun c59 => ?_) (fun c59 => ?_)
        · replace h := h.1 c59
          exact J330 x2 S _ _ _ _ _ rx2 ⟨hI, hcs⟩ (lv_sub hl [0, 1, 2] rfl) h
        · replace h := h.2 c59
          refine lv_aload_n hx hb dX3_next_325 rfl (lv_at hl 0 rfl) ?_
          refine lv_iload_n hx hb dX3_next_326 rfl (lv_at hl 1 rfl) ?_
          obtain ⟨fs60, hg61, hn62, h⟩ := h
          refine uPX3_25 hF hK hI hg61 hn62 rx1 dX3_next_327 (fun S63 H locs eS63 hI => ?_)
          replace h := h S63 eS63
          have hcs := bOK.to (S' := S63) hcs (by rw [eS63]; exact ⟨rfl, rfl⟩)
          exact J330 x2 S63 _ _ _ _ _ rx2 ⟨hI, hcs⟩ (lv_sub hl [0, 1, 2] rfl) h
  have L209 : ∀ (x0 : Nat), ∀ (n209 : Nat) (S : St) (H : Heap) (locs : List Loc) (ls : Array Slot) (cells slots : Nat), (sI D dA wX ad A s.heap S H locs ∧ bOK R S cells slots) → lv_has ls 3 [(0, .ref x0)] → l_X3_next_209 x0 K n209 S → W p l e R s m args below meth c H locs cells slots Q (F0 m 209 ls []) := by
    intro x0 n209
    induction n209 with
    | zero => intro S H locs ls cells slots hI hl h; exact False.elim h
    | succ n209 ih209 =>
      intro S H locs ls cells slots hI hl h
      obtain ⟨hI, hcs⟩ := hI
      unfold l_X3_next_209 at h
      refine lv_aload_n hx hb dX3_next_209 rfl (lv_at hl 0 rfl) ?_
      obtain ⟨fs64, v67, hg65, hv66, h⟩ := h
      refine gPX3_19 hF hK hI hg65 hv66 dX3_next_210 (fun f68 => ?_)
      replace h := h f68
      refine lv_aload_n hx hb dX3_next_213 rfl (lv_at hl 0 rfl) ?_
      obtain ⟨fs69, v72, hg70, hv71, h⟩ := h
      refine gPX3_15 hF hK hI hg70 hv71 dX3_next_214 (fun f73 => ?_)
      replace h := h f73
      refine nr_icmp_ge hx hb f68 f73 dX3_next_217 (tgt := 402) (by decide) (fun c74 => ?_) (fun c74 => ?_)
      · replace h := h.1 c74
        rw [← hQ]; refine W.widen (k := mc) (n := ms) (by have h1 := hcs.1; omega) (by have h1 := hcs.2; omega) ?_; exact s_vret (K := K) hx hb hr hlocks hI h dX3_next_402
      · replace h := h.2 c74
        refine lv_aload_n hx hb dX3_next_220 rfl (lv_at hl 0 rfl) ?_
        obtain ⟨fs75, tq76, hg77, hv78, ht79, h⟩ := h
        refine gTX3_9 hF hK hI hg77 hv78 ht79 dX3_next_221 ?_
        refine lv_aload_n hx hb dX3_next_224 rfl (lv_at hl 0 rfl) ?_
        obtain ⟨fs80, v83, hg81, hv82, h⟩ := h
        refine gPX3_19 hF hK hI hg81 hv82 dX3_next_225 (fun f84 => ?_)
        replace h := h f84
        have f85 := h.1; replace h := h.2
        refine s_bald hx hb hK hI 8 (by decide) wX_8 f84 f85 dX3_next_228 (fun f86 f86z => ?_)
        replace h := h f86
        replace h := h f86z
        refine cXX3_40 hF hK hI hl.1 hR (by decide) (Nat.le_of_ble_eq_true rfl) (cs0 hcs) f86 h dX3_next_229 (fun r87 H locs fr87 h hI => ?_)
        replace h := h fr87
        have gr87 : InR r87 := kdP_R (k := 2) (by decide) fr87
        refine nr_if_eq hx hb gr87 dX3_next_232 (tgt := 402) (by decide) (fun c89 => ?_) (fun c89 => ?_)
        · replace h := h.1 c89
          rw [← hQ]; refine W.widen (k := mc) (n := ms) (by have h1 := hcs.1; omega) (by have h1 := hcs.2; omega) ?_; exact s_vret (K := K) hx hb hr hlocks hI h dX3_next_402
        · replace h := h.2 c89
          refine lv_aload_n hx hb dX3_next_235 rfl (lv_at hl 0 rfl) ?_
          refine nr_ldc (v := 99999) hx hb hown (by decide) (hts _ q481) dX3_next_236 ?_
          refine nr_bipush hx hb dX3_next_238 (by decide) ?_
          refine lv_aload_n hx hb dX3_next_240 rfl (lv_at hl 0 rfl) ?_
          obtain ⟨fs90, v93, hg91, hv92, h⟩ := h
          refine gPX3_43 hF hK hI hg91 hv92 dX3_next_241 (fun f94 => ?_)
          replace h := h f94
          have f95 := h.1; replace h := h.2
          refine nr_imul hx hb dX3_next_244 ?_
          refine lv_aload_n hx hb dX3_next_245 rfl (lv_at hl 0 rfl) ?_
          obtain ⟨fs96, tq97, hg98, hv99, ht100, h⟩ := h
          refine gTX3_9 hF hK hI hg98 hv99 ht100 dX3_next_246 ?_
          refine lv_aload_n hx hb dX3_next_249 rfl (lv_at hl 0 rfl) ?_
          obtain ⟨fs101, v104, hg102, hv103, h⟩ := h
          refine gPX3_19 hF hK hI hg102 hv103 dX3_next_250 (fun f105 => ?_)
          replace h := h f105
          have f106 := h.1; replace h := h.2
          refine s_bald hx hb hK hI 8 (by decide) wX_8 f105 f106 dX3_next_253 (fun f107 f107z => ?_)
          replace h := h f107
          replace h := h f107z
          have f108 := h.1; replace h := h.2
          refine nr_iadd hx hb dX3_next_254 ?_
          refine nr_bipush hx hb dX3_next_255 (by decide) ?_
          have f109 := h.1; replace h := h.2
          refine nr_isub hx hb dX3_next_257 ?_
          refine s_min hx hb (hl.1.trans hml.symm) hown hts q482 q483 q119 q484 (by have h1 := hR.1; have h2 := hR.2; omega) (cs0 hcs) (Nat.le_of_ble_eq_true rfl) (by decide) f109 dX3_next_258 ?_
          have f110 : InR (min 99999 (((10 * v93) + (aI S 8 v104)) - 48)) := nr_mnR (by decide) f109
          obtain ⟨fs111, hg112, hn113, h⟩ := h
          refine uPX3_43 hF hK hI hg112 hn113 f110 dX3_next_261 (fun S114 H locs eS114 hI => ?_)
          replace h := h S114 eS114
          have hcs := bOK.to (S' := S114) hcs (by rw [eS114]; exact ⟨rfl, rfl⟩)
          refine lv_aload_n hx hb dX3_next_264 rfl (lv_at hl 0 rfl) ?_
          refine lv_dup hx hb dX3_next_265 rfl ?_
          obtain ⟨fs115, v118, hg116, hv117, h⟩ := h
          refine gPX3_19 hF hK hI hg116 hv117 dX3_next_266 (fun f119 => ?_)
          replace h := h f119
          refine nr_iconst hx hb dX3_next_269 ?_
          have f120 := h.1; replace h := h.2
          refine nr_iadd hx hb dX3_next_270 ?_
          obtain ⟨fs121, hg122, hn123, h⟩ := h
          refine uPX3_19 hF hK hI hg122 hn123 f120 dX3_next_271 (fun S124 H locs eS124 hI => ?_)
          replace h := h S124 eS124
          have hcs := bOK.to (S' := S124) hcs (by rw [eS124]; exact ⟨rfl, rfl⟩)
          refine lv_goto (tgt := 209) hx hb dX3_next_274 (by decide) ?_
          exact ih209 S124 _ _ _ _ _ ⟨hI, hcs⟩ (lv_sub hl [0] rfl) h
  have L144 : ∀ (x0 : Nat), ∀ (n144 : Nat) (x1 : Int) (S : St) (H : Heap) (locs : List Loc) (ls : Array Slot) (cells slots : Nat), InR x1 → (sI D dA wX ad A s.heap S H locs ∧ bOK R S cells slots) → lv_has ls 3 [(0, .ref x0), (1, iV x1)] → l_X3_next_144 x0 K n144 x1 S → W p l e R s m args below meth c H locs cells slots Q (F0 m 144 ls []) := by
    intro x0 n144
    induction n144 with
    | zero => intro x1 S H locs ls cells slots rx1 hI hl h; exact False.elim h
    | succ n144 ih144 =>
      intro x1 S H locs ls cells slots rx1 hI hl h
      obtain ⟨hI, hcs⟩ := hI
      have J173 : ∀ (x1 : Int) (S : St) (H : Heap) (locs : List Loc) (ls : Array Slot) (cells slots : Nat), InR x1 → (sI D dA wX ad A s.heap S H locs ∧ bOK R S cells slots) → lv_has ls 3 [(0, .ref x0), (1, iV x1)] → j_X3_next_173 x0 x1 S K (l_X3_next_144 x0 K n144) → W p l e R s m args below meth c H locs cells slots Q (F0 m 173 ls []) := by
        intro x1 S H locs ls cells slots rx1 hI hl h
        obtain ⟨hI, hcs⟩ := hI
        unfold j_X3_next_173 at h
        have f125 := h.1; replace h := h.2
        refine nr_iinc (lv' := [(1, iV (x1 + 1)), (0, .ref x0)]) hx hb dX3_next_173 hl (k := 1) rfl (by decide) rfl (fun ls hl => ?_)
        refine lv_goto (tgt := 144) hx hb dX3_next_176 (by decide) ?_
        exact ih144 (x1 + 1) S _ _ _ _ _ f125 ⟨hI, hcs⟩ (lv_sub hl [1, 0] rfl) h
      unfold l_X3_next_144 at h
      refine lv_iload_n hx hb dX3_next_144 rfl (lv_at hl 1 rfl) ?_
      refine t_words hx hb hts hown q424 hI hZ dX3_next_145 ?_
      refine t_wlen hx hb hI hZ dX3_next_148 ?_
      refine nr_icmp_ge hx hb rx1 (by decide) dX3_next_149 (tgt := 179) (by decide) (fun c126 => ?_) (fun c126 => ?_)
      · replace h := h.1 c126
        refine lv_goto (tgt := 402) hx hb dX3_next_179 (by decide) ?_
        rw [← hQ]; refine W.widen (k := mc) (n := ms) (by have h1 := hcs.1; omega) (by have h1 := hcs.2; omega) ?_; exact s_vret (K := K) hx hb hr hlocks hI h dX3_next_402
      · replace h := h.2 c126
        refine lv_aload_n hx hb dX3_next_152 rfl (lv_at hl 0 rfl) ?_
        refine t_words hx hb hts hown q424 hI hZ dX3_next_153 ?_
        refine lv_iload_n hx hb dX3_next_156 rfl (lv_at hl 1 rfl) ?_
        have f127 := h.1; replace h := h.2
        refine t_wald hx hb hI hZ rx1 f127 dX3_next_157 ?_
        have hr131 := h.1; replace h := h.2
        obtain ⟨a128, b129, f130, h⟩ := h
        refine p_callVz (As := [.ref (ad (2001 + Int.toNat x1))]) (rest := []) hF (t_X3_isWord l hlt D dA ad (bset S a128 b129) _ x0 x1 _ a128.toNat b129.toNat (bC_bset _ _ _).symm (bL_bset _ _ _).symm h) (by obtain ⟨fs, hg⟩ := hr131; exact s_recvP hK hI hg rfl) (cwV 1 hts (lw_V q426 q428 qs6 q110 q429) rfl rfl rfl (by decide +kernel) ⟨by have h1 := hR.1; have h2 : (rmD 6 a128.toNat b129.toNat).frames = 6 + 1 := rfl; omega, by have h1 := hR.2; have h2 : (rmD 6 a128.toNat b129.toNat).locals = 64 * 6 + 64 := rfl; omega⟩) hK hI hZ hcs f130 rfl hl.1 rfl (Nat.le_of_ble_eq_true rfl) dX3_next_158 (fun r132 S133 S134 H locs cells slots fr132 h eS134 hI hcs => ?_)
        replace h := h fr132
        replace h := h S134 eS134
        have gr132 : InR r132 := kdP_R (k := 2) (by decide) fr132
        refine nr_if_eq hx hb gr132 dX3_next_161 (tgt := 173) (by decide) (fun c136 => ?_) (fun c136 => ?_)
        · replace h := h.1 c136
          exact J173 x1 S134 _ _ _ _ _ rx1 ⟨hI, hcs⟩ (lv_sub hl [0, 1] rfl) h
        · replace h := h.2 c136
          refine lv_aload_n hx hb dX3_next_164 rfl (lv_at hl 0 rfl) ?_
          refine nr_sipush hx hb dX3_next_165 (by decide) ?_
          refine lv_iload_n hx hb dX3_next_168 rfl (lv_at hl 1 rfl) ?_
          have f137 := h.1; replace h := h.2
          refine nr_iadd hx hb dX3_next_169 ?_
          obtain ⟨fs138, hg139, hn140, h⟩ := h
          refine uPX3_25 hF hK hI hg139 hn140 f137 dX3_next_170 (fun S141 H locs eS141 hI => ?_)
          replace h := h S141 eS141
          have hcs := bOK.to (S' := S141) hcs (by rw [eS141]; exact ⟨rfl, rfl⟩)
          exact J173 x1 S141 _ _ _ _ _ rx1 ⟨hI, hcs⟩ (lv_sub hl [0, 1] rfl) h
  have J135 : ∀ (x0 : Nat) (S : St) (H : Heap) (locs : List Loc) (ls : Array Slot) (cells slots : Nat), (sI D dA wX ad A s.heap S H locs ∧ bOK R S cells slots) → lv_has ls 3 [(0, .ref x0)] → j_X3_next_135 x0 S K → W p l e R s m args below meth c H locs cells slots Q (F0 m 135 ls []) := by
    intro x0 S H locs ls cells slots hI hl h
    obtain ⟨hI, hcs⟩ := hI
    unfold j_X3_next_135 at h
    refine lv_aload_n hx hb dX3_next_135 rfl (lv_at hl 0 rfl) ?_
    refine nr_sipush hx hb dX3_next_136 (by decide) ?_
    obtain ⟨fs142, hg143, hn144, h⟩ := h
    refine uPX3_25 hF hK hI hg143 hn144 (by decide) dX3_next_139 (fun S145 H locs eS145 hI => ?_)
    replace h := h S145 eS145
    have hcs := bOK.to (S' := S145) hcs (by rw [eS145]; exact ⟨rfl, rfl⟩)
    refine nr_iconst hx hb dX3_next_142 ?_
    refine lv_istore_n (lv' := [(1, iV 0), (0, .ref x0)]) hx hb dX3_next_143 rfl hl (by decide) rfl (fun ls hl => ?_)
    obtain ⟨n0, h⟩ := h
    exact L144 x0 n0 0 S145 _ _ _ _ _ (by decide) ⟨hI, hcs⟩ (lv_sub hl [1, 0] rfl) h
  have L96 : ∀ (x0 : Nat), ∀ (n96 : Nat) (S : St) (H : Heap) (locs : List Loc) (ls : Array Slot) (cells slots : Nat), (sI D dA wX ad A s.heap S H locs ∧ bOK R S cells slots) → lv_has ls 3 [(0, .ref x0)] → l_X3_next_96 x0 K (fun (zS : St) => j_X3_next_135 x0 zS K) n96 S → W p l e R s m args below meth c H locs cells slots Q (F0 m 96 ls []) := by
    intro x0 n96
    induction n96 with
    | zero => intro S H locs ls cells slots hI hl h; exact False.elim h
    | succ n96 ih96 =>
      intro S H locs ls cells slots hI hl h
      obtain ⟨hI, hcs⟩ := hI
      unfold l_X3_next_96 at h
      refine lv_aload_n hx hb dX3_next_96 rfl (lv_at hl 0 rfl) ?_
      obtain ⟨fs146, v149, hg147, hv148, h⟩ := h
      refine gPX3_19 hF hK hI hg147 hv148 dX3_next_97 (fun f150 => ?_)
      replace h := h f150
      refine lv_aload_n hx hb dX3_next_100 rfl (lv_at hl 0 rfl) ?_
      obtain ⟨fs151, v154, hg152, hv153, h⟩ := h
      refine gPX3_15 hF hK hI hg152 hv153 dX3_next_101 (fun f155 => ?_)
      replace h := h f155
      refine nr_icmp_ge hx hb f150 f155 dX3_next_104 (tgt := 135) (by decide) (fun c156 => ?_) (fun c156 => ?_)
      · replace h := h.1 c156
        exact J135 x0 S _ _ _ _ _ ⟨hI, hcs⟩ (lv_sub hl [0] rfl) h
      · replace h := h.2 c156
        refine lv_aload_n hx hb dX3_next_107 rfl (lv_at hl 0 rfl) ?_
        obtain ⟨fs157, tq158, hg159, hv160, ht161, h⟩ := h
        refine gTX3_9 hF hK hI hg159 hv160 ht161 dX3_next_108 ?_
        refine lv_aload_n hx hb dX3_next_111 rfl (lv_at hl 0 rfl) ?_
        obtain ⟨fs162, v165, hg163, hv164, h⟩ := h
        refine gPX3_19 hF hK hI hg163 hv164 dX3_next_112 (fun f166 => ?_)
        replace h := h f166
        have f167 := h.1; replace h := h.2
        refine s_bald hx hb hK hI 8 (by decide) wX_8 f166 f167 dX3_next_115 (fun f168 f168z => ?_)
        replace h := h f168
        replace h := h f168z
        refine cXX3_28 hF hK hI hl.1 hR (by decide) (Nat.le_of_ble_eq_true rfl) (cs0 hcs) f168 h dX3_next_116 (fun r169 H locs fr169 h hI => ?_)
        replace h := h fr169
        have gr169 : InR r169 := kdP_R (k := 2) (by decide) fr169
        refine nr_if_eq hx hb gr169 dX3_next_119 (tgt := 135) (by decide) (fun c171 => ?_) (fun c171 => ?_)
        · replace h := h.1 c171
          exact J135 x0 S _ _ _ _ _ ⟨hI, hcs⟩ (lv_sub hl [0] rfl) h
        · replace h := h.2 c171
          refine lv_aload_n hx hb dX3_next_122 rfl (lv_at hl 0 rfl) ?_
          refine lv_dup hx hb dX3_next_123 rfl ?_
          obtain ⟨fs172, v175, hg173, hv174, h⟩ := h
          refine gPX3_19 hF hK hI hg173 hv174 dX3_next_124 (fun f176 => ?_)
          replace h := h f176
          refine nr_iconst hx hb dX3_next_127 ?_
          have f177 := h.1; replace h := h.2
          refine nr_iadd hx hb dX3_next_128 ?_
          obtain ⟨fs178, hg179, hn180, h⟩ := h
          refine uPX3_19 hF hK hI hg179 hn180 f177 dX3_next_129 (fun S181 H locs eS181 hI => ?_)
          replace h := h S181 eS181
          have hcs := bOK.to (S' := S181) hcs (by rw [eS181]; exact ⟨rfl, rfl⟩)
          refine lv_goto (tgt := 96) hx hb dX3_next_132 (by decide) ?_
          exact ih96 S181 _ _ _ _ _ ⟨hI, hcs⟩ (lv_sub hl [0] rfl) h
  have J52 : ∀ (x0 : Nat) (S : St) (H : Heap) (locs : List Loc) (ls : Array Slot) (cells slots : Nat), (sI D dA wX ad A s.heap S H locs ∧ bOK R S cells slots) → lv_has ls 3 [(0, .ref x0)] → j_X3_next_52 x0 S K → W p l e R s m args below meth c H locs cells slots Q (F0 m 52 ls []) := by
    intro x0 S H locs ls cells slots hI hl h
    obtain ⟨hI, hcs⟩ := hI
    unfold j_X3_next_52 at h
    refine lv_aload_n hx hb dX3_next_52 rfl (lv_at hl 0 rfl) ?_
    refine lv_aload_n hx hb dX3_next_53 rfl (lv_at hl 0 rfl) ?_
    obtain ⟨fs182, v185, hg183, hv184, h⟩ := h
    refine gPX3_19 hF hK hI hg183 hv184 dX3_next_54 (fun f186 => ?_)
    replace h := h f186
    obtain ⟨fs187, hg188, hn189, h⟩ := h
    refine uPX3_22 hF hK hI hg188 hn189 f186 dX3_next_57 (fun S190 H locs eS190 hI => ?_)
    replace h := h S190 eS190
    have hcs := bOK.to (S' := S190) hcs (by rw [eS190]; exact ⟨rfl, rfl⟩)
    refine lv_aload_n hx hb dX3_next_60 rfl (lv_at hl 0 rfl) ?_
    obtain ⟨fs191, v194, hg192, hv193, h⟩ := h
    refine gPX3_19 hF hK hI hg192 hv193 dX3_next_61 (fun f195 => ?_)
    replace h := h f195
    refine lv_aload_n hx hb dX3_next_64 rfl (lv_at hl 0 rfl) ?_
    obtain ⟨fs196, v199, hg197, hv198, h⟩ := h
    refine gPX3_15 hF hK hI hg197 hv198 dX3_next_65 (fun f200 => ?_)
    replace h := h f200
    refine nr_icmp_ne hx hb f195 f200 dX3_next_68 (tgt := 81) (by decide) (fun c201 => ?_) (fun c201 => ?_)
    · replace h := h.1 c201
      refine lv_aload_n hx hb dX3_next_81 rfl (lv_at hl 0 rfl) ?_
      obtain ⟨fs202, tq203, hg204, hv205, ht206, h⟩ := h
      refine gTX3_9 hF hK hI hg204 hv205 ht206 dX3_next_82 ?_
      refine lv_aload_n hx hb dX3_next_85 rfl (lv_at hl 0 rfl) ?_
      obtain ⟨fs207, v210, hg208, hv209, h⟩ := h
      refine gPX3_19 hF hK hI hg208 hv209 dX3_next_86 (fun f211 => ?_)
      replace h := h f211
      have f212 := h.1; replace h := h.2
      refine s_bald hx hb hK hI 8 (by decide) wX_8 f211 f212 dX3_next_89 (fun f213 f213z => ?_)
      replace h := h f213
      replace h := h f213z
      refine cXX3_28 hF hK hI hl.1 hR (by decide) (Nat.le_of_ble_eq_true rfl) (cs0 hcs) f213 h dX3_next_90 (fun r214 H locs fr214 h hI => ?_)
      replace h := h fr214
      have gr214 : InR r214 := kdP_R (k := 2) (by decide) fr214
      refine nr_if_eq hx hb gr214 dX3_next_93 (tgt := 182) (by decide) (fun c216 => ?_) (fun c216 => ?_)
      · replace h := h.1 c216
        refine lv_aload_n hx hb dX3_next_182 rfl (lv_at hl 0 rfl) ?_
        obtain ⟨fs217, tq218, hg219, hv220, ht221, h⟩ := h
        refine gTX3_9 hF hK hI hg219 hv220 ht221 dX3_next_183 ?_
        refine lv_aload_n hx hb dX3_next_186 rfl (lv_at hl 0 rfl) ?_
        obtain ⟨fs222, v225, hg223, hv224, h⟩ := h
        refine gPX3_19 hF hK hI hg223 hv224 dX3_next_187 (fun f226 => ?_)
        replace h := h f226
        have f227 := h.1; replace h := h.2
        refine s_bald hx hb hK hI 8 (by decide) wX_8 f226 f227 dX3_next_190 (fun f228 f228z => ?_)
        replace h := h f228
        replace h := h f228z
        refine cXX3_40 hF hK hI hl.1 hR (by decide) (Nat.le_of_ble_eq_true rfl) (cs0 hcs) f228 h dX3_next_191 (fun r229 H locs fr229 h hI => ?_)
        replace h := h fr229
        have gr229 : InR r229 := kdP_R (k := 2) (by decide) fr229
        refine nr_if_eq hx hb gr229 dX3_next_194 (tgt := 277) (by decide) (fun c231 => ?_) (fun c231 => ?_)
        · replace h := h.1 c231
          refine lv_aload_n hx hb dX3_next_277 rfl (lv_at hl 0 rfl) ?_
          obtain ⟨fs232, tq233, hg234, hv235, ht236, h⟩ := h
          refine gTX3_9 hF hK hI hg234 hv235 ht236 dX3_next_278 ?_
          refine lv_aload_n hx hb dX3_next_281 rfl (lv_at hl 0 rfl) ?_
          obtain ⟨fs237, v240, hg238, hv239, h⟩ := h
          refine gPX3_19 hF hK hI hg238 hv239 dX3_next_282 (fun f241 => ?_)
          replace h := h f241
          have f242 := h.1; replace h := h.2
          refine s_bald hx hb hK hI 8 (by decide) wX_8 f241 f242 dX3_next_285 (fun f243 f243z => ?_)
          replace h := h f243
          replace h := h f243z
          refine nr_topi (fun v244 ev244 => ?_)
          have rv244 : InR v244 := by rw [ev244]; exact f243
          replace h := h v244 ev244 rv244
          refine lv_istore_n (lv' := [(1, iV v244), (0, .ref x0)]) hx hb dX3_next_286 rfl hl (by decide) rfl (fun ls hl => ?_)
          refine lv_aload_n hx hb dX3_next_287 rfl (lv_at hl 1 rfl) ?_
          refine lv_dup hx hb dX3_next_288 rfl ?_
          obtain ⟨fs245, v248, hg246, hv247, h⟩ := h
          refine gPX3_19 hF hK hI hg246 hv247 dX3_next_289 (fun f249 => ?_)
          replace h := h f249
          refine nr_iconst hx hb dX3_next_292 ?_
          have f250 := h.1; replace h := h.2
          refine nr_iadd hx hb dX3_next_293 ?_
          obtain ⟨fs251, hg252, hn253, h⟩ := h
          refine uPX3_19 hF hK hI hg252 hn253 f250 dX3_next_294 (fun S254 H locs eS254 hI => ?_)
          replace h := h S254 eS254
          have hcs := bOK.to (S' := S254) hcs (by rw [eS254]; exact ⟨rfl, rfl⟩)
          refine lv_aload_n hx hb dX3_next_297 rfl (lv_at hl 1 rfl) ?_
          refine nr_sipush hx hb dX3_next_298 (by decide) ?_
          obtain ⟨fs255, hg256, hn257, h⟩ := h
          refine uPX3_25 hF hK hI hg256 hn257 (by decide) dX3_next_301 (fun S258 H locs eS258 hI => ?_)
          replace h := h S258 eS258
          have hcs := bOK.to (S' := S258) hcs (by rw [eS258]; exact ⟨rfl, rfl⟩)
          refine nr_iconst hx hb dX3_next_304 ?_
          refine lv_istore_n (lv' := [(2, iV 0), (1, iV v244), (0, .ref x0)]) hx hb dX3_next_305 rfl hl (by decide) rfl (fun ls hl => ?_)
          obtain ⟨n0, h⟩ := h
          exact L306 x0 v244 rv244 n0 0 S258 _ _ _ _ _ (by decide) ⟨hI, hcs⟩ (lv_sub hl [2, 1, 0] rfl) h
        · replace h := h.2 c231
          refine lv_aload_n hx hb dX3_next_197 rfl (lv_at hl 0 rfl) ?_
          refine nr_sipush hx hb dX3_next_198 (by decide) ?_
          obtain ⟨fs259, hg260, hn261, h⟩ := h
          refine uPX3_25 hF hK hI hg260 hn261 (by decide) dX3_next_201 (fun S262 H locs eS262 hI => ?_)
          replace h := h S262 eS262
          have hcs := bOK.to (S' := S262) hcs (by rw [eS262]; exact ⟨rfl, rfl⟩)
          refine lv_aload_n hx hb dX3_next_204 rfl (lv_at hl 0 rfl) ?_
          refine nr_iconst hx hb dX3_next_205 ?_
          obtain ⟨fs263, hg264, hn265, h⟩ := h
          refine uPX3_43 hF hK hI hg264 hn265 (by decide) dX3_next_206 (fun S266 H locs eS266 hI => ?_)
          replace h := h S266 eS266
          have hcs := bOK.to (S' := S266) hcs (by rw [eS266]; exact ⟨rfl, rfl⟩)
          obtain ⟨n0, h⟩ := h
          exact L209 x0 n0 S266 _ _ _ _ _ ⟨hI, hcs⟩ (lv_sub hl [0] rfl) h
      · replace h := h.2 c216
        obtain ⟨n0, h⟩ := h
        exact L96 x0 n0 S190 _ _ _ _ _ ⟨hI, hcs⟩ (lv_sub hl [0] rfl) h
    · replace h := h.2 c201
      refine lv_aload_n hx hb dX3_next_71 rfl (lv_at hl 0 rfl) ?_
      refine nr_sipush hx hb dX3_next_72 (by decide) ?_
      obtain ⟨fs267, hg268, hn269, h⟩ := h
      refine uPX3_25 hF hK hI hg268 hn269 (by decide) dX3_next_75 (fun S270 H locs eS270 hI => ?_)
      replace h := h S270 eS270
      have hcs := bOK.to (S' := S270) hcs (by rw [eS270]; exact ⟨rfl, rfl⟩)
      refine lv_goto (tgt := 402) hx hb dX3_next_78 (by decide) ?_
      rw [← hQ]; refine W.widen (k := mc) (n := ms) (by have h1 := hcs.1; omega) (by have h1 := hcs.2; omega) ?_; exact s_vret (K := K) hx hb hr hlocks hI h dX3_next_402
  have L0 : ∀ (x0 : Nat), ∀ (n0 : Nat) (S : St) (H : Heap) (locs : List Loc) (ls : Array Slot) (cells slots : Nat), (sI D dA wX ad A s.heap S H locs ∧ bOK R S cells slots) → lv_has ls 3 [(0, .ref x0)] → l_X3_next_0 x0 K (fun (zS : St) => j_X3_next_52 x0 zS K) n0 S → W p l e R s m args below meth c H locs cells slots Q (F0 m 0 ls []) := by
    intro x0 n0
    induction n0 with
    | zero => intro S H locs ls cells slots hI hl h; exact False.elim h
    | succ n0 ih0 =>
      intro S H locs ls cells slots hI hl h
      obtain ⟨hI, hcs⟩ := hI
      have J39 : ∀ (S : St) (H : Heap) (locs : List Loc) (ls : Array Slot) (cells slots : Nat), (sI D dA wX ad A s.heap S H locs ∧ bOK R S cells slots) → lv_has ls 3 [(0, .ref x0)] → j_X3_next_39 x0 S K (fun (zS : St) => j_X3_next_52 x0 zS K) (l_X3_next_0 x0 K (fun (zS : St) => j_X3_next_52 x0 zS K) n0) → W p l e R s m args below meth c H locs cells slots Q (F0 m 39 ls []) := by
        intro S H locs ls cells slots hI hl h
        obtain ⟨hI, hcs⟩ := hI
        unfold j_X3_next_39 at h
        refine lv_aload_n hx hb dX3_next_39 rfl (lv_at hl 0 rfl) ?_
        refine lv_dup hx hb dX3_next_40 rfl ?_
        obtain ⟨fs271, v274, hg272, hv273, h⟩ := h
        refine gPX3_19 hF hK hI hg272 hv273 dX3_next_41 (fun f275 => ?_)
        replace h := h f275
        refine nr_iconst hx hb dX3_next_44 ?_
        have f276 := h.1; replace h := h.2
        refine nr_iadd hx hb dX3_next_45 ?_
        obtain ⟨fs277, hg278, hn279, h⟩ := h
        refine uPX3_19 hF hK hI hg278 hn279 f276 dX3_next_46 (fun S280 H locs eS280 hI => ?_)
        replace h := h S280 eS280
        have hcs := bOK.to (S' := S280) hcs (by rw [eS280]; exact ⟨rfl, rfl⟩)
        refine lv_goto (tgt := 0) hx hb dX3_next_49 (by decide) ?_
        exact ih0 S280 _ _ _ _ _ ⟨hI, hcs⟩ (lv_sub hl [0] rfl) h
      unfold l_X3_next_0 at h
      refine lv_aload_n hx hb dX3_next_0 rfl (lv_at hl 0 rfl) ?_
      obtain ⟨fs281, v284, hg282, hv283, h⟩ := h
      refine gPX3_19 hF hK hI hg282 hv283 dX3_next_1 (fun f285 => ?_)
      replace h := h f285
      refine lv_aload_n hx hb dX3_next_4 rfl (lv_at hl 0 rfl) ?_
      obtain ⟨fs286, v289, hg287, hv288, h⟩ := h
      refine gPX3_15 hF hK hI hg287 hv288 dX3_next_5 (fun f290 => ?_)
      replace h := h f290
      refine nr_icmp_ge hx hb f285 f290 dX3_next_8 (tgt := 52) (by decide) (fun c291 => ?_) (fun c291 => ?_)
      · replace h := h.1 c291
        exact J52 x0 S _ _ _ _ _ ⟨hI, hcs⟩ (lv_sub hl [0] rfl) h
      · replace h := h.2 c291
        refine lv_aload_n hx hb dX3_next_11 rfl (lv_at hl 0 rfl) ?_
        obtain ⟨fs292, tq293, hg294, hv295, ht296, h⟩ := h
        refine gTX3_9 hF hK hI hg294 hv295 ht296 dX3_next_12 ?_
        refine lv_aload_n hx hb dX3_next_15 rfl (lv_at hl 0 rfl) ?_
        obtain ⟨fs297, v300, hg298, hv299, h⟩ := h
        refine gPX3_19 hF hK hI hg298 hv299 dX3_next_16 (fun f301 => ?_)
        replace h := h f301
        have f302 := h.1; replace h := h.2
        refine s_bald hx hb hK hI 8 (by decide) wX_8 f301 f302 dX3_next_19 (fun f303 f303z => ?_)
        replace h := h f303
        replace h := h f303z
        refine nr_bipush hx hb dX3_next_20 (by decide) ?_
        refine nr_icmp_eq hx hb f303 (by decide) dX3_next_22 (tgt := 39) (by decide) (fun c304 => ?_) (fun c304 => ?_)
        · replace h := h.1 c304
          exact J39 S _ _ _ _ _ ⟨hI, hcs⟩ (lv_sub hl [0] rfl) h
        · replace h := h.2 c304
          refine lv_aload_n hx hb dX3_next_25 rfl (lv_at hl 0 rfl) ?_
          obtain ⟨fs305, tq306, hg307, hv308, ht309, h⟩ := h
          refine gTX3_9 hF hK hI hg307 hv308 ht309 dX3_next_26 ?_
          refine lv_aload_n hx hb dX3_next_29 rfl (lv_at hl 0 rfl) ?_
          obtain ⟨fs310, v313, hg311, hv312, h⟩ := h
          refine gPX3_19 hF hK hI hg311 hv312 dX3_next_30 (fun f314 => ?_)
          replace h := h f314
          have f315 := h.1; replace h := h.2
          refine s_bald hx hb hK hI 8 (by decide) wX_8 f314 f315 dX3_next_33 (fun f316 f316z => ?_)
          replace h := h f316
          replace h := h f316z
          refine nr_bipush hx hb dX3_next_34 (by decide) ?_
          refine nr_icmp_ne hx hb f316 (by decide) dX3_next_36 (tgt := 52) (by decide) (fun c317 => ?_) (fun c317 => ?_)
          · replace h := h.1 c317
            exact J52 x0 S _ _ _ _ _ ⟨hI, hcs⟩ (lv_sub hl [0] rfl) h
          · replace h := h.2 c317
            exact J39 S _ _ _ _ _ ⟨hI, hcs⟩ (lv_sub hl [0] rfl) h
  unfold w_X3_next at h
  obtain ⟨n0, h⟩ := h
  exact L0 x0 n0 S _ _ _ _ _ ⟨hI, hcs⟩ (lv_sub hl [0] rfl) h
