set_option maxRecDepth 100000
theorem uPX3_86 {p : Program} {l : Launch} {e : Env} {R : Room} {s : State} {m : MethodId} {args : Array Value} {below : List Frame} {meth : Method} {c : Code} {H : Heap} {locs : List Loc} {Q : State → Prop} {cc : ByteArray} {nL pc : Nat} {ls : Array Slot} {rest : List Value} {cells slots : Nat} {D : va_G} {dA : Nat → ClassId} {ad : Nat → Nat} {A : Nat → Prop} {H0 : Heap} {S : St} {q : Nat} {fs : List PV} {r : Nat} (hF : CallFix p m c cc nL s args lw_all RX3) (hK : gK D dA s) (hI : sI D dA wX ad A H0 S H locs) (hg : gI S q = some (.inr (.inl (4, fs)))) (hlen : fs.length = 6) (hdg : decode cc pc = .ok (.putfield 86, 3)) (kk : ∀ (S1 : St) (H1 : Heap) (locs1 : List Loc), S1 = gset S q (.inr (.inl (4, fs.set 0 (.inr (.inr (some r)))))) → sI D dA wX ad A H0 S1 H1 locs1 → W p l e R s m args below meth c H1 locs1 cells slots Q (F0 m (pc + 3) ls (rest))) : W p l e R s m args below meth c H locs cells slots Q (F0 m (pc) ls (.ref r :: .ref q :: rest)) := s_pputN (v := .inr (.inr (some r))) hF.1 hF.2.1 tyX4 tyX4_ok nmX4 hF.2.2.2.2 hF.2.2.2.1 hK hI (by decide) hg hlen rfl in_X4 0 (by decide) (nFl_14 hK.2) rfl trivial rfl rfl rfl hdg kk
theorem uPX3_90 {p : Program} {l : Launch} {e : Env} {R : Room} {s : State} {m : MethodId} {args : Array Value} {below : List Frame} {meth : Method} {c : Code} {H : Heap} {locs : List Loc} {Q : State → Prop} {cc : ByteArray} {nL pc : Nat} {ls : Array Slot} {rest : List Value} {cells slots : Nat} {D : va_G} {dA : Nat → ClassId} {ad : Nat → Nat} {A : Nat → Prop} {H0 : Heap} {S : St} {q : Nat} {fs : List PV} {r : Nat} (hF : CallFix p m c cc nL s args lw_all RX3) (hK : gK D dA s) (hI : sI D dA wX ad A H0 S H locs) (hg : gI S q = some (.inr (.inl (4, fs)))) (hlen : fs.length = 6) (hdg : decode cc pc = .ok (.putfield 90, 3)) (kk : ∀ (S1 : St) (H1 : Heap) (locs1 : List Loc), S1 = gset S q (.inr (.inl (4, fs.set 1 (.inr (.inr (some r)))))) → sI D dA wX ad A H0 S1 H1 locs1 → W p l e R s m args below meth c H1 locs1 cells slots Q (F0 m (pc + 3) ls (rest))) : W p l e R s m args below meth c H locs cells slots Q (F0 m (pc) ls (.ref r :: .ref q :: rest)) := s_pputN (v := .inr (.inr (some r))) hF.1 hF.2.1 tyX4 tyX4_ok nmX4 hF.2.2.2.2 hF.2.2.2.1 hK hI (by decide) hg hlen rfl in_X4 1 (by decide) (nFl_15 hK.2) rfl trivial rfl rfl rfl hdg kk
theorem uPX3_94 {p : Program} {l : Launch} {e : Env} {R : Room} {s : State} {m : MethodId} {args : Array Value} {below : List Frame} {meth : Method} {c : Code} {H : Heap} {locs : List Loc} {Q : State → Prop} {cc : ByteArray} {nL pc : Nat} {ls : Array Slot} {rest : List Value} {cells slots : Nat} {D : va_G} {dA : Nat → ClassId} {ad : Nat → Nat} {A : Nat → Prop} {H0 : Heap} {S : St} {q : Nat} {fs : List PV} {r : Nat} (hF : CallFix p m c cc nL s args lw_all RX3) (hK : gK D dA s) (hI : sI D dA wX ad A H0 S H locs) (hg : gI S q = some (.inr (.inl (4, fs)))) (hlen : fs.length = 6) (hdg : decode cc pc = .ok (.putfield 94, 3)) (kk : ∀ (S1 : St) (H1 : Heap) (locs1 : List Loc), S1 = gset S q (.inr (.inl (4, fs.set 2 (.inr (.inr (some r)))))) → sI D dA wX ad A H0 S1 H1 locs1 → W p l e R s m args below meth c H1 locs1 cells slots Q (F0 m (pc + 3) ls (rest))) : W p l e R s m args below meth c H locs cells slots Q (F0 m (pc) ls (.ref r :: .ref q :: rest)) := s_pputN (v := .inr (.inr (some r))) hF.1 hF.2.1 tyX4 tyX4_ok nmX4 hF.2.2.2.2 hF.2.2.2.1 hK hI (by decide) hg hlen rfl in_X4 2 (by decide) (nFl_16 hK.2) rfl trivial rfl rfl rfl hdg kk
theorem gPX3_118 {p : Program} {l : Launch} {e : Env} {R : Room} {s : State} {m : MethodId} {args : Array Value} {below : List Frame} {meth : Method} {c : Code} {H : Heap} {locs : List Loc} {Q : State → Prop} {cc : ByteArray} {nL pc : Nat} {ls : Array Slot} {rest : List Value} {cells slots : Nat} {w : Wd} {D : va_G} {dA : Nat → ClassId} {ad : Nat → Nat} {A : Nat → Prop} {H0 : Heap} {S : St} {q : Nat} {fs : List PV} {v : Option Nat} (hF : CallFix p m c cc nL s args lw_all RX3) (hK : gK D dA s) (hI : sI D dA w ad A H0 S H locs) (hg : gI S q = some (.inr (.inl (4, fs)))) (hv : fs[4]? = some (.inr (.inr v))) (hdg : decode cc pc = .ok (.getfield 118, 3)) (kk : W p l e R s m args below meth c H locs cells slots Q (F0 m (pc + 3) ls (va_rf v :: rest))) : W p l e R s m args below meth c H locs cells slots Q (F0 m (pc) ls (.ref q :: rest)) := s_pgrN hF.1 hF.2.1 hF.2.2.2.2 hF.2.2.2.1 hK hI hg rfl in_X4 4 (by decide) (nFl_18 hK.2) rfl hv hdg kk
theorem gPX3_97 {p : Program} {l : Launch} {e : Env} {R : Room} {s : State} {m : MethodId} {args : Array Value} {below : List Frame} {meth : Method} {c : Code} {H : Heap} {locs : List Loc} {Q : State → Prop} {cc : ByteArray} {nL pc : Nat} {ls : Array Slot} {rest : List Value} {cells slots : Nat} {w : Wd} {D : va_G} {dA : Nat → ClassId} {ad : Nat → Nat} {A : Nat → Prop} {H0 : Heap} {S : St} {q : Nat} {fs : List PV} {v : Int} (hF : CallFix p m c cc nL s args lw_all RX3) (hK : gK D dA s) (hI : sI D dA w ad A H0 S H locs) (hg : gI S q = some (.inr (.inl (4, fs)))) (hv : fs[5]? = some (.inl v)) (hdg : decode cc pc = .ok (.getfield 97, 3)) (kk : InR v → W p l e R s m args below meth c H locs cells slots Q (F0 m (pc + 3) ls (iV v :: rest))) : W p l e R s m args below meth c H locs cells slots Q (F0 m (pc) ls (.ref q :: rest)) := s_pgiN hF.1 hF.2.1 hF.2.2.2.2 hF.2.2.2.1 hK hI hg rfl in_X4 5 (by decide) (nFl_19 hK.2) rfl hv hdg kk
set_option maxHeartbeats 4000000 in
theorem t_X3_clause (l : Launch) (hlt : l.stackTraces = false) (D : va_G) (dA : Nat → ClassId) (ad : Nat → Nat) (S : St) (sz : Nat) (x0 : Nat) (x1 : Nat) (K : Option Nat → St → Prop) (mc ms : Nat) (hmc : mc = bC S) (hms : ms = bL S) (h : w_X3_clause x0 x1 S K) : vz_Met l yX3_clause (ws_ yX3_clause cX3_clause 2 (Option.none : Option Jvm.ClassFile.FieldType)) (rmD 65 mc ms) (va_Pc [.ref x0, .ref x1] (tPre D dA ad S sz)) (va_Qv (fun S' => K none S') (sPost D dA wX ad (wA wX ad S sz)) (wA wX ad S sz)) (vz_X (fun _ : St => True) (xB D dA ad (wA wX ad S sz) (fun q S' => K (some q) S')) (wA wX ad S sz)) mc ms (wA wX ad S sz) := by
  refine vz_ofW (cc := cX3_clause) (maxL := 2) (ret := (Option.none : Option Jvm.ClassFile.FieldType)) (by decide) rfl ?_
  intro p e s m args below meth c s₁ B hml hout hv
  obtain ⟨rfl, ⟨hsz, hK, hC⟩, hZ⟩ := hv
  have hx := B.exec
  have hb := B.bytes
  have hr := B.returns
  have hlocks := B.notSynchronized
  have hts := atoms_spec (ws := (ws_ yX3_clause cX3_clause 2 (Option.none : Option Jvm.ClassFile.FieldType))) B.pre
  have hts : ∀ w ∈ lw_all, w.before _ s = true := fun w h => hts w (List.mem_cons_of_mem _ h)
  have hown : s.vm.findClass RX3 = some m.cls := findClass_of_methodNamed B.named
  clear B
  subst hsz
  have hI : sI D dA wX ad (wA wX ad S s.heap.size) s.heap S s.heap [] := hC.start
  clear hC
  generalize wA wX ad S s.heap.size = A at hI hZ ⊢
  have hl := lv_entry ([.ref x0, .ref x1] : List Value) (n := 2) (Nat.le_of_ble_eq_true rfl)
  rw [lg_entry_eq]
  generalize (lg_sl ([.ref x0, .ref x1] : List Value) ++ List.replicate (2 - (lg_sl ([.ref x0, .ref x1] : List Value)).length) Slot.unset).toArray = ls at hl ⊢
  have hl : lv_has ls 2 [(0, .ref x0), (1, .ref x1)] := hl
  have hF : CallFix p m c cX3_clause 2 s _ lw_all RX3 := ⟨hx, hb, hml, hown, hts⟩
  have hR : (headSpec (ws_ yX3_clause cX3_clause 2 (Option.none : Option Jvm.ClassFile.FieldType)) (rmD 65 mc ms)).room.frames = 65 + 1 ∧ (headSpec (ws_ yX3_clause cX3_clause 2 (Option.none : Option Jvm.ClassFile.FieldType)) (rmD 65 mc ms)).room.locals = 64 * 65 + 64 := ⟨rfl, rfl⟩
  have hRc : (headSpec (ws_ yX3_clause cX3_clause 2 (Option.none : Option Jvm.ClassFile.FieldType)) (rmD 65 mc ms)).room.cells = mc ∧ (headSpec (ws_ yX3_clause cX3_clause 2 (Option.none : Option Jvm.ClassFile.FieldType)) (rmD 65 mc ms)).room.slots = ms := ⟨rfl, rfl⟩
  generalize (headSpec (ws_ yX3_clause cX3_clause 2 (Option.none : Option Jvm.ClassFile.FieldType)) (rmD 65 mc ms)).room = R at hR hRc ⊢
  obtain ⟨hRc, hRs⟩ := hRc
  have hcs : bOK R S 0 0 := ⟨by omega, by omega⟩
  clear hmc hms
  have hcs0 := hcs
  generalize ([.ref x0, .ref x1] : List Value).toArray = args at hts hF ⊢
  generalize hQ : vz_MQ below _ _ _ _ _ _ _ = Q
  unfold w_X3_clause at h
  refine lv_aload_n hx hb dX3_clause_0 rfl (lv_at hl 0 rfl) ?_
  obtain ⟨fs1, v4, hg2, hv3, h⟩ := h
  refine gPX3_83 hF hK hI hg2 hv3 dX3_clause_1 (fun f5 => ?_)
  replace h := h f5
  have hcs : v4 = 200 ∨ v4 = 201 ∨ v4 = 202 ∨ v4 = 203 ∨ ¬ (200 ≤ v4 ∧ v4 ≤ 203) := by omega
  rcases hcs with c6 | c6 | c6 | c6 | c6
  · replace h := h.1 c6
    refine nr_tableIn hx hb 200 c6 (by decide) dX3_clause_4 (by decide) rfl (tgt := 36) (by decide) ?_
    refine lv_aload_n hx hb dX3_clause_36 rfl (lv_at hl 1 rfl) ?_
    refine lv_aload_n hx hb dX3_clause_37 rfl (lv_at hl 0 rfl) ?_
    have hr11 := h.1; replace h := h.2
    obtain ⟨a7, b8, f9, h⟩ := h
    obtain ⟨d10, hd10, h⟩ := h
    refine x_callVq (As := []) (rest := [.ref x1]) hF (ps_2 (t_ps l hlt D dA ad d10 (bset S a7 b8) _ 2 x0 _ a7.toNat b8.toNat (bC_bset _ _ _).symm (bL_bset _ _ _).symm h)) (by obtain ⟨fs, hg⟩ := hr11; exact s_recvP hK hI hg rfl) (cwV 0 hts (lw_V q558 q560 qs10 q110 q561) rfl rfl rfl (by decide +kernel) ⟨by have h1 := hR.1; have h2 : (rmD (10 + d10) a7.toNat b8.toNat).frames = (10 + d10) + 1 := rfl; omega, by have h1 := hR.2; have h2 : (rmD (10 + d10) a7.toNat b8.toNat).locals = 64 * (10 + d10) + 64 := rfl; omega⟩) hK hI hZ hcs f9 rfl hl.1 rfl (Nat.le_of_ble_eq_true rfl) dX3_clause_38 (fun q S13 S14 H locs cells slots h eS14 hg hI hcs => ?_) (fun r12 S13 S14 H locs cells slots h eS14 hI hcs => ?_)
    · replace h := (h S14 eS14).1 q rfl
      rw [← hQ]; exact x_out hout hlocks hK hI ⟨by have h1 := hcs.1; omega, by have h1 := hcs.2; omega⟩ hg h
    replace h := (h S14 eS14).2 rfl
    obtain ⟨q16, e17, h⟩ := h
    rw [e17]
    show W p l e R s m args below meth c _ _ _ _ Q (F0 m _ ls [.ref q16, .ref x1])
    obtain ⟨fs18, hg19, hn20, h⟩ := h
    refine uPX3_86 hF hK hI hg19 hn20 dX3_clause_41 (fun S21 H locs eS21 hI => ?_)
    replace h := h S21 eS21
    have hcs := bOK.to (S' := S21) hcs (by rw [eS21]; exact ⟨rfl, rfl⟩)
    refine lv_goto (tgt := 93) hx hb dX3_clause_44 (by decide) ?_
    rw [← hQ]; refine vz_ret ?_; refine W.widen (k := mc) (n := ms) (by have h1 := hcs.1; omega) (by have h1 := hcs.2; omega) ?_; exact s_vret (K := (K none)) hx hb hr hlocks hI h dX3_clause_93
  · replace h := h.2.1 c6
    refine nr_tableIn hx hb 201 c6 (by decide) dX3_clause_4 (by decide) rfl (tgt := 47) (by decide) ?_
    refine lv_aload_n hx hb dX3_clause_47 rfl (lv_at hl 1 rfl) ?_
    refine lv_aload_n hx hb dX3_clause_48 rfl (lv_at hl 0 rfl) ?_
    have hr25 := h.1; replace h := h.2
    obtain ⟨a22, b23, f24, h⟩ := h
    refine x_callVq (As := []) (rest := [.ref x1]) hF (t_X3_either l hlt D dA ad (bset S a22 b23) _ x0 _ a22.toNat b23.toNat (bC_bset _ _ _).symm (bL_bset _ _ _).symm h) (by obtain ⟨fs, hg⟩ := hr25; exact s_recvP hK hI hg rfl) (cwV 0 hts (lw_V q724 q726 qs19 q110 q727) rfl rfl rfl (by decide +kernel) ⟨by have h1 := hR.1; have h2 : (rmD 64 a22.toNat b23.toNat).frames = 64 + 1 := rfl; omega, by have h1 := hR.2; have h2 : (rmD 64 a22.toNat b23.toNat).locals = 64 * 64 + 64 := rfl; omega⟩) hK hI hZ hcs f24 rfl hl.1 rfl (Nat.le_of_ble_eq_true rfl) dX3_clause_49 (fun q S27 S28 H locs cells slots h eS28 hg hI hcs => ?_) (fun r26 S27 S28 H locs cells slots h eS28 hI hcs => ?_)
    · replace h := (h S28 eS28).1 q rfl
      rw [← hQ]; exact x_out hout hlocks hK hI ⟨by have h1 := hcs.1; omega, by have h1 := hcs.2; omega⟩ hg h
    replace h := (h S28 eS28).2 rfl
    obtain ⟨q30, e31, h⟩ := h
    rw [e31]
    show W p l e R s m args below meth c _ _ _ _ Q (F0 m _ ls [.ref q30, .ref x1])
    obtain ⟨fs32, hg33, hn34, h⟩ := h
    refine uPX3_90 hF hK hI hg33 hn34 dX3_clause_52 (fun S35 H locs eS35 hI => ?_)
    replace h := h S35 eS35
    have hcs := bOK.to (S' := S35) hcs (by rw [eS35]; exact ⟨rfl, rfl⟩)
    refine lv_goto (tgt := 93) hx hb dX3_clause_55 (by decide) ?_
    rw [← hQ]; refine vz_ret ?_; refine W.widen (k := mc) (n := ms) (by have h1 := hcs.1; omega) (by have h1 := hcs.2; omega) ?_; exact s_vret (K := (K none)) hx hb hr hlocks hI h dX3_clause_93
  · replace h := h.2.2.1 c6
    refine nr_tableIn hx hb 202 c6 (by decide) dX3_clause_4 (by decide) rfl (tgt := 58) (by decide) ?_
    refine lv_aload_n hx hb dX3_clause_58 rfl (lv_at hl 1 rfl) ?_
    refine lv_aload_n hx hb dX3_clause_59 rfl (lv_at hl 0 rfl) ?_
    have hr39 := h.1; replace h := h.2
    obtain ⟨a36, b37, f38, h⟩ := h
    refine x_callVq (As := []) (rest := [.ref x1]) hF (t_X3_either l hlt D dA ad (bset S a36 b37) _ x0 _ a36.toNat b37.toNat (bC_bset _ _ _).symm (bL_bset _ _ _).symm h) (by obtain ⟨fs, hg⟩ := hr39; exact s_recvP hK hI hg rfl) (cwV 0 hts (lw_V q724 q726 qs19 q110 q727) rfl rfl rfl (by decide +kernel) ⟨by have h1 := hR.1; have h2 : (rmD 64 a36.toNat b37.toNat).frames = 64 + 1 := rfl; omega, by have h1 := hR.2; have h2 : (rmD 64 a36.toNat b37.toNat).locals = 64 * 64 + 64 := rfl; omega⟩) hK hI hZ hcs f38 rfl hl.1 rfl (Nat.le_of_ble_eq_true rfl) dX3_clause_60 (fun q S41 S42 H locs cells slots h eS42 hg hI hcs => ?_) (fun r40 S41 S42 H locs cells slots h eS42 hI hcs => ?_)
    · replace h := (h S42 eS42).1 q rfl
      rw [← hQ]; exact x_out hout hlocks hK hI ⟨by have h1 := hcs.1; omega, by have h1 := hcs.2; omega⟩ hg h
    replace h := (h S42 eS42).2 rfl
    obtain ⟨q44, e45, h⟩ := h
    rw [e45]
    show W p l e R s m args below meth c _ _ _ _ Q (F0 m _ ls [.ref q44, .ref x1])
    obtain ⟨fs46, hg47, hn48, h⟩ := h
    refine uPX3_94 hF hK hI hg47 hn48 dX3_clause_63 (fun S49 H locs eS49 hI => ?_)
    replace h := h S49 eS49
    have hcs := bOK.to (S' := S49) hcs (by rw [eS49]; exact ⟨rfl, rfl⟩)
    refine lv_goto (tgt := 93) hx hb dX3_clause_66 (by decide) ?_
    rw [← hQ]; refine vz_ret ?_; refine W.widen (k := mc) (n := ms) (by have h1 := hcs.1; omega) (by have h1 := hcs.2; omega) ?_; exact s_vret (K := (K none)) hx hb hr hlocks hI h dX3_clause_93
  · replace h := h.2.2.2.1 c6
    refine nr_tableIn hx hb 203 c6 (by decide) dX3_clause_4 (by decide) rfl (tgt := 69) (by decide) ?_
    refine lv_aload_n hx hb dX3_clause_69 rfl (lv_at hl 0 rfl) ?_
    refine lv_aload_n hx hb dX3_clause_70 rfl (lv_at hl 1 rfl) ?_
    have hr53 := h.1; replace h := h.2
    obtain ⟨a50, b51, f52, h⟩ := h
    refine x_callVv (As := [.ref x1]) (rest := []) hF (t_X3_kind l hlt D dA ad (bset S a50 b51) _ x0 x1 _ a50.toNat b51.toNat (bC_bset _ _ _).symm (bL_bset _ _ _).symm h) (by obtain ⟨fs, hg⟩ := hr53; exact s_recvP hK hI hg rfl) (cwV 1 hts (lw_V q795 q797 qs22 q110 q798) rfl rfl rfl (by decide +kernel) ⟨by have h1 := hR.1; have h2 : (rmD 10 a50.toNat b51.toNat).frames = 10 + 1 := rfl; omega, by have h1 := hR.2; have h2 : (rmD 10 a50.toNat b51.toNat).locals = 64 * 10 + 64 := rfl; omega⟩) hK hI hZ hcs f52 rfl hl.1 rfl (Nat.le_of_ble_eq_true rfl) dX3_clause_71 (fun q S55 S56 H locs cells slots h eS56 hg hI hcs => ?_) (fun S55 S56 H locs cells slots h eS56 hI hcs => ?_)
    · replace h := (h S56 eS56).1 q rfl
      rw [← hQ]; exact x_out hout hlocks hK hI ⟨by have h1 := hcs.1; omega, by have h1 := hcs.2; omega⟩ hg h
    replace h := (h S56 eS56).2 rfl
    refine lv_goto (tgt := 93) hx hb dX3_clause_74 (by decide) ?_
    rw [← hQ]; refine vz_ret ?_; refine W.widen (k := mc) (n := ms) (by have h1 := hcs.1; omega) (by have h1 := hcs.2; omega) ?_; exact s_vret (K := (K none)) hx hb hr hlocks hI h dX3_clause_93
  · replace h := h.2.2.2.2 c6
    refine nr_tableOut hx hb f5 dX3_clause_4 c6 (tgt := 77) (by decide) ?_
    refine lv_aload_n hx hb dX3_clause_77 rfl (lv_at hl 1 rfl) ?_
    obtain ⟨fs58, v61, hg59, hv60, h⟩ := h
    refine gPX3_118 (v := some v61) hF hK hI hg59 hv60 dX3_clause_78 ?_
    show W p l e R s m args below meth c _ _ _ _ Q (F0 m _ ls [.ref v61])
    refine lv_aload_n hx hb dX3_clause_81 rfl (lv_at hl 0 rfl) ?_
    refine lv_aload_n hx hb dX3_clause_82 rfl (lv_at hl 1 rfl) ?_
    obtain ⟨fs62, v65, hg63, hv64, h⟩ := h
    refine gPX3_97 hF hK hI hg63 hv64 dX3_clause_83 (fun f66 => ?_)
    replace h := h f66
    have hr70 := h.1; replace h := h.2
    obtain ⟨a67, b68, f69, h⟩ := h
    refine x_callVq (As := [iV v65]) (rest := [.ref v61]) hF (t_X3_doing l hlt D dA ad (bset S a67 b68) _ x0 v65 _ f66 a67.toNat b68.toNat (bC_bset _ _ _).symm (bL_bset _ _ _).symm h) (by obtain ⟨fs, hg⟩ := hr70; exact s_recvP hK hI hg rfl) (cwV 1 hts (lw_V q799 q801 qs23 q110 q802) rfl rfl rfl (by decide +kernel) ⟨by have h1 := hR.1; have h2 : (rmD 10 a67.toNat b68.toNat).frames = 10 + 1 := rfl; omega, by have h1 := hR.2; have h2 : (rmD 10 a67.toNat b68.toNat).locals = 64 * 10 + 64 := rfl; omega⟩) hK hI hZ hcs f69 rfl hl.1 rfl (Nat.le_of_ble_eq_true rfl) dX3_clause_86 (fun q S72 S73 H locs cells slots h eS73 hg hI hcs => ?_) (fun r71 S72 S73 H locs cells slots h eS73 hI hcs => ?_)
    · replace h := (h S73 eS73).1 q rfl
      rw [← hQ]; exact x_out hout hlocks hK hI ⟨by have h1 := hcs.1; omega, by have h1 := hcs.2; omega⟩ hg h
    replace h := (h S73 eS73).2 rfl
    obtain ⟨q75, e76, h⟩ := h
    rw [e76]
    show W p l e R s m args below meth c _ _ _ _ Q (F0 m _ ls [.ref q75, .ref v61])
    have hr80 := h.1; replace h := h.2
    obtain ⟨a77, b78, f79, h⟩ := h
    refine p_callVz (As := [.ref q75]) (rest := []) hF (t_J2_add l hlt D dA ad (bset S73 a77 b78) _ v61 q75 _ a77.toNat b78.toNat (bC_bset _ _ _).symm (bL_bset _ _ _).symm h) (by obtain ⟨fs, hg⟩ := hr80; exact s_recvP hK hI hg rfl) (cwV 1 hts (lw_V q764 q658 q659 q114 q660) rfl rfl rfl (by decide +kernel) ⟨by have h1 := hR.1; have h2 : (rmD 6 a77.toNat b78.toNat).frames = 6 + 1 := rfl; omega, by have h1 := hR.2; have h2 : (rmD 6 a77.toNat b78.toNat).locals = 64 * 6 + 64 := rfl; omega⟩) hK hI hZ hcs f79 rfl hl.1 rfl (Nat.le_of_ble_eq_true rfl) dX3_clause_89 (fun r81 S82 S83 H locs cells slots fr81 h eS83 hI hcs => ?_)
    replace h := h fr81
    replace h := h S83 eS83
    have gr81 : InR r81 := kdP_R (k := 2) (by decide) fr81
    refine lv_pop hx hb dX3_clause_92 rfl ?_
    rw [← hQ]; refine vz_ret ?_; refine W.widen (k := mc) (n := ms) (by have h1 := hcs.1; omega) (by have h1 := hcs.2; omega) ?_; exact s_vret (K := (K none)) hx hb hr hlocks hI h dX3_clause_93
theorem uPX3_97 {p : Program} {l : Launch} {e : Env} {R : Room} {s : State} {m : MethodId} {args : Array Value} {below : List Frame} {meth : Method} {c : Code} {H : Heap} {locs : List Loc} {Q : State → Prop} {cc : ByteArray} {nL pc : Nat} {ls : Array Slot} {rest : List Value} {cells slots : Nat} {D : va_G} {dA : Nat → ClassId} {ad : Nat → Nat} {A : Nat → Prop} {H0 : Heap} {S : St} {q : Nat} {fs : List PV} {v : Int} (hF : CallFix p m c cc nL s args lw_all RX3) (hK : gK D dA s) (hI : sI D dA wX ad A H0 S H locs) (hg : gI S q = some (.inr (.inl (4, fs)))) (hlen : fs.length = 6) (hv : InR v) (hdg : decode cc pc = .ok (.putfield 97, 3)) (kk : ∀ (S1 : St) (H1 : Heap) (locs1 : List Loc), S1 = gset S q (.inr (.inl (4, fs.set 5 (.inl v)))) → sI D dA wX ad A H0 S1 H1 locs1 → W p l e R s m args below meth c H1 locs1 cells slots Q (F0 m (pc + 3) ls (rest))) : W p l e R s m args below meth c H locs cells slots Q (F0 m (pc) ls (iV v :: .ref q :: rest)) := s_pputN (v := .inl v) hF.1 hF.2.1 tyX4 tyX4_ok nmX4 hF.2.2.2.2 hF.2.2.2.1 hK hI (by decide) hg hlen rfl in_X4 5 (by decide) (nFl_19 hK.2) rfl hv rfl rfl rfl hdg kk
theorem gPX3_94 {p : Program} {l : Launch} {e : Env} {R : Room} {s : State} {m : MethodId} {args : Array Value} {below : List Frame} {meth : Method} {c : Code} {H : Heap} {locs : List Loc} {Q : State → Prop} {cc : ByteArray} {nL pc : Nat} {ls : Array Slot} {rest : List Value} {cells slots : Nat} {w : Wd} {D : va_G} {dA : Nat → ClassId} {ad : Nat → Nat} {A : Nat → Prop} {H0 : Heap} {S : St} {q : Nat} {fs : List PV} {v : Option Nat} (hF : CallFix p m c cc nL s args lw_all RX3) (hK : gK D dA s) (hI : sI D dA w ad A H0 S H locs) (hg : gI S q = some (.inr (.inl (4, fs)))) (hv : fs[2]? = some (.inr (.inr v))) (hdg : decode cc pc = .ok (.getfield 94, 3)) (kk : W p l e R s m args below meth c H locs cells slots Q (F0 m (pc + 3) ls (va_rf v :: rest))) : W p l e R s m args below meth c H locs cells slots Q (F0 m (pc) ls (.ref q :: rest)) := s_pgrN hF.1 hF.2.1 hF.2.2.2.2 hF.2.2.2.1 hK hI hg rfl in_X4 2 (by decide) (nFl_16 hK.2) rfl hv hdg kk
theorem gPX3_90 {p : Program} {l : Launch} {e : Env} {R : Room} {s : State} {m : MethodId} {args : Array Value} {below : List Frame} {meth : Method} {c : Code} {H : Heap} {locs : List Loc} {Q : State → Prop} {cc : ByteArray} {nL pc : Nat} {ls : Array Slot} {rest : List Value} {cells slots : Nat} {w : Wd} {D : va_G} {dA : Nat → ClassId} {ad : Nat → Nat} {A : Nat → Prop} {H0 : Heap} {S : St} {q : Nat} {fs : List PV} {v : Option Nat} (hF : CallFix p m c cc nL s args lw_all RX3) (hK : gK D dA s) (hI : sI D dA w ad A H0 S H locs) (hg : gI S q = some (.inr (.inl (4, fs)))) (hv : fs[1]? = some (.inr (.inr v))) (hdg : decode cc pc = .ok (.getfield 90, 3)) (kk : W p l e R s m args below meth c H locs cells slots Q (F0 m (pc + 3) ls (va_rf v :: rest))) : W p l e R s m args below meth c H locs cells slots Q (F0 m (pc) ls (.ref q :: rest)) := s_pgrN hF.1 hF.2.1 hF.2.2.2.2 hF.2.2.2.1 hK hI hg rfl in_X4 1 (by decide) (nFl_15 hK.2) rfl hv hdg kk
theorem uPX3_83 {p : Program} {l : Launch} {e : Env} {R : Room} {s : State} {m : MethodId} {args : Array Value} {below : List Frame} {meth : Method} {c : Code} {H : Heap} {locs : List Loc} {Q : State → Prop} {cc : ByteArray} {nL pc : Nat} {ls : Array Slot} {rest : List Value} {cells slots : Nat} {D : va_G} {dA : Nat → ClassId} {ad : Nat → Nat} {A : Nat → Prop} {H0 : Heap} {S : St} {q : Nat} {fs : List PV} {v : Int} (hF : CallFix p m c cc nL s args lw_all RX3) (hK : gK D dA s) (hI : sI D dA wX ad A H0 S H locs) (hg : gI S q = some (.inr (.inl (3, fs)))) (hlen : fs.length = 8) (hv : InR v) (hdg : decode cc pc = .ok (.putfield 83, 3)) (kk : ∀ (S1 : St) (H1 : Heap) (locs1 : List Loc), S1 = gset S q (.inr (.inl (3, fs.set 7 (.inl v)))) → sI D dA wX ad A H0 S1 H1 locs1 → W p l e R s m args below meth c H1 locs1 cells slots Q (F0 m (pc + 3) ls (rest))) : W p l e R s m args below meth c H locs cells slots Q (F0 m (pc) ls (iV v :: .ref q :: rest)) := s_pput (v := .inl v) hF.1 hF.2.1 tyX3 tyX3_ok nmX3 hF.2.2.2.2 hF.2.2.2.1 hK hI (by decide) hg hlen rfl in_X3 7 (by decide) q337 rfl hv rfl rfl rfl hdg kk
theorem gPX3_86 {p : Program} {l : Launch} {e : Env} {R : Room} {s : State} {m : MethodId} {args : Array Value} {below : List Frame} {meth : Method} {c : Code} {H : Heap} {locs : List Loc} {Q : State → Prop} {cc : ByteArray} {nL pc : Nat} {ls : Array Slot} {rest : List Value} {cells slots : Nat} {w : Wd} {D : va_G} {dA : Nat → ClassId} {ad : Nat → Nat} {A : Nat → Prop} {H0 : Heap} {S : St} {q : Nat} {fs : List PV} {v : Option Nat} (hF : CallFix p m c cc nL s args lw_all RX3) (hK : gK D dA s) (hI : sI D dA w ad A H0 S H locs) (hg : gI S q = some (.inr (.inl (4, fs)))) (hv : fs[0]? = some (.inr (.inr v))) (hdg : decode cc pc = .ok (.getfield 86, 3)) (kk : W p l e R s m args below meth c H locs cells slots Q (F0 m (pc + 3) ls (va_rf v :: rest))) : W p l e R s m args below meth c H locs cells slots Q (F0 m (pc) ls (.ref q :: rest)) := s_pgrN hF.1 hF.2.1 hF.2.2.2.2 hF.2.2.2.1 hK hI hg rfl in_X4 0 (by decide) (nFl_14 hK.2) rfl hv hdg kk
set_option maxHeartbeats 4000000 in
theorem t_X3_read (l : Launch) (hlt : l.stackTraces = false) (D : va_G) (dA : Nat → ClassId) (ad : Nat → Nat) (S : St) (sz : Nat) (x0 : Nat) (K : Option Nat → Option Nat → St → Prop) (mc ms : Nat) (hmc : mc = bC S) (hms : ms = bL S) (h : w_X3_read x0 S K) : vz_Met l yX3_read (ws_ yX3_read cX3_read 2 (Option.some (Jvm.ClassFile.FieldType.object "NineGraves$Text"))) (rmD 66 mc ms) (va_Pc [.ref x0] (tPre D dA ad S sz)) (va_Qq (fun r S' => K none r S') (sPost D dA wX ad (wA wX ad S sz)) (wA wX ad S sz)) (vz_X (fun _ : St => True) (xB D dA ad (wA wX ad S sz) (fun q S' => K (some q) none S')) (wA wX ad S sz)) mc ms (wA wX ad S sz) := by
  refine vz_ofW (cc := cX3_read) (maxL := 2) (ret := (Option.some (Jvm.ClassFile.FieldType.object "NineGraves$Text"))) (by decide) rfl ?_
  intro p e s m args below meth c s₁ B hml hout hv
  obtain ⟨rfl, ⟨hsz, hK, hC⟩, hZ⟩ := hv
  have hx := B.exec
  have hb := B.bytes
  have hr := B.returns
  have hlocks := B.notSynchronized
  have hts := atoms_spec (ws := (ws_ yX3_read cX3_read 2 (Option.some (Jvm.ClassFile.FieldType.object "NineGraves$Text")))) B.pre
  have hts : ∀ w ∈ lw_all, w.before _ s = true := fun w h => hts w (List.mem_cons_of_mem _ h)
  have hown : s.vm.findClass RX3 = some m.cls := findClass_of_methodNamed B.named
  clear B
  subst hsz
  have hI : sI D dA wX ad (wA wX ad S s.heap.size) s.heap S s.heap [] := hC.start
  clear hC
  generalize wA wX ad S s.heap.size = A at hI hZ ⊢
  have hl := lv_entry ([.ref x0] : List Value) (n := 2) (Nat.le_of_ble_eq_true rfl)
  rw [lg_entry_eq]
  generalize (lg_sl ([.ref x0] : List Value) ++ List.replicate (2 - (lg_sl ([.ref x0] : List Value)).length) Slot.unset).toArray = ls at hl ⊢
  have hl : lv_has ls 2 [(0, .ref x0)] := hl
  have hF : CallFix p m c cX3_read 2 s _ lw_all RX3 := ⟨hx, hb, hml, hown, hts⟩
  have hR : (headSpec (ws_ yX3_read cX3_read 2 (Option.some (Jvm.ClassFile.FieldType.object "NineGraves$Text"))) (rmD 66 mc ms)).room.frames = 66 + 1 ∧ (headSpec (ws_ yX3_read cX3_read 2 (Option.some (Jvm.ClassFile.FieldType.object "NineGraves$Text"))) (rmD 66 mc ms)).room.locals = 64 * 66 + 64 := ⟨rfl, rfl⟩
  have hRc : (headSpec (ws_ yX3_read cX3_read 2 (Option.some (Jvm.ClassFile.FieldType.object "NineGraves$Text"))) (rmD 66 mc ms)).room.cells = mc ∧ (headSpec (ws_ yX3_read cX3_read 2 (Option.some (Jvm.ClassFile.FieldType.object "NineGraves$Text"))) (rmD 66 mc ms)).room.slots = ms := ⟨rfl, rfl⟩
  generalize (headSpec (ws_ yX3_read cX3_read 2 (Option.some (Jvm.ClassFile.FieldType.object "NineGraves$Text"))) (rmD 66 mc ms)).room = R at hR hRc ⊢
  obtain ⟨hRc, hRs⟩ := hRc
  have hcs : bOK R S 0 0 := ⟨by omega, by omega⟩
  clear hmc hms
  have hcs0 := hcs
  generalize ([.ref x0] : List Value).toArray = args at hts hF ⊢
  generalize hQ : vz_MQ below _ _ _ _ _ _ _ = Q
  have L12 : ∀ (x0 : Nat) (x1 : Nat), ∀ (n12 : Nat) (S : St) (H : Heap) (locs : List Loc) (ls : Array Slot) (cells slots : Nat), (sI D dA wX ad A s.heap S H locs ∧ bOK R S cells slots) → lv_has ls 2 [(0, .ref x0), (1, .ref x1)] → l_X3_read_12 x0 x1 K n12 S → W p l e R s m args below meth c H locs cells slots Q (F0 m 12 ls []) := by
    intro x0 x1 n12
    induction n12 with
    | zero => intro S H locs ls cells slots hI hl h; exact False.elim h
    | succ n12 ih12 =>
      intro S H locs ls cells slots hI hl h
      obtain ⟨hI, hcs⟩ := hI
      have J113 : ∀ (S : St) (H : Heap) (locs : List Loc) (ls : Array Slot) (cells slots : Nat), (sI D dA wX ad A s.heap S H locs ∧ bOK R S cells slots) → lv_has ls 2 [(0, .ref x0), (1, .ref x1)] → j_X3_read_113 x0 x1 S K (l_X3_read_12 x0 x1 K n12) → W p l e R s m args below meth c H locs cells slots Q (F0 m 113 ls []) := by
        intro S H locs ls cells slots hI hl h
        obtain ⟨hI, hcs⟩ := hI
        unfold j_X3_read_113 at h
        refine lv_aload_n hx hb dX3_read_113 rfl (lv_at hl 1 rfl) ?_
        obtain ⟨fs1, v4, hg2, hv3, h⟩ := h
        refine gPX3_97 hF hK hI hg2 hv3 dX3_read_114 (fun f5 => ?_)
        replace h := h f5
        refine nr_bipush hx hb dX3_read_117 (by decide) ?_
        refine nr_icmp_ne hx hb f5 (by decide) dX3_read_119 (tgt := 129) (by decide) (fun c6 => ?_) (fun c6 => ?_)
        · replace h := h.1 c6
          refine lv_aload_n hx hb dX3_read_129 rfl (lv_at hl 0 rfl) ?_
          have hr10 := h.1; replace h := h.2
          obtain ⟨a7, b8, f9, h⟩ := h
          refine p_callVv (As := []) (rest := []) hF (t_X3_next l hlt D dA ad (bset S a7 b8) _ x0 _ a7.toNat b8.toNat (bC_bset _ _ _).symm (bL_bset _ _ _).symm h) (by obtain ⟨fs, hg⟩ := hr10; exact s_recvP hK hI hg rfl) (cwV 0 hts (lw_V q417 q419 qs5 q110 q420) rfl rfl rfl (by decide +kernel) ⟨by have h1 := hR.1; have h2 : (rmD 7 a7.toNat b8.toNat).frames = 7 + 1 := rfl; omega, by have h1 := hR.2; have h2 : (rmD 7 a7.toNat b8.toNat).locals = 64 * 7 + 64 := rfl; omega⟩) hK hI hZ hcs f9 rfl hl.1 rfl (Nat.le_of_ble_eq_true rfl) dX3_read_130 (fun S12 S13 H locs cells slots h eS13 hI hcs => ?_)
          replace h := h S13 eS13
          refine lv_aload_n hx hb dX3_read_133 rfl (lv_at hl 0 rfl) ?_
          refine lv_aload_n hx hb dX3_read_134 rfl (lv_at hl 1 rfl) ?_
          have hr18 := h.1; replace h := h.2
          obtain ⟨a15, b16, f17, h⟩ := h
          refine x_callVv (As := [.ref x1]) (rest := []) hF (t_X3_clause l hlt D dA ad (bset S13 a15 b16) _ x0 x1 _ a15.toNat b16.toNat (bC_bset _ _ _).symm (bL_bset _ _ _).symm h) (by obtain ⟨fs, hg⟩ := hr18; exact s_recvP hK hI hg rfl) (cwV 1 hts (lw_V q554 q556 qs9 q110 q557) rfl rfl rfl (by decide +kernel) ⟨by have h1 := hR.1; have h2 : (rmD 65 a15.toNat b16.toNat).frames = 65 + 1 := rfl; omega, by have h1 := hR.2; have h2 : (rmD 65 a15.toNat b16.toNat).locals = 64 * 65 + 64 := rfl; omega⟩) hK hI hZ hcs f17 rfl hl.1 rfl (Nat.le_of_ble_eq_true rfl) dX3_read_135 (fun q S20 S21 H locs cells slots h eS21 hg hI hcs => ?_) (fun S20 S21 H locs cells slots h eS21 hI hcs => ?_)
          · replace h := (h S21 eS21).1 q rfl
            rw [← hQ]; exact x_out hout hlocks hK hI ⟨by have h1 := hcs.1; omega, by have h1 := hcs.2; omega⟩ hg h
          replace h := (h S21 eS21).2 rfl
          refine lv_aload_n hx hb dX3_read_138 rfl (lv_at hl 0 rfl) ?_
          refine nr_bipush hx hb dX3_read_139 (by decide) ?_
          have hr26 := h.1; replace h := h.2
          obtain ⟨a23, b24, f25, h⟩ := h
          refine x_callVv (As := [iV 59]) (rest := []) hF (t_X3_want l hlt D dA ad (bset S21 a23 b24) _ x0 59 _ (by decide) a23.toNat b24.toNat (bC_bset _ _ _).symm (bL_bset _ _ _).symm h) (by obtain ⟨fs, hg⟩ := hr26; exact s_recvP hK hI hg rfl) (cwV 1 hts (lw_V q603 q605 qs15 q110 q606) rfl rfl rfl (by decide +kernel) ⟨by have h1 := hR.1; have h2 : (rmD 9 a23.toNat b24.toNat).frames = 9 + 1 := rfl; omega, by have h1 := hR.2; have h2 : (rmD 9 a23.toNat b24.toNat).locals = 64 * 9 + 64 := rfl; omega⟩) hK hI hZ hcs f25 rfl hl.1 rfl (Nat.le_of_ble_eq_true rfl) dX3_read_141 (fun q S28 S29 H locs cells slots h eS29 hg hI hcs => ?_) (fun S28 S29 H locs cells slots h eS29 hI hcs => ?_)
          · replace h := (h S29 eS29).1 q rfl
            rw [← hQ]; exact x_out hout hlocks hK hI ⟨by have h1 := hcs.1; omega, by have h1 := hcs.2; omega⟩ hg h
          replace h := (h S29 eS29).2 rfl
          refine lv_aload_n hx hb dX3_read_144 rfl (lv_at hl 1 rfl) ?_
          refine lv_dup hx hb dX3_read_145 rfl ?_
          obtain ⟨fs31, v34, hg32, hv33, h⟩ := h
          refine gPX3_97 hF hK hI hg32 hv33 dX3_read_146 (fun f35 => ?_)
          replace h := h f35
          refine nr_iconst hx hb dX3_read_149 ?_
          have f36 := h.1; replace h := h.2
          refine nr_iadd hx hb dX3_read_150 ?_
          obtain ⟨fs37, hg38, hn39, h⟩ := h
          refine uPX3_97 hF hK hI hg38 hn39 f36 dX3_read_151 (fun S40 H locs eS40 hI => ?_)
          replace h := h S40 eS40
          have hcs := bOK.to (S' := S40) hcs (by rw [eS40]; exact ⟨rfl, rfl⟩)
          refine lv_goto (tgt := 12) hx hb dX3_read_154 (by decide) ?_
          exact ih12 S40 _ _ _ _ _ ⟨hI, hcs⟩ (lv_sub hl [0, 1] rfl) h
        · replace h := h.2 c6
          refine lv_aload_n hx hb dX3_read_122 rfl (lv_at hl 0 rfl) ?_
          refine nr_bipush hx hb dX3_read_123 (by decide) ?_
          have hr44 := h.1; replace h := h.2
          obtain ⟨a41, b42, f43, h⟩ := h
          refine p_callVq (As := [iV 6]) (rest := []) hF (t_X3_wrong l hlt D dA ad (bset S a41 b42) _ x0 6 _ (by decide) a41.toNat b42.toNat (bC_bset _ _ _).symm (bL_bset _ _ _).symm h) (by obtain ⟨fs, hg⟩ := hr44; exact s_recvP hK hI hg rfl) (cwV 1 hts (lw_V q486 q488 qs7 q110 q489) rfl rfl rfl (by decide +kernel) ⟨by have h1 := hR.1; have h2 : (rmD 8 a41.toNat b42.toNat).frames = 8 + 1 := rfl; omega, by have h1 := hR.2; have h2 : (rmD 8 a41.toNat b42.toNat).locals = 64 * 8 + 64 := rfl; omega⟩) hK hI hZ hcs f43 rfl hl.1 rfl (Nat.le_of_ble_eq_true rfl) dX3_read_125 (fun r45 S46 S47 H locs cells slots h eS47 hI hcs => ?_)
          replace h := h S47 eS47
          obtain ⟨q49, e50, h⟩ := h
          rw [e50]
          show W p l e R s m args below meth c _ _ _ _ Q (F0 m _ ls [.ref q49])
          refine vz_athrow hx hb dX3_read_128 ?_
          rw [← hQ]; exact x_out hout hlocks hK hI ⟨by have h1 := hcs.1; omega, by have h1 := hcs.2; omega⟩ h.1 h.2
      have J90 : ∀ (S : St) (H : Heap) (locs : List Loc) (ls : Array Slot) (cells slots : Nat), (sI D dA wX ad A s.heap S H locs ∧ bOK R S cells slots) → lv_has ls 2 [(0, .ref x0), (1, .ref x1)] → j_X3_read_90 x0 x1 S K (l_X3_read_12 x0 x1 K n12) → W p l e R s m args below meth c H locs cells slots Q (F0 m 90 ls []) := by
        intro S H locs ls cells slots hI hl h
        obtain ⟨hI, hcs⟩ := hI
        unfold j_X3_read_90 at h
        refine lv_aload_n hx hb dX3_read_90 rfl (lv_at hl 0 rfl) ?_
        obtain ⟨fs52, v55, hg53, hv54, h⟩ := h
        refine gPX3_83 hF hK hI hg53 hv54 dX3_read_91 (fun f56 => ?_)
        replace h := h f56
        refine nr_sipush hx hb dX3_read_94 (by decide) ?_
        refine nr_icmp_ne hx hb f56 (by decide) dX3_read_97 (tgt := 113) (by decide) (fun c57 => ?_) (fun c57 => ?_)
        · replace h := h.1 c57
          exact J113 S _ _ _ _ _ ⟨hI, hcs⟩ (lv_sub hl [0, 1] rfl) h
        · replace h := h.2 c57
          refine lv_aload_n hx hb dX3_read_100 rfl (lv_at hl 1 rfl) ?_
          obtain ⟨fs58, v61, hg59, hv60, h⟩ := h
          refine gPX3_94 hF hK hI hg59 hv60 dX3_read_101 ?_
          refine nr_ifnullO hx hb dX3_read_104 (tgt := 113) (by decide) (fun c62 => ?_) (fun q63 c62 => ?_)
          · replace h := h.1 c62
            exact J113 S _ _ _ _ _ ⟨hI, hcs⟩ (lv_sub hl [0, 1] rfl) h
          · replace h := h.2 q63 c62
            subst c62
            refine lv_aload_n hx hb dX3_read_107 rfl (lv_at hl 0 rfl) ?_
            refine nr_iconst hx hb dX3_read_108 ?_
            have hr67 := h.1; replace h := h.2
            obtain ⟨a64, b65, f66, h⟩ := h
            refine p_callVq (As := [iV 4]) (rest := []) hF (t_X3_wrong l hlt D dA ad (bset S a64 b65) _ x0 4 _ (by decide) a64.toNat b65.toNat (bC_bset _ _ _).symm (bL_bset _ _ _).symm h) (by obtain ⟨fs, hg⟩ := hr67; exact s_recvP hK hI hg rfl) (cwV 1 hts (lw_V q486 q488 qs7 q110 q489) rfl rfl rfl (by decide +kernel) ⟨by have h1 := hR.1; have h2 : (rmD 8 a64.toNat b65.toNat).frames = 8 + 1 := rfl; omega, by have h1 := hR.2; have h2 : (rmD 8 a64.toNat b65.toNat).locals = 64 * 8 + 64 := rfl; omega⟩) hK hI hZ hcs f66 rfl hl.1 rfl (Nat.le_of_ble_eq_true rfl) dX3_read_109 (fun r68 S69 S70 H locs cells slots h eS70 hI hcs => ?_)
            replace h := h S70 eS70
            obtain ⟨q72, e73, h⟩ := h
            rw [e73]
            show W p l e R s m args below meth c _ _ _ _ Q (F0 m _ ls [.ref q72])
            refine vz_athrow hx hb dX3_read_112 ?_
            rw [← hQ]; exact x_out hout hlocks hK hI ⟨by have h1 := hcs.1; omega, by have h1 := hcs.2; omega⟩ h.1 h.2
      have J73 : ∀ (S : St) (H : Heap) (locs : List Loc) (ls : Array Slot) (cells slots : Nat), (sI D dA wX ad A s.heap S H locs ∧ bOK R S cells slots) → lv_has ls 2 [(0, .ref x0), (1, .ref x1)] → j_X3_read_73 x0 x1 S K (l_X3_read_12 x0 x1 K n12) → W p l e R s m args below meth c H locs cells slots Q (F0 m 73 ls []) := by
        intro S H locs ls cells slots hI hl h
        obtain ⟨hI, hcs⟩ := hI
        unfold j_X3_read_73 at h
        refine lv_aload_n hx hb dX3_read_73 rfl (lv_at hl 0 rfl) ?_
        obtain ⟨fs75, v78, hg76, hv77, h⟩ := h
        refine gPX3_83 hF hK hI hg76 hv77 dX3_read_74 (fun f79 => ?_)
        replace h := h f79
        refine nr_sipush hx hb dX3_read_77 (by decide) ?_
        refine nr_icmp_ne hx hb f79 (by decide) dX3_read_80 (tgt := 90) (by decide) (fun c80 => ?_) (fun c80 => ?_)
        · replace h := h.1 c80
          exact J90 S _ _ _ _ _ ⟨hI, hcs⟩ (lv_sub hl [0, 1] rfl) h
        · replace h := h.2 c80
          refine lv_aload_n hx hb dX3_read_83 rfl (lv_at hl 1 rfl) ?_
          obtain ⟨fs81, v84, hg82, hv83, h⟩ := h
          refine gPX3_90 hF hK hI hg82 hv83 dX3_read_84 ?_
          refine nr_ifnonnullO hx hb dX3_read_87 (tgt := 107) (by decide) (fun q86 c85 => ?_) (fun c85 => ?_)
          · replace h := h.2 q86 c85
            subst c85
            refine lv_aload_n hx hb dX3_read_107 rfl (lv_at hl 0 rfl) ?_
            refine nr_iconst hx hb dX3_read_108 ?_
            have hr90 := h.1; replace h := h.2
            obtain ⟨a87, b88, f89, h⟩ := h
            refine p_callVq (As := [iV 4]) (rest := []) hF (t_X3_wrong l hlt D dA ad (bset S a87 b88) _ x0 4 _ (by decide) a87.toNat b88.toNat (bC_bset _ _ _).symm (bL_bset _ _ _).symm h) (by obtain ⟨fs, hg⟩ := hr90; exact s_recvP hK hI hg rfl) (cwV 1 hts (lw_V q486 q488 qs7 q110 q489) rfl rfl rfl (by decide +kernel) ⟨by have h1 := hR.1; have h2 : (rmD 8 a87.toNat b88.toNat).frames = 8 + 1 := rfl; omega, by have h1 := hR.2; have h2 : (rmD 8 a87.toNat b88.toNat).locals = 64 * 8 + 64 := rfl; omega⟩) hK hI hZ hcs f89 rfl hl.1 rfl (Nat.le_of_ble_eq_true rfl) dX3_read_109 (fun r91 S92 S93 H locs cells slots h eS93 hI hcs => ?_)
            replace h := h S93 eS93
            obtain ⟨q95, e96, h⟩ := h
            rw [e96]
            show W p l e R s m args below meth c _ _ _ _ Q (F0 m _ ls [.ref q95])
            refine vz_athrow hx hb dX3_read_112 ?_
            rw [← hQ]; exact x_out hout hlocks hK hI ⟨by have h1 := hcs.1; omega, by have h1 := hcs.2; omega⟩ h.1 h.2
          · replace h := h.1 c85
            exact J90 S _ _ _ _ _ ⟨hI, hcs⟩ (lv_sub hl [0, 1] rfl) h
      unfold l_X3_read_12 at h
      refine lv_aload_n hx hb dX3_read_12 rfl (lv_at hl 0 rfl) ?_
      obtain ⟨fs98, v101, hg99, hv100, h⟩ := h
      refine gPX3_25 hF hK hI hg99 hv100 dX3_read_13 (fun f102 => ?_)
      replace h := h f102
      refine nr_sipush hx hb dX3_read_16 (by decide) ?_
      refine nr_icmp_eq hx hb f102 (by decide) dX3_read_19 (tgt := 157) (by decide) (fun c103 => ?_) (fun c103 => ?_)
      · replace h := h.1 c103
        refine lv_aload_n hx hb dX3_read_157 rfl (lv_at hl 1 rfl) ?_
        rw [← hQ]; refine vz_ret ?_; refine W.widen (k := mc) (n := ms) (by have h1 := hcs.1; omega) (by have h1 := hcs.2; omega) ?_; exact s_qret (v := (some x1)) (K := (K none)) hx hb hr (Or.inl ⟨_, rfl⟩) hlocks hI h dX3_read_158
      · replace h := h.2 c103
        refine lv_aload_n hx hb dX3_read_22 rfl (lv_at hl 0 rfl) ?_
        obtain ⟨fs104, v107, hg105, hv106, h⟩ := h
        refine gPX3_25 hF hK hI hg105 hv106 dX3_read_23 (fun f108 => ?_)
        replace h := h f108
        refine nr_sipush hx hb dX3_read_26 (by decide) ?_
        refine nr_icmp_lt hx hb f108 (by decide) dX3_read_29 (tgt := 42) (by decide) (fun c109 => ?_) (fun c109 => ?_)
        · replace h := h.1 c109
          refine lv_aload_n hx hb dX3_read_42 rfl (lv_at hl 0 rfl) ?_
          refine nr_iconst hx hb dX3_read_43 ?_
          have hr113 := h.1; replace h := h.2
          obtain ⟨a110, b111, f112, h⟩ := h
          refine p_callVq (As := [iV 1]) (rest := []) hF (t_X3_wrong l hlt D dA ad (bset S a110 b111) _ x0 1 _ (by decide) a110.toNat b111.toNat (bC_bset _ _ _).symm (bL_bset _ _ _).symm h) (by obtain ⟨fs, hg⟩ := hr113; exact s_recvP hK hI hg rfl) (cwV 1 hts (lw_V q486 q488 qs7 q110 q489) rfl rfl rfl (by decide +kernel) ⟨by have h1 := hR.1; have h2 : (rmD 8 a110.toNat b111.toNat).frames = 8 + 1 := rfl; omega, by have h1 := hR.2; have h2 : (rmD 8 a110.toNat b111.toNat).locals = 64 * 8 + 64 := rfl; omega⟩) hK hI hZ hcs f112 rfl hl.1 rfl (Nat.le_of_ble_eq_true rfl) dX3_read_44 (fun r114 S115 S116 H locs cells slots h eS116 hI hcs => ?_)
          replace h := h S116 eS116
          obtain ⟨q118, e119, h⟩ := h
          rw [e119]
          show W p l e R s m args below meth c _ _ _ _ Q (F0 m _ ls [.ref q118])
          refine vz_athrow hx hb dX3_read_47 ?_
          rw [← hQ]; exact x_out hout hlocks hK hI ⟨by have h1 := hcs.1; omega, by have h1 := hcs.2; omega⟩ h.1 h.2
        · replace h := h.2 c109
          refine lv_aload_n hx hb dX3_read_32 rfl (lv_at hl 0 rfl) ?_
          obtain ⟨fs121, v124, hg122, hv123, h⟩ := h
          refine gPX3_25 hF hK hI hg122 hv123 dX3_read_33 (fun f125 => ?_)
          replace h := h f125
          refine nr_sipush hx hb dX3_read_36 (by decide) ?_
          refine nr_icmp_le hx hb f125 (by decide) dX3_read_39 (tgt := 48) (by decide) (fun c126 => ?_) (fun c126 => ?_)
          · replace h := h.1 c126
            refine lv_aload_n hx hb dX3_read_48 rfl (lv_at hl 0 rfl) ?_
            refine lv_aload_n hx hb dX3_read_49 rfl (lv_at hl 0 rfl) ?_
            obtain ⟨fs127, v130, hg128, hv129, h⟩ := h
            refine gPX3_25 hF hK hI hg128 hv129 dX3_read_50 (fun f131 => ?_)
            replace h := h f131
            obtain ⟨fs132, hg133, hn134, h⟩ := h
            refine uPX3_83 hF hK hI hg133 hn134 f131 dX3_read_53 (fun S135 H locs eS135 hI => ?_)
            replace h := h S135 eS135
            have hcs := bOK.to (S' := S135) hcs (by rw [eS135]; exact ⟨rfl, rfl⟩)
            refine lv_aload_n hx hb dX3_read_56 rfl (lv_at hl 0 rfl) ?_
            obtain ⟨fs136, v139, hg137, hv138, h⟩ := h
            refine gPX3_83 hF hK hI hg137 hv138 dX3_read_57 (fun f140 => ?_)
            replace h := h f140
            refine nr_sipush hx hb dX3_read_60 (by decide) ?_
            refine nr_icmp_ne hx hb f140 (by decide) dX3_read_63 (tgt := 73) (by decide) (fun c141 => ?_) (fun c141 => ?_)
            · replace h := h.1 c141
              exact J73 S135 _ _ _ _ _ ⟨hI, hcs⟩ (lv_sub hl [0, 1] rfl) h
            · replace h := h.2 c141
              refine lv_aload_n hx hb dX3_read_66 rfl (lv_at hl 1 rfl) ?_
              obtain ⟨fs142, v145, hg143, hv144, h⟩ := h
              refine gPX3_86 hF hK hI hg143 hv144 dX3_read_67 ?_
              refine nr_ifnonnullO hx hb dX3_read_70 (tgt := 107) (by decide) (fun q147 c146 => ?_) (fun c146 => ?_)
              · replace h := h.2 q147 c146
                subst c146
                refine lv_aload_n hx hb dX3_read_107 rfl (lv_at hl 0 rfl) ?_
                refine nr_iconst hx hb dX3_read_108 ?_
                have hr151 := h.1; replace h := h.2
                obtain ⟨a148, b149, f150, h⟩ := h
                refine p_callVq (As := [iV 4]) (rest := []) hF (t_X3_wrong l hlt D dA ad (bset S135 a148 b149) _ x0 4 _ (by decide) a148.toNat b149.toNat (bC_bset _ _ _).symm (bL_bset _ _ _).symm h) (by obtain ⟨fs, hg⟩ := hr151; exact s_recvP hK hI hg rfl) (cwV 1 hts (lw_V q486 q488 qs7 q110 q489) rfl rfl rfl (by decide +kernel) ⟨by have h1 := hR.1; have h2 : (rmD 8 a148.toNat b149.toNat).frames = 8 + 1 := rfl; omega, by have h1 := hR.2; have h2 : (rmD 8 a148.toNat b149.toNat).locals = 64 * 8 + 64 := rfl; omega⟩) hK hI hZ hcs f150 rfl hl.1 rfl (Nat.le_of_ble_eq_true rfl) dX3_read_109 (fun r152 S153 S154 H locs cells slots h eS154 hI hcs => ?_)
                replace h := h S154 eS154
                obtain ⟨q156, e157, h⟩ := h
                rw [e157]
                show W p l e R s m args below meth c _ _ _ _ Q (F0 m _ ls [.ref q156])
                refine vz_athrow hx hb dX3_read_112 ?_
                rw [← hQ]; exact x_out hout hlocks hK hI ⟨by have h1 := hcs.1; omega, by have h1 := hcs.2; omega⟩ h.1 h.2
              · replace h := h.1 c146
                exact J73 S135 _ _ _ _ _ ⟨hI, hcs⟩ (lv_sub hl [0, 1] rfl) h
          · replace h := h.2 c126
            refine lv_aload_n hx hb dX3_read_42 rfl (lv_at hl 0 rfl) ?_
            refine nr_iconst hx hb dX3_read_43 ?_
            have hr162 := h.1; replace h := h.2
            obtain ⟨a159, b160, f161, h⟩ := h
            refine p_callVq (As := [iV 1]) (rest := []) hF (t_X3_wrong l hlt D dA ad (bset S a159 b160) _ x0 1 _ (by decide) a159.toNat b160.toNat (bC_bset _ _ _).symm (bL_bset _ _ _).symm h) (by obtain ⟨fs, hg⟩ := hr162; exact s_recvP hK hI hg rfl) (cwV 1 hts (lw_V q486 q488 qs7 q110 q489) rfl rfl rfl (by decide +kernel) ⟨by have h1 := hR.1; have h2 : (rmD 8 a159.toNat b160.toNat).frames = 8 + 1 := rfl; omega, by have h1 := hR.2; have h2 : (rmD 8 a159.toNat b160.toNat).locals = 64 * 8 + 64 := rfl; omega⟩) hK hI hZ hcs f161 rfl hl.1 rfl (Nat.le_of_ble_eq_true rfl) dX3_read_44 (fun r163 S164 S165 H locs cells slots h eS165 hI hcs => ?_)
            replace h := h S165 eS165
            obtain ⟨q167, e168, h⟩ := h
            rw [e168]
            show W p l e R s m args below meth c _ _ _ _ Q (F0 m _ ls [.ref q167])
            refine vz_athrow hx hb dX3_read_47 ?_
            rw [← hQ]; exact x_out hout hlocks hK hI ⟨by have h1 := hcs.1; omega, by have h1 := hcs.2; omega⟩ h.1 h.2
  unfold w_X3_read at h
  have f172 := h.1; replace h := h.2
  refine t_new (C := RX4) (T := TX4) (ci := 4) hx hb tyX4 tyX4_ok hts hown hK hI hcs rfl in_X4 q359 q360 q111 ([.inr (.inr none), .inr (.inr none), .inr (.inr none), .inr (.inr none), .inr (.inr none), .inl 0] : List PV) (by intro j hj; have hj2 : j = 0 ∨ j = 1 ∨ j = 2 ∨ j = 3 ∨ j = 4 ∨ j = 5 := (by omega); rcases hj2 with rfl | rfl | rfl | rfl | rfl | rfl <;> rfl) (by intro v hv; simp only [List.mem_cons, List.not_mem_nil, or_false] at hv; rcases hv with rfl | rfl | rfl | rfl | rfl | rfl <;> first | exact ni_r0 | exact trivial) f172 dX3_read_0 (fun q170 S171 H cells slots hqq170 eS171 _ hI hcs => ?_)
  replace h := h q170 S171 hqq170 eS171
  refine lv_dup hx hb dX3_read_3 rfl ?_
  obtain ⟨a173, b174, f175, h⟩ := h
  refine p_callINv (As := []) (rest := [.ref q170]) hF (t_X4_init l hlt D dA ad (bset S171 a173 b174) _ q170 _ a173.toNat b174.toNat (bC_bset _ _ _).symm (bL_bset _ _ _).symm h) ⟨va_cnB 0 hts (lw_meth q363) rfl rfl rfl (nMl_1 hK.2) (hts _ q111) (by decide +kernel) ⟨by have h1 := hR.1; have h2 : (rmD 4 a173.toNat b174.toNat).frames = 4 + 1 := rfl; omega, by have h1 := hR.2; have h2 : (rmD 4 a173.toNat b174.toNat).locals = 64 * 4 + 64 := rfl; omega⟩, rfl, hts _ q362⟩ hK hI hZ hcs f175 rfl hl.1 rfl (Nat.le_of_ble_eq_true rfl) dX3_read_4 (fun S177 S178 H locs cells slots h eS178 hI hcs => ?_)
  replace h := h S178 eS178
  refine lv_astore_n (lv' := [(1, .ref q170), (0, .ref x0)]) hx hb dX3_read_7 rfl hl (by decide) rfl (fun ls hl => ?_)
  refine lv_aload_n hx hb dX3_read_8 rfl (lv_at hl 1 rfl) ?_
  have hr183 := h.1; replace h := h.2
  obtain ⟨a180, b181, f182, h⟩ := h
  refine p_callVv (As := []) (rest := []) hF (t_X3_next l hlt D dA ad (bset S178 a180 b181) _ x0 _ a180.toNat b181.toNat (bC_bset _ _ _).symm (bL_bset _ _ _).symm h) (by obtain ⟨fs, hg⟩ := hr183; exact s_recvP hK hI hg rfl) (cwV 0 hts (lw_V q417 q419 qs5 q110 q420) rfl rfl rfl (by decide +kernel) ⟨by have h1 := hR.1; have h2 : (rmD 7 a180.toNat b181.toNat).frames = 7 + 1 := rfl; omega, by have h1 := hR.2; have h2 : (rmD 7 a180.toNat b181.toNat).locals = 64 * 7 + 64 := rfl; omega⟩) hK hI hZ hcs f182 rfl hl.1 rfl (Nat.le_of_ble_eq_true rfl) dX3_read_9 (fun S185 S186 H locs cells slots h eS186 hI hcs => ?_)
  replace h := h S186 eS186
  obtain ⟨n0, h⟩ := h
  exact L12 x0 q170 n0 S186 _ _ _ _ _ ⟨hI, hcs⟩ (lv_sub hl [1, 0] rfl) h
