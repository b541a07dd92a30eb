set_option maxRecDepth 100000
theorem uXX0_23_129 {p : Program} {l : Launch} {e : Env} {R : Room} {s : State} {m : MethodId} {args : Array Value} {below : List Frame} {meth : Method} {c : Code} {H : Heap} {locs : List Loc} {Q : State → Prop} {cc : ByteArray} {nL pc : Nat} {ls : Array Slot} {rest : List Value} {cells slots : Nat} {D : va_G} {dA : Nat → ClassId} {ad : Nat → Nat} {A : Nat → Prop} {H0 : Heap} {S : St} (hF : CallFix p m c cc nL s args lw_all RX0) (hK : gK D dA s) (hI : sI D dA wX ad A H0 S H locs) {v : Int} (hv : InR v) (hdg : decode cc pc = .ok (.putfield 23, 3)) (kk : ∀ (S1 : St) (H1 : Heap) (locs1 : List Loc), S1 = fset S 4 v → sI D dA wX ad A H0 S1 H1 locs1 → W p l e R s m args below meth c H1 locs1 cells slots Q (F0 m (pc + 3) ls (rest))) : W p l e R s m args below meth c H locs cells slots Q (F0 m (pc) ls (iV v :: .ref (ad 129) :: rest)) := s_put hF.1 hF.2.1 wX_U tyX0 tyX0_ok nmX0 hF.2.2.2.2 hF.2.2.2.1 hK hI 129 (by decide) wX_129 rfl in_X0 4 (by decide) q208 rfl 0 4 rfl hv rfl rfl rfl hdg (fun H1 locs1 h => kk _ H1 locs1 rfl h)
theorem uXX0_27_129 {p : Program} {l : Launch} {e : Env} {R : Room} {s : State} {m : MethodId} {args : Array Value} {below : List Frame} {meth : Method} {c : Code} {H : Heap} {locs : List Loc} {Q : State → Prop} {cc : ByteArray} {nL pc : Nat} {ls : Array Slot} {rest : List Value} {cells slots : Nat} {D : va_G} {dA : Nat → ClassId} {ad : Nat → Nat} {A : Nat → Prop} {H0 : Heap} {S : St} (hF : CallFix p m c cc nL s args lw_all RX0) (hK : gK D dA s) (hI : sI D dA wX ad A H0 S H locs) {v : Int} (hv : InR v) (hdg : decode cc pc = .ok (.putfield 27, 3)) (kk : ∀ (S1 : St) (H1 : Heap) (locs1 : List Loc), S1 = fset S 5 v → sI D dA wX ad A H0 S1 H1 locs1 → W p l e R s m args below meth c H1 locs1 cells slots Q (F0 m (pc + 3) ls (rest))) : W p l e R s m args below meth c H locs cells slots Q (F0 m (pc) ls (iV v :: .ref (ad 129) :: rest)) := s_put hF.1 hF.2.1 wX_U tyX0 tyX0_ok nmX0 hF.2.2.2.2 hF.2.2.2.1 hK hI 129 (by decide) wX_129 rfl in_X0 5 (by decide) q209 rfl 0 5 rfl hv rfl rfl rfl hdg (fun H1 locs1 h => kk _ H1 locs1 rfl h)
theorem gPX0_142 {p : Program} {l : Launch} {e : Env} {R : Room} {s : State} {m : MethodId} {args : Array Value} {below : List Frame} {meth : Method} {c : Code} {H : Heap} {locs : List Loc} {Q : State → Prop} {cc : ByteArray} {nL pc : Nat} {ls : Array Slot} {rest : List Value} {cells slots : Nat} {w : Wd} {D : va_G} {dA : Nat → ClassId} {ad : Nat → Nat} {A : Nat → Prop} {H0 : Heap} {S : St} {q : Nat} {fs : List PV} {v : Int} (hF : CallFix p m c cc nL s args lw_all RX0) (hK : gK D dA s) (hI : sI D dA w ad A H0 S H locs) (hg : gI S q = some (.inr (.inl (5, fs)))) (hv : fs[6]? = some (.inl v)) (hdg : decode cc pc = .ok (.getfield 142, 3)) (kk : InR v → W p l e R s m args below meth c H locs cells slots Q (F0 m (pc + 3) ls (iV v :: rest))) : W p l e R s m args below meth c H locs cells slots Q (F0 m (pc) ls (.ref q :: rest)) := s_pgiN hF.1 hF.2.1 hF.2.2.2.2 hF.2.2.2.1 hK hI hg rfl in_X5 6 (by decide) (nFl_12 hK.2) rfl hv hdg kk
theorem gPX0_143 {p : Program} {l : Launch} {e : Env} {R : Room} {s : State} {m : MethodId} {args : Array Value} {below : List Frame} {meth : Method} {c : Code} {H : Heap} {locs : List Loc} {Q : State → Prop} {cc : ByteArray} {nL pc : Nat} {ls : Array Slot} {rest : List Value} {cells slots : Nat} {w : Wd} {D : va_G} {dA : Nat → ClassId} {ad : Nat → Nat} {A : Nat → Prop} {H0 : Heap} {S : St} {q : Nat} {fs : List PV} {v : Int} (hF : CallFix p m c cc nL s args lw_all RX0) (hK : gK D dA s) (hI : sI D dA w ad A H0 S H locs) (hg : gI S q = some (.inr (.inl (5, fs)))) (hv : fs[7]? = some (.inl v)) (hdg : decode cc pc = .ok (.getfield 143, 3)) (kk : InR v → W p l e R s m args below meth c H locs cells slots Q (F0 m (pc + 3) ls (iV v :: rest))) : W p l e R s m args below meth c H locs cells slots Q (F0 m (pc) ls (.ref q :: rest)) := s_pgiN hF.1 hF.2.1 hF.2.2.2.2 hF.2.2.2.1 hK hI hg rfl in_X5 7 (by decide) (nFl_13 hK.2) rfl hv hdg kk
set_option maxHeartbeats 4000000 in
theorem t_X_text (l : Launch) (hlt : l.stackTraces = false) (D : va_G) (dA : Nat → ClassId) (ad : Nat → Nat) (S : St) (sz : Nat) (K : Int → St → Prop) (mc ms : Nat) (hmc : mc = bC S) (hms : ms = bL S) (h : w_X_text S K) : vz_Met l yX0_text (wsW_ yX0_text cX0_text 5 (Option.some Jvm.ClassFile.FieldType.int) [((30 : Nat), (62 : Nat), (70 : Nat), (140 : Nat)), ((30 : Nat), (62 : Nat), (96 : Nat), (0 : Nat)), ((70 : Nat), (89 : Nat), (96 : Nat), (0 : Nat)), ((96 : Nat), (98 : Nat), (96 : Nat), (0 : Nat))]) (rmD 67 mc ms) (va_Pc [.ref (ad 129)] (tPre D dA ad S sz)) (va_Qi (fun r S' => K r.toInt S') (sPost D dA wX ad (wA wX ad S sz)) (wA wX ad S sz)) (fun _ _ _ _ => False) mc ms (wA wX ad S sz) := by
  refine vz_ofWH (hw := rfl) (by decide) ?_
  intro p e s m args below meth c s₁ B hml hv
  obtain ⟨rfl, ⟨hsz, hK, hC⟩, hZ⟩ := hv
  have hx := B.exec
  have hb := B.bytes
  have hr := B.returns
  have hlocks := B.notSynchronized
  have hts := atoms_spec (ws := (wsW_ yX0_text cX0_text 5 (Option.some Jvm.ClassFile.FieldType.int) [((30 : Nat), (62 : Nat), (70 : Nat), (140 : Nat)), ((30 : Nat), (62 : Nat), (96 : Nat), (0 : Nat)), ((70 : Nat), (89 : Nat), (96 : Nat), (0 : Nat)), ((96 : Nat), (98 : Nat), (96 : Nat), (0 : Nat))])) B.pre
  have hB := vz_table (x := yX0_text) B (hts _ List.mem_cons_self)
  have hts : ∀ w ∈ lw_all, w.before _ s = true := fun w h => hts w (List.mem_cons_of_mem _ h)
  have hown : s.vm.findClass RX0 = some m.cls := findClass_of_methodNamed B.named
  clear B
  subst hsz
  have hI : sI D dA wX ad (wA wX ad S s.heap.size) s.heap S s.heap [] := hC.start
  clear hC
  generalize wA wX ad S s.heap.size = A at hI hZ ⊢
  have hl := lv_entry ([.ref (ad 129)] : List Value) (n := 5) (Nat.le_of_ble_eq_true rfl)
  rw [lg_entry_eq]
  generalize (lg_sl ([.ref (ad 129)] : List Value) ++ List.replicate (5 - (lg_sl ([.ref (ad 129)] : List Value)).length) Slot.unset).toArray = ls at hl ⊢
  have hl : lv_has ls 5 [(0, .ref (ad 129))] := hl
  have hF : CallFix p m c cX0_text 5 s _ lw_all RX0 := ⟨hx, hb, hml, hown, hts⟩
  have hR : (headSpec (wsW_ yX0_text cX0_text 5 (Option.some Jvm.ClassFile.FieldType.int) [((30 : Nat), (62 : Nat), (70 : Nat), (140 : Nat)), ((30 : Nat), (62 : Nat), (96 : Nat), (0 : Nat)), ((70 : Nat), (89 : Nat), (96 : Nat), (0 : Nat)), ((96 : Nat), (98 : Nat), (96 : Nat), (0 : Nat))]) (rmD 67 mc ms)).room.frames = 67 + 1 ∧ (headSpec (wsW_ yX0_text cX0_text 5 (Option.some Jvm.ClassFile.FieldType.int) [((30 : Nat), (62 : Nat), (70 : Nat), (140 : Nat)), ((30 : Nat), (62 : Nat), (96 : Nat), (0 : Nat)), ((70 : Nat), (89 : Nat), (96 : Nat), (0 : Nat)), ((96 : Nat), (98 : Nat), (96 : Nat), (0 : Nat))]) (rmD 67 mc ms)).room.locals = 64 * 67 + 64 := ⟨rfl, rfl⟩
  have hRc : (headSpec (wsW_ yX0_text cX0_text 5 (Option.some Jvm.ClassFile.FieldType.int) [((30 : Nat), (62 : Nat), (70 : Nat), (140 : Nat)), ((30 : Nat), (62 : Nat), (96 : Nat), (0 : Nat)), ((70 : Nat), (89 : Nat), (96 : Nat), (0 : Nat)), ((96 : Nat), (98 : Nat), (96 : Nat), (0 : Nat))]) (rmD 67 mc ms)).room.cells = mc ∧ (headSpec (wsW_ yX0_text cX0_text 5 (Option.some Jvm.ClassFile.FieldType.int) [((30 : Nat), (62 : Nat), (70 : Nat), (140 : Nat)), ((30 : Nat), (62 : Nat), (96 : Nat), (0 : Nat)), ((70 : Nat), (89 : Nat), (96 : Nat), (0 : Nat)), ((96 : Nat), (98 : Nat), (96 : Nat), (0 : Nat))]) (rmD 67 mc ms)).room.slots = ms := ⟨rfl, rfl⟩
  generalize (headSpec (wsW_ yX0_text cX0_text 5 (Option.some Jvm.ClassFile.FieldType.int) [((30 : Nat), (62 : Nat), (70 : Nat), (140 : Nat)), ((30 : Nat), (62 : Nat), (96 : Nat), (0 : Nat)), ((70 : Nat), (89 : Nat), (96 : Nat), (0 : Nat)), ((96 : Nat), (98 : Nat), (96 : Nat), (0 : Nat))]) (rmD 67 mc ms)).room = R at hR hRc ⊢
  obtain ⟨hRc, hRs⟩ := hRc
  have hcs : bOK R S 0 0 := ⟨by omega, by omega⟩
  clear hmc hms
  have hcs0 := hcs
  generalize ([.ref (ad 129)] : List Value).toArray = args at hts hF hB ⊢
  generalize hQ : vz_MQ below _ _ _ _ _ _ _ = Q
  unfold w_X_text at h
  refine lv_aload_n hx hb dX0_text_0 rfl (lv_at hl 0 rfl) ?_
  refine gXX0_12_129 hF hK hI dX0_text_1 ?_
  refine gXX0_71_130 hF hK hI dX0_text_4 ?_
  refine nr_iconst hx hb dX0_text_7 ?_
  refine s_iald hx hb hK hI 0 (by decide) wX_0 (by decide) (by decide) dX0_text_8 (fun f1 => ?_)
  replace h := h f1
  refine nr_iconst hx hb dX0_text_9 ?_
  refine nr_icmp_ne hx hb f1 (by decide) dX0_text_10 (tgt := 15) (by decide) (fun c2 => ?_) (fun c2 => ?_)
  · replace h := h.1 c2
    refine lv_aload_n hx hb dX0_text_15 rfl (lv_at hl 0 rfl) ?_
    refine gXX0_120_129 hF hK hI dX0_text_16 (fun f3 => ?_)
    replace h := h f3
    refine nr_topi (fun v4 ev4 => ?_)
    have rv4 : InR v4 := by rw [ev4]; exact f3
    replace h := h v4 ev4 rv4
    refine lv_istore_n (lv' := [(1, iV v4), (0, .ref (ad 129))]) hx hb dX0_text_19 rfl hl (by decide) rfl (fun ls hl => ?_)
    refine lv_aload_n hx hb dX0_text_20 rfl (lv_at hl 1 rfl) ?_
    refine nr_iconst hx hb dX0_text_21 ?_
    refine uXX0_23_129 hF hK hI (by decide) dX0_text_22 (fun S5 H locs eS5 hI => ?_)
    replace h := h S5 eS5
    have hcs := bOK.to (S' := S5) hcs (by rw [eS5]; exact ⟨rfl, rfl⟩)
    refine lv_aload_n hx hb dX0_text_25 rfl (lv_at hl 1 rfl) ?_
    refine nr_iconst hx hb dX0_text_26 ?_
    refine uXX0_27_129 hF hK hI (by decide) dX0_text_27 (fun S6 H locs eS6 hI => ?_)
    replace h := h S6 eS6
    have hcs := bOK.to (S' := S6) hcs (by rw [eS6]; exact ⟨rfl, rfl⟩)
    refine lv_aload_n hx hb dX0_text_30 rfl (lv_at hl 1 rfl) ?_
    refine gXX0_12_129 hF hK hI dX0_text_31 ?_
    refine gXX0_127_130 hF hK hI dX0_text_34 ?_
    refine lv_aload_n hx hb dX0_text_37 rfl (lv_at hl 1 rfl) ?_
    refine gXX0_12_129 hF hK hI dX0_text_38 ?_
    refine gXX0_71_130 hF hK hI dX0_text_41 ?_
    refine nr_iconst hx hb dX0_text_44 ?_
    refine s_iald hx hb hK hI 0 (by decide) wX_0 (by decide) (by decide) dX0_text_45 (fun f7 => ?_)
    replace h := h f7
    have f10 := h.1; replace h := h.2
    refine t_new (C := RX3) (T := TX3) (ci := 3) hx hb tyX3 tyX3_ok hts hown hK hI hcs rfl in_X3 q324 q325 q110 ([.inr (.inr none), .inl 0, .inl 0, .inl 0, .inl 0, .inl 0, .inl 0, .inl 0] : List PV) (by intro j hj; have hj2 : j = 0 ∨ j = 1 ∨ j = 2 ∨ j = 3 ∨ j = 4 ∨ j = 5 ∨ j = 6 ∨ j = 7 := (by omega); rcases hj2 with rfl | rfl | rfl | rfl | rfl | rfl | rfl | rfl <;> rfl) (by intro v hv; simp only [List.mem_cons, List.not_mem_nil, or_false] at hv; rcases hv with rfl | rfl | rfl | rfl | rfl | rfl | rfl | rfl <;> first | exact ni_r0 | exact trivial) f10 dX0_text_46 (fun q8 S9 H cells slots hqq8 eS9 _ hI hcs => ?_)
    replace h := h q8 S9 hqq8 eS9
    refine lv_dup hx hb dX0_text_49 rfl ?_
    refine lv_aload_n hx hb dX0_text_50 rfl (lv_at hl 1 rfl) ?_
    refine gXX0_19_129 hF hK hI dX0_text_51 ?_
    refine lv_iload_n hx hb dX0_text_54 rfl (lv_at hl 0 rfl) ?_
    replace h := h (ad 8) (hI.1.2.2.2.2.2.2 (by decide)).2
    obtain ⟨a13, b14, f15, h⟩ := h
    refine p_callIv (As := [.ref (ad 8), iV v4]) (rest := [.ref q8, iV (aI S6 0 2), .ref (ad 140)]) hF (t_X3_init l hlt D dA ad (bset S9 a13 b14) _ q8 (ad 8) v4 _ rv4 a13.toNat b14.toNat (bC_bset _ _ _).symm (bL_bset _ _ _).symm h) (cwI 2 hts (lw_meth q328) rfl rfl rfl (hts _ q110) (hts _ q326) (hts _ q327) rfl (by decide +kernel) ⟨by have h1 := hR.1; have h2 : (rmD 1 a13.toNat b14.toNat).frames = 1 + 1 := rfl; omega, by have h1 := hR.2; have h2 : (rmD 1 a13.toNat b14.toNat).locals = 64 * 1 + 64 := rfl; omega⟩) hK hI hZ hcs f15 rfl hl.1 rfl (Nat.le_of_ble_eq_true rfl) dX0_text_55 (fun S17 S18 H locs cells slots h eS18 hI hcs => ?_)
    replace h := h S18 eS18
    have hr23 := h.1; replace h := h.2
    obtain ⟨a20, b21, f22, h⟩ := h
    refine x_callVq (As := []) (rest := [iV (aI S6 0 2), .ref (ad 140)]) hF (t_X3_read l hlt D dA ad (bset S18 a20 b21) _ q8 _ a20.toNat b21.toNat (bC_bset _ _ _).symm (bL_bset _ _ _).symm h) (by obtain ⟨fs, hg⟩ := hr23; exact s_recvP hK hI hg rfl) (cwV 0 hts (lw_V q355 q356 q357 q110 q358) rfl rfl rfl (by decide +kernel) ⟨by have h1 := hR.1; have h2 : (rmD 66 a20.toNat b21.toNat).frames = 66 + 1 := rfl; omega, by have h1 := hR.2; have h2 : (rmD 66 a20.toNat b21.toNat).locals = 64 * 66 + 64 := rfl; omega⟩) hK hI hZ hcs f22 rfl hl.1 rfl (Nat.le_of_ble_eq_true rfl) dX0_text_58 (fun q S25 S26 H locs cells slots h eS26 hg hI hcs => ?_) (fun r24 S25 S26 H locs cells slots h eS26 hI hcs => ?_)
    · replace h := (h S26 eS26).1 q rfl
      refine g_catch hown hts hK hI hB hg ?_
      show W p l e R s m args below meth c _ _ _ _ Q (F0 m _ ls [.ref q])
      refine lv_astore_n (lv' := [(2, .ref q), (1, iV v4), (0, .ref (ad 129))]) hx hb dX0_text_70 rfl hl (by decide) rfl (fun ls hl => ?_)
      refine lv_aload_n hx hb dX0_text_71 rfl (lv_at hl 2 rfl) ?_
      refine lv_aload_n hx hb dX0_text_72 rfl (lv_at hl 0 rfl) ?_
      obtain ⟨fs29, v32, hg30, hv31, h⟩ := h
      refine gPX0_142 hF hK hI hg30 hv31 dX0_text_73 (fun f33 => ?_)
      replace h := h f33
      refine uXX0_23_129 hF hK hI f33 dX0_text_76 (fun S34 H locs eS34 hI => ?_)
      replace h := h S34 eS34
      have hcs := bOK.to (S' := S34) hcs (by rw [eS34]; exact ⟨rfl, rfl⟩)
      refine lv_aload_n hx hb dX0_text_79 rfl (lv_at hl 2 rfl) ?_
      refine lv_aload_n hx hb dX0_text_80 rfl (lv_at hl 0 rfl) ?_
      obtain ⟨fs35, v38, hg36, hv37, h⟩ := h
      refine gPX0_143 hF hK hI hg36 hv37 dX0_text_81 (fun f39 => ?_)
      replace h := h f39
      refine uXX0_27_129 hF hK hI f39 dX0_text_84 (fun S40 H locs eS40 hI => ?_)
      replace h := h S40 eS40
      have hcs := bOK.to (S' := S40) hcs (by rw [eS40]; exact ⟨rfl, rfl⟩)
      refine nr_iconst hx hb dX0_text_87 ?_
      refine lv_istore_n (lv' := [(3, iV (-1)), (2, .ref q), (1, iV v4), (0, .ref (ad 129))]) hx hb dX0_text_88 rfl hl (by decide) rfl (fun ls hl => ?_)
      refine lv_aload_n hx hb dX0_text_89 rfl (lv_at hl 3 rfl) ?_
      refine nr_iconst hx hb dX0_text_90 ?_
      refine uXX0_120_129 hF hK hI (by decide) dX0_text_91 (fun S41 H locs eS41 hI => ?_)
      replace h := h S41 eS41
      have hcs := bOK.to (S' := S41) hcs (by rw [eS41]; exact ⟨rfl, rfl⟩)
      refine lv_iload_n hx hb dX0_text_94 rfl (lv_at hl 0 rfl) ?_
      rw [← hQ]; refine vz_ret ?_; refine W.widen (k := mc) (n := ms) (by have h1 := hcs.1; omega) (by have h1 := hcs.2; omega) ?_; exact s_iret (K := K) hx hb hr hlocks hI (by decide) h dX0_text_95
    replace h := (h S26 eS26).2 rfl
    obtain ⟨q42, e43, h⟩ := h
    rw [e43]
    show W p l e R s m args below meth c _ _ _ _ Q (F0 m _ ls [.ref q42, iV (aI S6 0 2), .ref (ad 140)])
    have f47 := h.1; replace h := h.2
    obtain ⟨⟨fs45, hg46⟩, h⟩ := h
    refine t_rast hx hb hK hI 140 (by decide) (by decide) wX_140 hg46 f7 f47 dX0_text_61 (fun S44 H locs eS44 hI => ?_)
    replace h := h S44 eS44
    have hcs := bOK.to (S' := S44) hcs (by rw [eS44]; exact ⟨rfl, rfl⟩)
    refine lv_aload_n hx hb dX0_text_62 rfl (lv_at hl 1 rfl) ?_
    refine nr_iconst hx hb dX0_text_63 ?_
    refine uXX0_120_129 hF hK hI (by decide) dX0_text_64 (fun S48 H locs eS48 hI => ?_)
    replace h := h S48 eS48
    have hcs := bOK.to (S' := S48) hcs (by rw [eS48]; exact ⟨rfl, rfl⟩)
    refine lv_goto (tgt := 106) hx hb dX0_text_67 (by decide) ?_
    refine lv_aload_n hx hb dX0_text_106 rfl (lv_at hl 1 rfl) ?_
    refine gXX0_12_129 hF hK hI dX0_text_107 ?_
    refine gXX0_71_130 hF hK hI dX0_text_110 ?_
    refine nr_iconst hx hb dX0_text_113 ?_
    refine lv_dup2_11 hx hb dX0_text_114 rfl rfl ?_
    refine s_iald hx hb hK hI 0 (by decide) wX_0 (by decide) (by decide) dX0_text_115 (fun f49 => ?_)
    replace h := h f49
    refine nr_iconst hx hb dX0_text_116 ?_
    have f50 := h.1; replace h := h.2
    refine nr_iadd hx hb dX0_text_117 ?_
    refine s_iast hx hb hK hI 0 (by decide) wX_0 (by decide) (by decide) f50 dX0_text_118 (fun S51 H locs eS51 hI => ?_)
    replace h := h S51 eS51
    have hcs := bOK.to (S' := S51) hcs (by rw [eS51]; exact ⟨rfl, rfl⟩)
    refine lv_aload_n hx hb dX0_text_119 rfl (lv_at hl 1 rfl) ?_
    refine gXX0_12_129 hF hK hI dX0_text_120 ?_
    refine gXX0_71_130 hF hK hI dX0_text_123 ?_
    refine nr_iconst hx hb dX0_text_126 ?_
    refine s_iald hx hb hK hI 0 (by decide) wX_0 (by decide) (by decide) dX0_text_127 (fun f52 => ?_)
    replace h := h f52
    refine nr_iconst hx hb dX0_text_128 ?_
    have f53 := h.1; replace h := h.2
    refine nr_isub hx hb dX0_text_129 ?_
    rw [← hQ]; refine vz_ret ?_; refine W.widen (k := mc) (n := ms) (by have h1 := hcs.1; omega) (by have h1 := hcs.2; omega) ?_; exact s_iret (K := K) hx hb hr hlocks hI f53 h dX0_text_130
  · replace h := h.2 c2
    refine nr_iconst hx hb dX0_text_13 ?_
    rw [← hQ]; refine vz_ret ?_; refine W.widen (k := mc) (n := ms) (by have h1 := hcs.1; omega) (by have h1 := hcs.2; omega) ?_; exact s_iret (K := K) hx hb hr hlocks hI (by decide) h dX0_text_14
