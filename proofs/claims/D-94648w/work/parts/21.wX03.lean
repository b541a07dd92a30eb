set_option maxRecDepth 100000
theorem gXX0_325_129 {p : Program} {l : Launch} {e : Env} {R : Room} {s : State} {m : MethodId} {args : Array Value} {below : List Frame} {meth : Method} {c : Code} {H : Heap} {locs : List Loc} {Q : State → Prop} {cc : ByteArray} {nL pc : Nat} {ls : Array Slot} {rest : List Value} {cells slots : Nat} {D : va_G} {dA : Nat → ClassId} {ad : Nat → Nat} {A : Nat → Prop} {H0 : Heap} {S : St} (hF : CallFix p m c cc nL s args lw_all RX0) (hK : gK D dA s) (hI : sI D dA wX ad A H0 S H locs) (hdg : decode cc pc = .ok (.getfield 325, 3)) (kk : InR (fI S 18) → W p l e R s m args below meth c H locs cells slots Q (F0 m (pc + 3) ls (iV (fI S 18) :: rest))) : W p l e R s m args below meth c H locs cells slots Q (F0 m (pc) ls (.ref (ad 129) :: rest)) := s_geti hF.1 hF.2.1 hF.2.2.2.2 hF.2.2.2.1 hK hI 129 (by decide) wX_129 rfl in_X0 18 (by decide) q222 rfl 0 18 rfl (by decide) hdg (kk (kdP_R (k := 0) (by decide) (hI.1.2.2.2.1.1 18)))
theorem gXX0_61_129 {p : Program} {l : Launch} {e : Env} {R : Room} {s : State} {m : MethodId} {args : Array Value} {below : List Frame} {meth : Method} {c : Code} {H : Heap} {locs : List Loc} {Q : State → Prop} {cc : ByteArray} {nL pc : Nat} {ls : Array Slot} {rest : List Value} {cells slots : Nat} {D : va_G} {dA : Nat → ClassId} {ad : Nat → Nat} {A : Nat → Prop} {H0 : Heap} {S : St} (hF : CallFix p m c cc nL s args lw_all RX0) (hK : gK D dA s) (hI : sI D dA wX ad A H0 S H locs) (hdg : decode cc pc = .ok (.getfield 61, 3)) (kk : W p l e R s m args below meth c H locs cells slots Q (F0 m (pc + 3) ls (.ref (ad 13) :: rest))) : W p l e R s m args below meth c H locs cells slots Q (F0 m (pc) ls (.ref (ad 129) :: rest)) := s_getr hF.1 hF.2.1 hF.2.2.2.2 hF.2.2.2.1 hK hI 129 (by decide) wX_129 rfl in_X0 16 (by decide) q220 rfl 13 rfl hdg kk
theorem gXX0_58_129 {p : Program} {l : Launch} {e : Env} {R : Room} {s : State} {m : MethodId} {args : Array Value} {below : List Frame} {meth : Method} {c : Code} {H : Heap} {locs : List Loc} {Q : State → Prop} {cc : ByteArray} {nL pc : Nat} {ls : Array Slot} {rest : List Value} {cells slots : Nat} {D : va_G} {dA : Nat → ClassId} {ad : Nat → Nat} {A : Nat → Prop} {H0 : Heap} {S : St} (hF : CallFix p m c cc nL s args lw_all RX0) (hK : gK D dA s) (hI : sI D dA wX ad A H0 S H locs) (hdg : decode cc pc = .ok (.getfield 58, 3)) (kk : W p l e R s m args below meth c H locs cells slots Q (F0 m (pc + 3) ls (.ref (ad 12) :: rest))) : W p l e R s m args below meth c H locs cells slots Q (F0 m (pc) ls (.ref (ad 129) :: rest)) := s_getr hF.1 hF.2.1 hF.2.2.2.2 hF.2.2.2.1 hK hI 129 (by decide) wX_129 rfl in_X0 15 (by decide) q219 rfl 12 rfl hdg kk
theorem cXX0_331_r {p : Program} {l : Launch} {e : Env} {R : Room} {s : State} {m : MethodId} {args : Array Value} {below : List Frame} {meth : Method} {c : Code} {H : Heap} {locs : List Loc} {Q : State → Prop} {cc : ByteArray} {nL pc : Nat} {ls : Array Slot} {rest : List Value} {cells slots : Nat} {D : va_G} {dA : Nat → ClassId} {ad : Nat → Nat} {A : Nat → Prop} {H0 : Heap} {S : St} {dk : Nat} {d : Nat} {W0 : Int → Int → Int → St → (St → Prop) → Prop} (ihd : ∀ (S : St) (sz : Nat) (x1 : Int) (x2 : Int) (x3 : Int) (K : St → Prop), InR x1 → InR x2 → InR x3 → W0 x1 x2 x3 S K → Met l yX0_goesRound (ws_ yX0_goesRound cX0_goesRound 5 (Option.none : Option Jvm.ClassFile.FieldType)) (rmD (2 + d) 0 0) (va_Pc [.ref (ad 129), iV x1, iV x2, iV x3] (sPre D dA wX ad S sz)) (va_Qv (fun S' => K S') (sPost D dA wX ad (wA wX ad S sz)) (wA wX ad S sz)) 0 0 (wA wX ad S sz)) (hF : CallFix p m c cc nL s args lw_all RX0) (hK : gK D dA s) (hI : sI D dA wX ad A H0 S H locs) (hls : ls.size = nL) (hR : R.frames = dk + 1 ∧ R.locals = 64 * dk + 64) (hd : 2 + d + 1 ≤ dk) (hW : (rest.map fun v => v.category).sum ≤ 8) (hf : cells ≤ R.cells ∧ slots ≤ R.slots) {x1 : Int} {x2 : Int} {x3 : Int} {K : St → Prop} (r1 : InR x1) (r2 : InR x2) (r3 : InR x3) (h : W0 x1 x2 x3 S K) (hdg : decode cc pc = .ok (.invokevirtual 331, 3)) (kk : ∀ (S1 : St) (H1 : Heap) (locs1 : List Loc), K S1 → sI D dA wX ad A H0 S1 H1 locs1 → W p l e R s m args below meth c H1 locs1 cells slots Q (F0 m (pc + 3) ls (rest))) : W p l e R s m args below meth c H locs cells slots Q (F0 m (pc) ls (iV x3 :: iV x2 :: iV x1 :: .ref (ad 129) :: rest)) := s_callVv (As := [iV x1, iV x2, iV x3]) (rest := rest) (K := K) hF (ihd S H.size x1 x2 x3 K r1 r2 r3 h) (s_recv hK hI 129 (by decide) wX_129 rfl) (cwV 3 hF.2.2.2.2 (lw_V q1121 q1123 qs45 q106 q1124) rfl rfl rfl (by decide +kernel) ⟨by have h1 := hR.1; have h2 : (rmD (2 + d) 0 0).frames = (2 + d) + 1 := rfl; omega, by have h1 := hR.2; have h2 : (rmD (2 + d) 0 0).locals = 64 * (2 + d) + 64 := rfl; omega⟩) hK hI rfl hls rfl hW hdg hf kk
theorem uXX0_328_129 {p : Program} {l : Launch} {e : Env} {R : Room} {s : State} {m : MethodId} {args : Array Value} {below : List Frame} {meth : Method} {c : Code} {H : Heap} {locs : List Loc} {Q : State → Prop} {cc : ByteArray} {nL pc : Nat} {ls : Array Slot} {rest : List Value} {cells slots : Nat} {D : va_G} {dA : Nat → ClassId} {ad : Nat → Nat} {A : Nat → Prop} {H0 : Heap} {S : St} (hF : CallFix p m c cc nL s args lw_all RX0) (hK : gK D dA s) (hI : sI D dA wX ad A H0 S H locs) {v : Int} (hv : InR v) (hdg : decode cc pc = .ok (.putfield 328, 3)) (kk : ∀ (S1 : St) (H1 : Heap) (locs1 : List Loc), S1 = fset S 19 v → sI D dA wX ad A H0 S1 H1 locs1 → W p l e R s m args below meth c H1 locs1 cells slots Q (F0 m (pc + 3) ls (rest))) : W p l e R s m args below meth c H locs cells slots Q (F0 m (pc) ls (iV v :: .ref (ad 129) :: rest)) := s_put hF.1 hF.2.1 wX_U tyX0 tyX0_ok nmX0 hF.2.2.2.2 hF.2.2.2.1 hK hI 129 (by decide) wX_129 rfl in_X0 19 (by decide) q223 rfl 0 19 rfl hv rfl rfl rfl hdg (fun H1 locs1 h => kk _ H1 locs1 rfl h)
theorem gXX0_64_129 {p : Program} {l : Launch} {e : Env} {R : Room} {s : State} {m : MethodId} {args : Array Value} {below : List Frame} {meth : Method} {c : Code} {H : Heap} {locs : List Loc} {Q : State → Prop} {cc : ByteArray} {nL pc : Nat} {ls : Array Slot} {rest : List Value} {cells slots : Nat} {D : va_G} {dA : Nat → ClassId} {ad : Nat → Nat} {A : Nat → Prop} {H0 : Heap} {S : St} (hF : CallFix p m c cc nL s args lw_all RX0) (hK : gK D dA s) (hI : sI D dA wX ad A H0 S H locs) (hdg : decode cc pc = .ok (.getfield 64, 3)) (kk : W p l e R s m args below meth c H locs cells slots Q (F0 m (pc + 3) ls (.ref (ad 14) :: rest))) : W p l e R s m args below meth c H locs cells slots Q (F0 m (pc) ls (.ref (ad 129) :: rest)) := s_getr hF.1 hF.2.1 hF.2.2.2.2 hF.2.2.2.1 hK hI 129 (by decide) wX_129 rfl in_X0 17 (by decide) q221 rfl 14 rfl hdg kk
theorem gXX0_328_129 {p : Program} {l : Launch} {e : Env} {R : Room} {s : State} {m : MethodId} {args : Array Value} {below : List Frame} {meth : Method} {c : Code} {H : Heap} {locs : List Loc} {Q : State → Prop} {cc : ByteArray} {nL pc : Nat} {ls : Array Slot} {rest : List Value} {cells slots : Nat} {D : va_G} {dA : Nat → ClassId} {ad : Nat → Nat} {A : Nat → Prop} {H0 : Heap} {S : St} (hF : CallFix p m c cc nL s args lw_all RX0) (hK : gK D dA s) (hI : sI D dA wX ad A H0 S H locs) (hdg : decode cc pc = .ok (.getfield 328, 3)) (kk : InR (fI S 19) → W p l e R s m args below meth c H locs cells slots Q (F0 m (pc + 3) ls (iV (fI S 19) :: rest))) : W p l e R s m args below meth c H locs cells slots Q (F0 m (pc) ls (.ref (ad 129) :: rest)) := s_geti hF.1 hF.2.1 hF.2.2.2.2 hF.2.2.2.1 hK hI 129 (by decide) wX_129 rfl in_X0 19 (by decide) q223 rfl 0 19 rfl (by decide) hdg (kk (kdP_R (k := 0) (by decide) (hI.1.2.2.2.1.1 19)))
set_option maxHeartbeats 4000000 in
theorem t_X_goesRound (l : Launch) : ∀ (d : Nat) (D : va_G) (dA : Nat → ClassId) (ad : Nat → Nat) (S : St) (sz : Nat) (x1 : Int) (x2 : Int) (x3 : Int) (K : St → Prop) (rx1 : InR x1) (rx2 : InR x2) (rx3 : InR x3) (h : w_X_goesRound d x1 x2 x3 S K), Met l yX0_goesRound (ws_ yX0_goesRound cX0_goesRound 5 (Option.none : Option Jvm.ClassFile.FieldType)) (rmD (2 + d) 0 0) (va_Pc [.ref (ad 129), iV x1, iV x2, iV x3] (sPre D dA wX ad S sz)) (va_Qv (fun S' => K S') (sPost D dA wX ad (wA wX ad S sz)) (wA wX ad S sz)) 0 0 (wA wX ad S sz) := by
  intro d
  induction d with
  | zero => intro D dA ad S sz x1 x2 x3 K rx1 rx2 rx3 h; exact False.elim h
  | succ d ihd0 =>
  intro D dA ad S sz x1 x2 x3 K rx1 rx2 rx3 h
  have h : b_X_goesRound (w_X_goesRound d) x1 x2 x3 S K := h
  have ihd := ihd0 D dA ad
  clear ihd0
  generalize w_X_goesRound d = W0 at h ihd
  refine Met.ofW (cc := cX0_goesRound) (maxL := 5) (ret := (Option.none : Option Jvm.ClassFile.FieldType)) (by decide) rfl ?_
  intro p e s m args below meth c s₁ B hml hv
  obtain ⟨rfl, hsz, hK, hC⟩ := hv
  have hx := B.exec
  have hb := B.bytes
  have hr := B.returns
  have hlocks := B.notSynchronized
  have hts := atoms_spec (ws := (ws_ yX0_goesRound cX0_goesRound 5 (Option.none : Option Jvm.ClassFile.FieldType))) B.pre
  have hts : ∀ w ∈ lw_all, w.before _ s = true := fun w h => hts w (List.mem_cons_of_mem _ h)
  have hown : s.vm.findClass RX0 = some m.cls := findClass_of_methodNamed B.named
  clear B
  subst hsz
  have hI : sI D dA wX ad (wA wX ad S s.heap.size) s.heap S s.heap [] := hC.start
  clear hC
  generalize wA wX ad S s.heap.size = A at hI ⊢
  have hl := lv_entry ([.ref (ad 129), iV x1, iV x2, iV x3] : List Value) (n := 5) (Nat.le_of_ble_eq_true rfl)
  rw [lg_entry_eq]
  generalize (lg_sl ([.ref (ad 129), iV x1, iV x2, iV x3] : List Value) ++ List.replicate (5 - (lg_sl ([.ref (ad 129), iV x1, iV x2, iV x3] : List Value)).length) Slot.unset).toArray = ls at hl ⊢
  have hl : lv_has ls 5 [(0, .ref (ad 129)), (1, iV x1), (2, iV x2), (3, iV x3)] := hl
  have hF : CallFix p m c cX0_goesRound 5 s _ lw_all RX0 := ⟨hx, hb, hml, hown, hts⟩
  have hR : (headSpec (ws_ yX0_goesRound cX0_goesRound 5 (Option.none : Option Jvm.ClassFile.FieldType)) (rmD (2 + (d + 1)) 0 0)).room.frames = (2 + (d + 1)) + 1 ∧ (headSpec (ws_ yX0_goesRound cX0_goesRound 5 (Option.none : Option Jvm.ClassFile.FieldType)) (rmD (2 + (d + 1)) 0 0)).room.locals = 64 * (2 + (d + 1)) + 64 := ⟨rfl, rfl⟩
  generalize (headSpec (ws_ yX0_goesRound cX0_goesRound 5 (Option.none : Option Jvm.ClassFile.FieldType)) (rmD (2 + (d + 1)) 0 0)).room = R at hR ⊢
  generalize ([.ref (ad 129), iV x1, iV x2, iV x3] : List Value).toArray = args at hts hF ⊢
  generalize hQ : MQ below _ _ _ _ _ _ = Q
  have L75 : ∀ (x1 : Int) (x2 : Int) (x3 : Int), InR x1 → InR x2 → InR x3 → ∀ (n75 : Nat) (x4 : Int) (S : St) (H : Heap) (locs : List Loc) (ls : Array Slot), InR x4 → sI D dA wX ad A s.heap S H locs → lv_has ls 5 [(0, .ref (ad 129)), (1, iV x1), (2, iV x2), (3, iV x3), (4, iV x4)] → l_X_goesRound_75 W0 x1 x2 x3 K n75 x4 S → W p l e R s m args below meth c H locs 0 0 Q (F0 m 75 ls []) := by
    intro x1 x2 x3 rx1 rx2 rx3 n75
    induction n75 with
    | zero => intro x4 S H locs ls rx4 hI hl h; exact False.elim h
    | succ n75 ih75 =>
      intro x4 S H locs ls rx4 hI hl h
      have J143 : ∀ (x4 : Int) (S : St) (H : Heap) (locs : List Loc) (ls : Array Slot), InR x4 → sI D dA wX ad A s.heap S H locs → lv_has ls 5 [(0, .ref (ad 129)), (1, iV x1), (2, iV x2), (3, iV x3), (4, iV x4)] → j_X_goesRound_143 W0 x1 x2 x3 x4 S K (l_X_goesRound_75 W0 x1 x2 x3 K n75) → W p l e R s m args below meth c H locs 0 0 Q (F0 m 143 ls []) := by
        intro x4 S H locs ls rx4 hI hl h
        unfold j_X_goesRound_143 at h
        have f1 := h.1; replace h := h.2
        refine nr_iinc (lv' := [(4, iV (x4 + 1)), (0, .ref (ad 129)), (1, iV x1), (2, iV x2), (3, iV x3)]) hx hb dX0_goesRound_143 hl (k := 4) rfl (by decide) rfl (fun ls hl => ?_)
        refine lv_goto (tgt := 75) hx hb dX0_goesRound_146 (by decide) ?_
        exact ih75 (x4 + 1) S _ _ _ f1 hI (lv_sub hl [1, 2, 3, 4, 0] rfl) h
      unfold l_X_goesRound_75 at h
      refine lv_iload hx hb dX0_goesRound_75 (lv_at hl 4 rfl) ?_
      refine lv_aload_n hx hb dX0_goesRound_77 rfl (lv_at hl 0 rfl) ?_
      refine gXX0_325_129 hF hK hI dX0_goesRound_78 (fun f2 => ?_)
      replace h := h f2
      refine nr_icmp_ge hx hb rx4 f2 dX0_goesRound_81 (tgt := 149) (by decide) (fun c3 => ?_) (fun c3 => ?_)
      · replace h := h.1 c3
        rw [← hQ]; exact s_vret (K := K) hx hb hr hlocks hI  h dX0_goesRound_149
      · replace h := h.2 c3
        refine lv_iload_n hx hb dX0_goesRound_84 rfl (lv_at hl 2 rfl) ?_
        refine lv_iload hx hb dX0_goesRound_85 (lv_at hl 4 rfl) ?_
        have f4 := h.1; replace h := h.2
        refine nr_ishr hx hb f4 rx2 dX0_goesRound_87 ?_
        have f5 : InR (x2 / 2 ^ (Int.toNat x4)) := ni_shrR rx2
        refine nr_iconst hx hb dX0_goesRound_88 ?_
        refine nr_mask hx hb 1 (by decide) (by decide) dX0_goesRound_89 ?_
        have f6 : InR ((x2 / 2 ^ (Int.toNat x4)) % 2) := by omega
        refine nr_iconst hx hb dX0_goesRound_90 ?_
        refine nr_icmp_ne hx hb f6 (by decide) dX0_goesRound_91 (tgt := 97) (by decide) (fun c7 => ?_) (fun c7 => ?_)
        · replace h := h.1 c7
          refine lv_aload_n hx hb dX0_goesRound_97 rfl (lv_at hl 0 rfl) ?_
          refine gXX0_61_129 hF hK hI dX0_goesRound_98 ?_
          refine lv_iload_n hx hb dX0_goesRound_101 rfl (lv_at hl 1 rfl) ?_
          refine lv_aload_n hx hb dX0_goesRound_102 rfl (lv_at hl 0 rfl) ?_
          refine gXX0_58_129 hF hK hI dX0_goesRound_103 ?_
          refine lv_iload hx hb dX0_goesRound_106 (lv_at hl 4 rfl) ?_
          have f8 := h.1; replace h := h.2
          refine s_iald hx hb hK hI 12 (by decide) wX_12 rx4 f8 dX0_goesRound_108 (fun f9 => ?_)
          replace h := h f9
          have f10 := h.1; replace h := h.2
          refine s_iast hx hb hK hI 13 (by decide) wX_13 rx1 f10 f9 dX0_goesRound_109 (fun S11 H locs eS11 hI => ?_)
          replace h := h S11 eS11
          refine lv_aload_n hx hb dX0_goesRound_110 rfl (lv_at hl 0 rfl) ?_
          refine lv_iload_n hx hb dX0_goesRound_111 rfl (lv_at hl 1 rfl) ?_
          refine nr_iconst hx hb dX0_goesRound_112 ?_
          have f12 := h.1; replace h := h.2
          refine nr_iadd hx hb dX0_goesRound_113 ?_
          refine lv_iload_n hx hb dX0_goesRound_114 rfl (lv_at hl 2 rfl) ?_
          refine nr_iconst hx hb dX0_goesRound_115 ?_
          refine lv_iload hx hb dX0_goesRound_116 (lv_at hl 4 rfl) ?_
          have f13 := h.1; replace h := h.2
          have f14 := h.1; replace h := h.2
          refine nr_ishl hx hb f13 f14 dX0_goesRound_118 ?_
          refine nr_ior hx hb dX0_goesRound_119 ?_
          refine lv_iload_n hx hb dX0_goesRound_120 rfl (lv_at hl 3 rfl) ?_
          refine lv_aload_n hx hb dX0_goesRound_121 rfl (lv_at hl 0 rfl) ?_
          refine lv_aload_n hx hb dX0_goesRound_122 rfl (lv_at hl 0 rfl) ?_
          refine gXX0_61_129 hF hK hI dX0_goesRound_123 ?_
          refine lv_iload_n hx hb dX0_goesRound_126 rfl (lv_at hl 1 rfl) ?_
          refine nr_iconst hx hb dX0_goesRound_127 ?_
          have f15 := h.1; replace h := h.2
          refine nr_isub hx hb dX0_goesRound_128 ?_
          have f16 := h.1; replace h := h.2
          refine s_iald hx hb hK hI 13 (by decide) wX_13 f15 f16 dX0_goesRound_129 (fun f17 => ?_)
          replace h := h f17
          refine lv_aload_n hx hb dX0_goesRound_130 rfl (lv_at hl 0 rfl) ?_
          refine gXX0_61_129 hF hK hI dX0_goesRound_131 ?_
          refine lv_iload_n hx hb dX0_goesRound_134 rfl (lv_at hl 1 rfl) ?_
          have f18 := h.1; replace h := h.2
          refine s_iald hx hb hK hI 13 (by decide) wX_13 rx1 f18 dX0_goesRound_135 (fun f19 => ?_)
          replace h := h f19
          refine cXX0_292 hF hK hI hl.1 hR (by omega) (Nat.le_of_ble_eq_true rfl) ⟨Nat.zero_le _, Nat.zero_le _⟩ f17 f19 h dX0_goesRound_136 (fun r20 H locs fr20 h hI => ?_)
          replace h := h fr20
          have f22 := h.1; replace h := h.2
          refine nr_iadd hx hb dX0_goesRound_139 ?_
          refine cXX0_331_r ihd hF hK hI hl.1 hR (by omega) (Nat.le_of_ble_eq_true rfl) ⟨Nat.zero_le _, Nat.zero_le _⟩ f12 (iOr_R _ _) f22 h dX0_goesRound_140 (fun S24 H locs h hI => ?_)
          exact J143 x4 S24 _ _ _ rx4 hI (lv_sub hl [0, 1, 2, 3, 4] rfl) h
        · replace h := h.2 c7
          refine lv_goto (tgt := 143) hx hb dX0_goesRound_94 (by decide) ?_
          exact J143 x4 S _ _ _ rx4 hI (lv_sub hl [0, 1, 2, 3, 4] rfl) h
  have J48 : ∀ (x4 : Int) (S : St) (H : Heap) (locs : List Loc) (ls : Array Slot), InR x4 → sI D dA wX ad A s.heap S H locs → lv_has ls 5 [(0, .ref (ad 129)), (4, iV x4)] → j_X_goesRound_48 W0 x4 S K → W p l e R s m args below meth c H locs 0 0 Q (F0 m 48 ls []) := by
    intro x4 S H locs ls rx4 hI hl h
    unfold j_X_goesRound_48 at h
    refine lv_aload_n hx hb dX0_goesRound_48 rfl (lv_at hl 0 rfl) ?_
    refine lv_iload hx hb dX0_goesRound_49 (lv_at hl 1 rfl) ?_
    refine uXX0_328_129 hF hK hI rx4 dX0_goesRound_51 (fun S25 H locs eS25 hI => ?_)
    replace h := h S25 eS25
    refine lv_aload_n hx hb dX0_goesRound_54 rfl (lv_at hl 0 rfl) ?_
    refine gXX0_61_129 hF hK hI dX0_goesRound_55 ?_
    refine nr_iconst hx hb dX0_goesRound_58 ?_
    refine lv_aload_n hx hb dX0_goesRound_59 rfl (lv_at hl 0 rfl) ?_
    refine gXX0_64_129 hF hK hI dX0_goesRound_60 ?_
    refine nr_iconst hx hb dX0_goesRound_63 ?_
    refine lv_aload_n hx hb dX0_goesRound_64 rfl (lv_at hl 0 rfl) ?_
    refine gXX0_325_129 hF hK hI dX0_goesRound_65 (fun f26 => ?_)
    replace h := h f26
    have f28 := h.1; replace h := h.2
    refine s_acpy hx hb (hl.1.trans hml.symm) hown hts q290 hK hI 13 (by decide) wX_13 14 (by decide) wX_14 (by decide) (by decide) f26 f28 (by have h1 := hR.1; have h2 := hR.2; omega) (Nat.le_of_ble_eq_true rfl) dX0_goesRound_68 (fun S27 H locs eS27 hI => ?_)
    replace h := h S27 eS27
    rw [← hQ]; exact s_vret (K := K) hx hb hr hlocks hI  h dX0_goesRound_71
  unfold b_X_goesRound at h
  refine lv_iload_n hx hb dX0_goesRound_0 rfl (lv_at hl 1 rfl) ?_
  refine lv_aload_n hx hb dX0_goesRound_1 rfl (lv_at hl 0 rfl) ?_
  refine gXX0_325_129 hF hK hI dX0_goesRound_2 (fun f29 => ?_)
  replace h := h f29
  refine nr_icmp_ne hx hb rx1 f29 dX0_goesRound_5 (tgt := 72) (by decide) (fun c30 => ?_) (fun c30 => ?_)
  · replace h := h.1 c30
    refine nr_iconst hx hb dX0_goesRound_72 ?_
    refine lv_istore (lv' := [(4, iV 1), (0, .ref (ad 129)), (1, iV x1), (2, iV x2), (3, iV x3)]) hx hb dX0_goesRound_73 hl (by decide) rfl (fun ls hl => ?_)
    obtain ⟨n0, h⟩ := h
    exact L75 x1 x2 x3 rx1 rx2 rx3 n0 1 S _ _ _ (by decide) hI (lv_sub hl [1, 2, 3, 4, 0] rfl) h
  · replace h := h.2 c30
    refine lv_iload_n hx hb dX0_goesRound_8 rfl (lv_at hl 3 rfl) ?_
    refine lv_aload_n hx hb dX0_goesRound_9 rfl (lv_at hl 0 rfl) ?_
    refine lv_aload_n hx hb dX0_goesRound_10 rfl (lv_at hl 0 rfl) ?_
    refine gXX0_61_129 hF hK hI dX0_goesRound_11 ?_
    refine lv_iload_n hx hb dX0_goesRound_14 rfl (lv_at hl 1 rfl) ?_
    refine nr_iconst hx hb dX0_goesRound_15 ?_
    have f31 := h.1; replace h := h.2
    refine nr_isub hx hb dX0_goesRound_16 ?_
    have f32 := h.1; replace h := h.2
    refine s_iald hx hb hK hI 13 (by decide) wX_13 f31 f32 dX0_goesRound_17 (fun f33 => ?_)
    replace h := h f33
    refine lv_aload_n hx hb dX0_goesRound_18 rfl (lv_at hl 0 rfl) ?_
    refine gXX0_61_129 hF hK hI dX0_goesRound_19 ?_
    refine nr_iconst hx hb dX0_goesRound_22 ?_
    refine s_iald hx hb hK hI 13 (by decide) wX_13 (by decide) (by decide) dX0_goesRound_23 (fun f34 => ?_)
    replace h := h f34
    refine cXX0_292 hF hK hI hl.1 hR (by omega) (Nat.le_of_ble_eq_true rfl) ⟨Nat.zero_le _, Nat.zero_le _⟩ f33 f34 h dX0_goesRound_24 (fun r35 H locs fr35 h hI => ?_)
    replace h := h fr35
    have f37 := h.1; replace h := h.2
    refine nr_iadd hx hb dX0_goesRound_27 ?_
    refine nr_topi (fun v38 ev38 => ?_)
    have rv38 : InR v38 := by rw [ev38]; exact f37
    replace h := h v38 ev38 rv38
    refine lv_istore (lv' := [(4, iV v38), (0, .ref (ad 129)), (1, iV x1), (2, iV x2), (3, iV x3)]) hx hb dX0_goesRound_28 hl (by decide) rfl (fun ls hl => ?_)
    refine lv_aload_n hx hb dX0_goesRound_30 rfl (lv_at hl 1 rfl) ?_
    refine gXX0_328_129 hF hK hI dX0_goesRound_31 (fun f39 => ?_)
    replace h := h f39
    refine nr_iconst hx hb dX0_goesRound_34 ?_
    refine nr_icmp_eq hx hb f39 (by decide) dX0_goesRound_35 (tgt := 48) (by decide) (fun c40 => ?_) (fun c40 => ?_)
    · replace h := h.1 c40
      exact J48 v38 S _ _ _ rv38 hI (lv_sub hl [1, 0] rfl) h
    · replace h := h.2 c40
      refine lv_iload hx hb dX0_goesRound_38 (lv_at hl 0 rfl) ?_
      refine lv_aload_n hx hb dX0_goesRound_40 rfl (lv_at hl 1 rfl) ?_
      refine gXX0_328_129 hF hK hI dX0_goesRound_41 (fun f41 => ?_)
      refine nr_icmp_lt hx hb rv38 f39 dX0_goesRound_44 (tgt := 48) (by decide) (fun c42 => ?_) (fun c42 => ?_)
      · replace h := h.1 c42
        exact J48 v38 S _ _ _ rv38 hI (lv_sub hl [1, 0] rfl) h
      · replace h := h.2 c42
        rw [← hQ]; exact s_vret (K := K) hx hb hr hlocks hI  h dX0_goesRound_47
theorem cXX0_331 {p : Program} {l : Launch} {e : Env} {R : Room} {s : State} {m : MethodId} {args : Array Value} {below : List Frame} {meth : Method} {c : Code} {H : Heap} {locs : List Loc} {Q : State → Prop} {cc : ByteArray} {nL pc : Nat} {ls : Array Slot} {rest : List Value} {cells slots : Nat} {D : va_G} {dA : Nat → ClassId} {ad : Nat → Nat} {A : Nat → Prop} {H0 : Heap} {S : St} {dk : Nat} {d : Nat} (hdm : d ≤ 10) (hF : CallFix p m c cc nL s args lw_all RX0) (hK : gK D dA s) (hI : sI D dA wX ad A H0 S H locs) (hls : ls.size = nL) (hR : R.frames = dk + 1 ∧ R.locals = 64 * dk + 64) (hd : 12 + 1 ≤ dk) (hW : (rest.map fun v => v.category).sum ≤ 8) (hf : cells ≤ R.cells ∧ slots ≤ R.slots) {x1 : Int} {x2 : Int} {x3 : Int} {K : St → Prop} (r1 : InR x1) (r2 : InR x2) (r3 : InR x3) (h : w_X_goesRound d x1 x2 x3 S K) (hdg : decode cc pc = .ok (.invokevirtual 331, 3)) (kk : ∀ (S1 : St) (H1 : Heap) (locs1 : List Loc), K S1 → sI D dA wX ad A H0 S1 H1 locs1 → W p l e R s m args below meth c H1 locs1 cells slots Q (F0 m (pc + 3) ls (rest))) : W p l e R s m args below meth c H locs cells slots Q (F0 m (pc) ls (iV x3 :: iV x2 :: iV x1 :: .ref (ad 129) :: rest)) := s_callVv (As := [iV x1, iV x2, iV x3]) (rest := rest) (K := K) hF (t_X_goesRound l d D dA ad S H.size x1 x2 x3 K r1 r2 r3 h) (s_recv hK hI 129 (by decide) wX_129 rfl) (cwV 3 hF.2.2.2.2 (lw_V q1121 q1123 qs45 q106 q1124) rfl rfl rfl (by decide +kernel) ⟨by have h1 := hR.1; have h2 : (rmD (2 + d) 0 0).frames = (2 + d) + 1 := rfl; omega, by have h1 := hR.2; have h2 : (rmD (2 + d) 0 0).locals = 64 * (2 + d) + 64 := rfl; omega⟩) hK hI rfl hls rfl hW hdg hf kk
theorem uXX0_325_129 {p : Program} {l : Launch} {e : Env} {R : Room} {s : State} {m : MethodId} {args : Array Value} {below : List Frame} {meth : Method} {c : Code} {H : Heap} {locs : List Loc} {Q : State → Prop} {cc : ByteArray} {nL pc : Nat} {ls : Array Slot} {rest : List Value} {cells slots : Nat} {D : va_G} {dA : Nat → ClassId} {ad : Nat → Nat} {A : Nat → Prop} {H0 : Heap} {S : St} (hF : CallFix p m c cc nL s args lw_all RX0) (hK : gK D dA s) (hI : sI D dA wX ad A H0 S H locs) {v : Int} (hv : InR v) (hdg : decode cc pc = .ok (.putfield 325, 3)) (kk : ∀ (S1 : St) (H1 : Heap) (locs1 : List Loc), S1 = fset S 18 v → sI D dA wX ad A H0 S1 H1 locs1 → W p l e R s m args below meth c H1 locs1 cells slots Q (F0 m (pc + 3) ls (rest))) : W p l e R s m args below meth c H locs cells slots Q (F0 m (pc) ls (iV v :: .ref (ad 129) :: rest)) := s_put hF.1 hF.2.1 wX_U tyX0 tyX0_ok nmX0 hF.2.2.2.2 hF.2.2.2.1 hK hI 129 (by decide) wX_129 rfl in_X0 18 (by decide) q222 rfl 0 18 rfl hv rfl rfl rfl hdg (fun H1 locs1 h => kk _ H1 locs1 rfl h)
set_option maxHeartbeats 4000000 in
theorem t_X_round (l : Launch) (D : va_G) (dA : Nat → ClassId) (ad : Nat → Nat) (S : St) (sz : Nat) (x1 : Int) (x2 : Int) (K : Int → St → Prop) (rx1 : InR x1) (rx2 : InR x2) (h : w_X_round x1 x2 S K) : Met l yX0_round (ws_ yX0_round cX0_round 4 (Option.some Jvm.ClassFile.FieldType.int)) (rmD 13 0 0) (va_Pc [.ref (ad 129), iV x1, iV x2] (sPre D dA wX ad S sz)) (va_Qi (fun r S' => K r.toInt S') (sPost D dA wX ad (wA wX ad S sz)) (wA wX ad S sz)) 0 0 (wA wX ad S sz) := by
  refine Met.ofW (cc := cX0_round) (maxL := 4) (ret := (Option.some Jvm.ClassFile.FieldType.int)) (by decide) rfl ?_
  intro p e s m args below meth c s₁ B hml hv
  obtain ⟨rfl, hsz, hK, hC⟩ := hv
  have hx := B.exec
  have hb := B.bytes
  have hr := B.returns
  have hlocks := B.notSynchronized
  have hts := atoms_spec (ws := (ws_ yX0_round cX0_round 4 (Option.some Jvm.ClassFile.FieldType.int))) B.pre
  have hts : ∀ w ∈ lw_all, w.before _ s = true := fun w h => hts w (List.mem_cons_of_mem _ h)
  have hown : s.vm.findClass RX0 = some m.cls := findClass_of_methodNamed B.named
  clear B
  subst hsz
  have hI : sI D dA wX ad (wA wX ad S s.heap.size) s.heap S s.heap [] := hC.start
  clear hC
  generalize wA wX ad S s.heap.size = A at hI ⊢
  have hl := lv_entry ([.ref (ad 129), iV x1, iV x2] : List Value) (n := 4) (Nat.le_of_ble_eq_true rfl)
  rw [lg_entry_eq]
  generalize (lg_sl ([.ref (ad 129), iV x1, iV x2] : List Value) ++ List.replicate (4 - (lg_sl ([.ref (ad 129), iV x1, iV x2] : List Value)).length) Slot.unset).toArray = ls at hl ⊢
  have hl : lv_has ls 4 [(0, .ref (ad 129)), (1, iV x1), (2, iV x2)] := hl
  have hF : CallFix p m c cX0_round 4 s _ lw_all RX0 := ⟨hx, hb, hml, hown, hts⟩
  have hR : (headSpec (ws_ yX0_round cX0_round 4 (Option.some Jvm.ClassFile.FieldType.int)) (rmD 13 0 0)).room.frames = 13 + 1 ∧ (headSpec (ws_ yX0_round cX0_round 4 (Option.some Jvm.ClassFile.FieldType.int)) (rmD 13 0 0)).room.locals = 64 * 13 + 64 := ⟨rfl, rfl⟩
  generalize (headSpec (ws_ yX0_round cX0_round 4 (Option.some Jvm.ClassFile.FieldType.int)) (rmD 13 0 0)).room = R at hR ⊢
  generalize ([.ref (ad 129), iV x1, iV x2] : List Value).toArray = args at hts hF ⊢
  generalize hQ : MQ below _ _ _ _ _ _ = Q
  have J102 : ∀ (x2 : Int) (S : St) (H : Heap) (locs : List Loc) (ls : Array Slot), InR x2 → sI D dA wX ad A s.heap S H locs → lv_has ls 4 [(0, .ref (ad 129)), (2, iV x2)] → j_X_round_102 x2 S K → W p l e R s m args below meth c H locs 0 0 Q (F0 m 102 ls []) := by
    intro x2 S H locs ls rx2 hI hl h
    unfold j_X_round_102 at h
    refine lv_aload_n hx hb dX0_round_102 rfl (lv_at hl 0 rfl) ?_
    refine nr_iconst hx hb dX0_round_103 ?_
    refine uXX0_328_129 hF hK hI (by decide) dX0_round_104 (fun S1 H locs eS1 hI => ?_)
    replace h := h S1 eS1
    refine lv_aload_n hx hb dX0_round_107 rfl (lv_at hl 0 rfl) ?_
    refine gXX0_61_129 hF hK hI dX0_round_108 ?_
    refine nr_iconst hx hb dX0_round_111 ?_
    refine lv_aload_n hx hb dX0_round_112 rfl (lv_at hl 0 rfl) ?_
    refine gXX0_58_129 hF hK hI dX0_round_113 ?_
    refine nr_iconst hx hb dX0_round_116 ?_
    refine s_iald hx hb hK hI 12 (by decide) wX_12 (by decide) (by decide) dX0_round_117 (fun f2 => ?_)
    replace h := h f2
    refine s_iast hx hb hK hI 13 (by decide) wX_13 (by decide) (by decide) f2 dX0_round_118 (fun S3 H locs eS3 hI => ?_)
    replace h := h S3 eS3
    refine lv_aload_n hx hb dX0_round_119 rfl (lv_at hl 0 rfl) ?_
    refine nr_iconst hx hb dX0_round_120 ?_
    refine nr_iconst hx hb dX0_round_121 ?_
    refine nr_iconst hx hb dX0_round_122 ?_
    obtain ⟨d6, hd6, h⟩ := h
    refine cXX0_331 hd6 hF hK hI hl.1 hR (by decide) (Nat.le_of_ble_eq_true rfl) ⟨Nat.zero_le _, Nat.zero_le _⟩ (by decide) (by decide) (by decide) h dX0_round_123 (fun S5 H locs h hI => ?_)
    refine lv_iload_n hx hb dX0_round_126 rfl (lv_at hl 1 rfl) ?_
    refine nr_iconst hx hb dX0_round_127 ?_
    refine nr_icmp_ne hx hb rx2 (by decide) dX0_round_128 (tgt := 138) (by decide) (fun c7 => ?_) (fun c7 => ?_)
    · replace h := h.1 c7
      refine lv_aload_n hx hb dX0_round_138 rfl (lv_at hl 0 rfl) ?_
      refine gXX0_64_129 hF hK hI dX0_round_139 ?_
      refine lv_iload_n hx hb dX0_round_142 rfl (lv_at hl 1 rfl) ?_
      have f8 := h.1; replace h := h.2
      refine s_iald hx hb hK hI 14 (by decide) wX_14 rx2 f8 dX0_round_143 (fun f9 => ?_)
      replace h := h f9
      rw [← hQ]; exact s_iret (K := K) hx hb hr hlocks hI f9 h dX0_round_144
    · replace h := h.2 c7
      refine lv_aload_n hx hb dX0_round_131 rfl (lv_at hl 0 rfl) ?_
      refine gXX0_328_129 hF hK hI dX0_round_132 (fun f10 => ?_)
      replace h := h f10
      refine lv_goto (tgt := 144) hx hb dX0_round_135 (by decide) ?_
      rw [← hQ]; exact s_iret (K := K) hx hb hr hlocks hI f10 h dX0_round_144
  have L52 : ∀ (x1 : Int) (x2 : Int), InR x1 → InR x2 → ∀ (n52 : Nat) (x3 : Int) (S : St) (H : Heap) (locs : List Loc) (ls : Array Slot), InR x3 → sI D dA wX ad A s.heap S H locs → lv_has ls 4 [(0, .ref (ad 129)), (1, iV x1), (2, iV x2), (3, iV x3)] → l_X_round_52 x1 x2 K (fun (zS : St) => j_X_round_102 x2 zS K) n52 x3 S → W p l e R s m args below meth c H locs 0 0 Q (F0 m 52 ls []) := by
    intro x1 x2 rx1 rx2 n52
    induction n52 with
    | zero => intro x3 S H locs ls rx3 hI hl h; exact False.elim h
    | succ n52 ih52 =>
      intro x3 S H locs ls rx3 hI hl h
      have J96 : ∀ (x3 : Int) (S : St) (H : Heap) (locs : List Loc) (ls : Array Slot), InR x3 → sI D dA wX ad A s.heap S H locs → lv_has ls 4 [(0, .ref (ad 129)), (1, iV x1), (2, iV x2), (3, iV x3)] → j_X_round_96 x1 x2 x3 S K (fun (zS : St) => j_X_round_102 x2 zS K) (l_X_round_52 x1 x2 K (fun (zS : St) => j_X_round_102 x2 zS K) n52) → W p l e R s m args below meth c H locs 0 0 Q (F0 m 96 ls []) := by
        intro x3 S H locs ls rx3 hI hl h
        unfold j_X_round_96 at h
        have f11 := h.1; replace h := h.2
        refine nr_iinc (lv' := [(3, iV (x3 + 1)), (0, .ref (ad 129)), (1, iV x1), (2, iV x2)]) hx hb dX0_round_96 hl (k := 3) rfl (by decide) rfl (fun ls hl => ?_)
        refine lv_goto (tgt := 52) hx hb dX0_round_99 (by decide) ?_
        exact ih52 (x3 + 1) S _ _ _ f11 hI (lv_sub hl [1, 2, 3, 0] rfl) h
      unfold l_X_round_52 at h
      refine lv_iload_n hx hb dX0_round_52 rfl (lv_at hl 3 rfl) ?_
      refine lv_aload_n hx hb dX0_round_53 rfl (lv_at hl 0 rfl) ?_
      refine gXX0_12_129 hF hK hI dX0_round_54 ?_
      refine gXX0_71_130 hF hK hI dX0_round_57 ?_
      refine nr_iconst hx hb dX0_round_60 ?_
      refine s_iald hx hb hK hI 0 (by decide) wX_0 (by decide) (by decide) dX0_round_61 (fun f12 => ?_)
      replace h := h f12
      refine nr_icmp_ge hx hb rx3 f12 dX0_round_62 (tgt := 102) (by decide) (fun c13 => ?_) (fun c13 => ?_)
      · replace h := h.1 c13
        exact J102 x2 S _ _ _ rx2 hI (lv_sub hl [0, 2] rfl) h
      · replace h := h.2 c13
        refine lv_iload_n hx hb dX0_round_65 rfl (lv_at hl 1 rfl) ?_
        refine lv_iload_n hx hb dX0_round_66 rfl (lv_at hl 3 rfl) ?_
        have f14 := h.1; replace h := h.2
        refine nr_ishr hx hb f14 rx1 dX0_round_67 ?_
        have f15 : InR (x1 / 2 ^ (Int.toNat x3)) := ni_shrR rx1
        refine nr_iconst hx hb dX0_round_68 ?_
        refine nr_mask hx hb 1 (by decide) (by decide) dX0_round_69 ?_
        have f16 : InR ((x1 / 2 ^ (Int.toNat x3)) % 2) := by omega
        refine nr_if_ne hx hb f16 dX0_round_70 (tgt := 76) (by decide) (fun c17 => ?_) (fun c17 => ?_)
        · replace h := h.1 c17
          refine lv_aload_n hx hb dX0_round_76 rfl (lv_at hl 0 rfl) ?_
          refine gXX0_58_129 hF hK hI dX0_round_77 ?_
          refine lv_aload_n hx hb dX0_round_80 rfl (lv_at hl 0 rfl) ?_
          refine gXX0_325_129 hF hK hI dX0_round_81 (fun f18 => ?_)
          replace h := h f18
          refine lv_iload_n hx hb dX0_round_84 rfl (lv_at hl 3 rfl) ?_
          have f19 := h.1; replace h := h.2
          refine s_iast hx hb hK hI 12 (by decide) wX_12 f18 f19 rx3 dX0_round_85 (fun S20 H locs eS20 hI => ?_)
          replace h := h S20 eS20
          refine lv_aload_n hx hb dX0_round_86 rfl (lv_at hl 0 rfl) ?_
          refine lv_dup hx hb dX0_round_87 rfl ?_
          refine gXX0_325_129 hF hK hI dX0_round_88 (fun f21 => ?_)
          replace h := h f21
          refine nr_iconst hx hb dX0_round_91 ?_
          have f22 := h.1; replace h := h.2
          refine nr_iadd hx hb dX0_round_92 ?_
          refine uXX0_325_129 hF hK hI f22 dX0_round_93 (fun S23 H locs eS23 hI => ?_)
          replace h := h S23 eS23
          exact J96 x3 S23 _ _ _ rx3 hI (lv_sub hl [0, 1, 2, 3] rfl) h
        · replace h := h.2 c17
          refine lv_goto (tgt := 96) hx hb dX0_round_73 (by decide) ?_
          exact J96 x3 S _ _ _ rx3 hI (lv_sub hl [0, 1, 2, 3] rfl) h
  unfold w_X_round at h
  refine lv_iload_n hx hb dX0_round_0 rfl (lv_at hl 1 rfl) ?_
  refine nr_iconst hx hb dX0_round_1 ?_
  refine nr_iconst hx hb dX0_round_2 ?_
  refine lv_aload_n hx hb dX0_round_3 rfl (lv_at hl 0 rfl) ?_
  refine gXX0_12_129 hF hK hI dX0_round_4 ?_
  refine gXX0_71_130 hF hK hI dX0_round_7 ?_
  refine nr_iconst hx hb dX0_round_10 ?_
  refine s_iald hx hb hK hI 0 (by decide) wX_0 (by decide) (by decide) dX0_round_11 (fun f24 => ?_)
  replace h := h f24
  have f25 := h.1; replace h := h.2
  have f26 := h.1; replace h := h.2
  refine nr_ishl hx hb f25 f26 dX0_round_12 ?_
  refine nr_iconst hx hb dX0_round_13 ?_
  have f27 := h.1; replace h := h.2
  refine nr_isub hx hb dX0_round_14 ?_
  refine cXX0_74 hF hK hI hl.1 hR (by decide) (Nat.le_of_ble_eq_true rfl) ⟨Nat.zero_le _, Nat.zero_le _⟩ rx1 (by decide) f27 h dX0_round_15 (fun r28 H locs fr28 h hI => ?_)
  replace h := h fr28
  have gr28 : InR r28 := kdP_R (k := 2) (by decide) fr28
  refine nr_if_eq hx hb gr28 dX0_round_18 (tgt := 43) (by decide) (fun c30 => ?_) (fun c30 => ?_)
  · replace h := h.1 c30
    refine nr_iconst hx hb dX0_round_43 ?_
    rw [← hQ]; exact s_iret (K := K) hx hb hr hlocks hI (by decide) h dX0_round_44
  · replace h := h.2 c30
    refine lv_iload_n hx hb dX0_round_21 rfl (lv_at hl 1 rfl) ?_
    refine cXX0_166 hF hK hI hl.1 hR (by decide) (Nat.le_of_ble_eq_true rfl) ⟨Nat.zero_le _, Nat.zero_le _⟩ rx1 h dX0_round_22 (fun r31 H locs fr31 h hI => ?_)
    replace h := h fr31
    refine nr_bipush hx hb dX0_round_25 (by decide) ?_
    refine nr_icmp_gt hx hb fr31 (by decide) dX0_round_27 (tgt := 43) (by decide) (fun c33 => ?_) (fun c33 => ?_)
    · replace h := h.1 c33
      refine nr_iconst hx hb dX0_round_43 ?_
      rw [← hQ]; exact s_iret (K := K) hx hb hr hlocks hI (by decide) h dX0_round_44
    · replace h := h.2 c33
      refine lv_iload_n hx hb dX0_round_30 rfl (lv_at hl 2 rfl) ?_
      refine nr_iconst hx hb dX0_round_31 ?_
      refine nr_icmp_lt hx hb rx2 (by decide) dX0_round_32 (tgt := 43) (by decide) (fun c34 => ?_) (fun c34 => ?_)
      · replace h := h.1 c34
        refine nr_iconst hx hb dX0_round_43 ?_
        rw [← hQ]; exact s_iret (K := K) hx hb hr hlocks hI (by decide) h dX0_round_44
      · replace h := h.2 c34
        refine lv_iload_n hx hb dX0_round_35 rfl (lv_at hl 2 rfl) ?_
        refine lv_iload_n hx hb dX0_round_36 rfl (lv_at hl 1 rfl) ?_
        refine cXX0_166 hF hK hI hl.1 hR (by decide) (Nat.le_of_ble_eq_true rfl) ⟨Nat.zero_le _, Nat.zero_le _⟩ rx1 h dX0_round_37 (fun r35 H locs fr35 h hI => ?_)
        replace h := h fr35
        refine nr_icmp_lt hx hb rx2 fr35 dX0_round_40 (tgt := 45) (by decide) (fun c37 => ?_) (fun c37 => ?_)
        · replace h := h.1 c37
          refine lv_aload_n hx hb dX0_round_45 rfl (lv_at hl 0 rfl) ?_
          refine nr_iconst hx hb dX0_round_46 ?_
          refine uXX0_325_129 hF hK hI (by decide) dX0_round_47 (fun S38 H locs eS38 hI => ?_)
          replace h := h S38 eS38
          refine nr_iconst hx hb dX0_round_50 ?_
          refine lv_istore_n (lv' := [(3, iV 0), (0, .ref (ad 129)), (1, iV x1), (2, iV x2)]) hx hb dX0_round_51 rfl hl (by decide) rfl (fun ls hl => ?_)
          obtain ⟨n0, h⟩ := h
          exact L52 x1 x2 rx1 rx2 n0 0 S38 _ _ _ (by decide) hI (lv_sub hl [1, 2, 3, 0] rfl) h
        · replace h := h.2 c37
          refine nr_iconst hx hb dX0_round_43 ?_
          rw [← hQ]; exact s_iret (K := K) hx hb hr hlocks hI (by decide) h dX0_round_44
theorem gXX0_334_129 {p : Program} {l : Launch} {e : Env} {R : Room} {s : State} {m : MethodId} {args : Array Value} {below : List Frame} {meth : Method} {c : Code} {H : Heap} {locs : List Loc} {Q : State → Prop} {cc : ByteArray} {nL pc : Nat} {ls : Array Slot} {rest : List Value} {cells slots : Nat} {D : va_G} {dA : Nat → ClassId} {ad : Nat → Nat} {A : Nat → Prop} {H0 : Heap} {S : St} (hF : CallFix p m c cc nL s args lw_all RX0) (hK : gK D dA s) (hI : sI D dA wX ad A H0 S H locs) (hdg : decode cc pc = .ok (.getfield 334, 3)) (kk : InR (fI S 20) → W p l e R s m args below meth c H locs cells slots Q (F0 m (pc + 3) ls (iV (fI S 20) :: rest))) : W p l e R s m args below meth c H locs cells slots Q (F0 m (pc) ls (.ref (ad 129) :: rest)) := s_geti hF.1 hF.2.1 hF.2.2.2.2 hF.2.2.2.1 hK hI 129 (by decide) wX_129 rfl in_X0 20 (by decide) q224 rfl 0 20 rfl (by decide) hdg (kk (kdP_R (k := 0) (by decide) (hI.1.2.2.2.1.1 20)))
theorem uXX0_334_129 {p : Program} {l : Launch} {e : Env} {R : Room} {s : State} {m : MethodId} {args : Array Value} {below : List Frame} {meth : Method} {c : Code} {H : Heap} {locs : List Loc} {Q : State → Prop} {cc : ByteArray} {nL pc : Nat} {ls : Array Slot} {rest : List Value} {cells slots : Nat} {D : va_G} {dA : Nat → ClassId} {ad : Nat → Nat} {A : Nat → Prop} {H0 : Heap} {S : St} (hF : CallFix p m c cc nL s args lw_all RX0) (hK : gK D dA s) (hI : sI D dA wX ad A H0 S H locs) {v : Int} (hv : InR v) (hdg : decode cc pc = .ok (.putfield 334, 3)) (kk : ∀ (S1 : St) (H1 : Heap) (locs1 : List Loc), S1 = fset S 20 v → sI D dA wX ad A H0 S1 H1 locs1 → W p l e R s m args below meth c H1 locs1 cells slots Q (F0 m (pc + 3) ls (rest))) : W p l e R s m args below meth c H locs cells slots Q (F0 m (pc) ls (iV v :: .ref (ad 129) :: rest)) := s_put hF.1 hF.2.1 wX_U tyX0 tyX0_ok nmX0 hF.2.2.2.2 hF.2.2.2.1 hK hI 129 (by decide) wX_129 rfl in_X0 20 (by decide) q224 rfl 0 20 rfl hv rfl rfl rfl hdg (fun H1 locs1 h => kk _ H1 locs1 rfl h)
set_option maxHeartbeats 4000000 in
theorem t_X_draw (l : Launch) (D : va_G) (dA : Nat → ClassId) (ad : Nat → Nat) (S : St) (sz : Nat) (x1 : Int) (K : Int → St → Prop) (rx1 : InR x1) (h : w_X_draw x1 S K) : Met l yX0_draw (ws_ yX0_draw cX0_draw 3 (Option.some Jvm.ClassFile.FieldType.int)) (rmD 0 0 0) (va_Pc [.ref (ad 129), iV x1] (sPre D dA wX ad S sz)) (va_Qi (fun r S' => K r.toInt S') (sPost D dA wX ad (wA wX ad S sz)) (wA wX ad S sz)) 0 0 (wA wX ad S sz) := by
  refine Met.ofW (cc := cX0_draw) (maxL := 3) (ret := (Option.some Jvm.ClassFile.FieldType.int)) (by decide) rfl ?_
  intro p e s m args below meth c s₁ B hml hv
  obtain ⟨rfl, hsz, hK, hC⟩ := hv
  have hx := B.exec
  have hb := B.bytes
  have hr := B.returns
  have hlocks := B.notSynchronized
  have hts := atoms_spec (ws := (ws_ yX0_draw cX0_draw 3 (Option.some Jvm.ClassFile.FieldType.int))) B.pre
  have hts : ∀ w ∈ lw_all, w.before _ s = true := fun w h => hts w (List.mem_cons_of_mem _ h)
  have hown : s.vm.findClass RX0 = some m.cls := findClass_of_methodNamed B.named
  clear B
  subst hsz
  have hI : sI D dA wX ad (wA wX ad S s.heap.size) s.heap S s.heap [] := hC.start
  clear hC
  generalize wA wX ad S s.heap.size = A at hI ⊢
  have hl := lv_entry ([.ref (ad 129), iV x1] : List Value) (n := 3) (Nat.le_of_ble_eq_true rfl)
  rw [lg_entry_eq]
  generalize (lg_sl ([.ref (ad 129), iV x1] : List Value) ++ List.replicate (3 - (lg_sl ([.ref (ad 129), iV x1] : List Value)).length) Slot.unset).toArray = ls at hl ⊢
  have hl : lv_has ls 3 [(0, .ref (ad 129)), (1, iV x1)] := hl
  have hF : CallFix p m c cX0_draw 3 s _ lw_all RX0 := ⟨hx, hb, hml, hown, hts⟩
  have hR : (headSpec (ws_ yX0_draw cX0_draw 3 (Option.some Jvm.ClassFile.FieldType.int)) (rmD 0 0 0)).room.frames = 0 + 1 ∧ (headSpec (ws_ yX0_draw cX0_draw 3 (Option.some Jvm.ClassFile.FieldType.int)) (rmD 0 0 0)).room.locals = 64 * 0 + 64 := ⟨rfl, rfl⟩
  generalize (headSpec (ws_ yX0_draw cX0_draw 3 (Option.some Jvm.ClassFile.FieldType.int)) (rmD 0 0 0)).room = R at hR ⊢
  generalize ([.ref (ad 129), iV x1] : List Value).toArray = args at hts hF ⊢
  generalize hQ : MQ below _ _ _ _ _ _ = Q
  unfold w_X_draw at h
  refine lv_aload_n hx hb dX0_draw_0 rfl (lv_at hl 0 rfl) ?_
  refine gXX0_334_129 hF hK hI dX0_draw_1 (fun f1 => ?_)
  replace h := h f1
  refine lv_iload_n hx hb dX0_draw_4 rfl (lv_at hl 1 rfl) ?_
  have f2 := h.1; replace h := h.2
  have f3 := h.1; replace h := h.2
  refine nr_irem hx hb f1 rx1 f2 dX0_draw_5 ?_
  refine nr_topi (fun v4 ev4 => ?_)
  have rv4 : InR v4 := by rw [ev4]; exact f3
  replace h := h v4 ev4 rv4
  refine lv_istore_n (lv' := [(2, iV v4), (0, .ref (ad 129)), (1, iV x1)]) hx hb dX0_draw_6 rfl hl (by decide) rfl (fun ls hl => ?_)
  refine lv_aload_n hx hb dX0_draw_7 rfl (lv_at hl 1 rfl) ?_
  refine lv_aload_n hx hb dX0_draw_8 rfl (lv_at hl 1 rfl) ?_
  refine gXX0_334_129 hF hK hI dX0_draw_9 (fun f5 => ?_)
  refine nr_sipush hx hb dX0_draw_12 (by decide) ?_
  have f6 := h.1; replace h := h.2
  refine nr_imul hx hb dX0_draw_15 ?_
  refine nr_bipush hx hb dX0_draw_16 (by decide) ?_
  have f7 := h.1; replace h := h.2
  refine nr_iadd hx hb dX0_draw_18 ?_
  refine nr_sipush hx hb dX0_draw_19 (by decide) ?_
  have f8 := h.1; replace h := h.2
  refine nr_irem hx hb f7 (by decide) (by decide) dX0_draw_22 ?_
  refine uXX0_334_129 hF hK hI f8 dX0_draw_23 (fun S9 H locs eS9 hI => ?_)
  replace h := h S9 eS9
  refine lv_iload_n hx hb dX0_draw_26 rfl (lv_at hl 0 rfl) ?_
  rw [← hQ]; exact s_iret (K := K) hx hb hr hlocks hI rv4 h dX0_draw_27
set_option maxHeartbeats 4000000 in
theorem t_X_atTown (l : Launch) (D : va_G) (dA : Nat → ClassId) (ad : Nat → Nat) (S : St) (sz : Nat) (x1 : Int) (K : Int → Prop) (rx1 : InR x1) (h : w_X_atTown x1 S K) : Met l yX0_atTown (ws_ yX0_atTown cX0_atTown 4 (Option.some Jvm.ClassFile.FieldType.int)) (rmD 1 0 0) (va_Pc [.ref (ad 129), iV x1] (sPre D dA wX ad S sz)) (va_Qi (fun r S' => S' = S ∧ K r.toInt) (sPost D dA wX ad (wA wX ad S sz)) (wA wX ad S sz)) 0 0 (wA wX ad S sz) := by
  refine Met.ofW (cc := cX0_atTown) (maxL := 4) (ret := (Option.some Jvm.ClassFile.FieldType.int)) (by decide) rfl ?_
  intro p e s m args below meth c s₁ B hml hv
  obtain ⟨rfl, hsz, hK, hC⟩ := hv
  have hx := B.exec
  have hb := B.bytes
  have hr := B.returns
  have hlocks := B.notSynchronized
  have hts := atoms_spec (ws := (ws_ yX0_atTown cX0_atTown 4 (Option.some Jvm.ClassFile.FieldType.int))) B.pre
  have hts : ∀ w ∈ lw_all, w.before _ s = true := fun w h => hts w (List.mem_cons_of_mem _ h)
  have hown : s.vm.findClass RX0 = some m.cls := findClass_of_methodNamed B.named
  clear B
  subst hsz
  have hI : sI D dA wX ad (wA wX ad S s.heap.size) s.heap S s.heap [] := hC.start
  clear hC
  generalize wA wX ad S s.heap.size = A at hI ⊢
  have hl := lv_entry ([.ref (ad 129), iV x1] : List Value) (n := 4) (Nat.le_of_ble_eq_true rfl)
  rw [lg_entry_eq]
  generalize (lg_sl ([.ref (ad 129), iV x1] : List Value) ++ List.replicate (4 - (lg_sl ([.ref (ad 129), iV x1] : List Value)).length) Slot.unset).toArray = ls at hl ⊢
  have hl : lv_has ls 4 [(0, .ref (ad 129)), (1, iV x1)] := hl
  have hF : CallFix p m c cX0_atTown 4 s _ lw_all RX0 := ⟨hx, hb, hml, hown, hts⟩
  have hR : (headSpec (ws_ yX0_atTown cX0_atTown 4 (Option.some Jvm.ClassFile.FieldType.int)) (rmD 1 0 0)).room.frames = 1 + 1 ∧ (headSpec (ws_ yX0_atTown cX0_atTown 4 (Option.some Jvm.ClassFile.FieldType.int)) (rmD 1 0 0)).room.locals = 64 * 1 + 64 := ⟨rfl, rfl⟩
  generalize (headSpec (ws_ yX0_atTown cX0_atTown 4 (Option.some Jvm.ClassFile.FieldType.int)) (rmD 1 0 0)).room = R at hR ⊢
  generalize ([.ref (ad 129), iV x1] : List Value).toArray = args at hts hF ⊢
  generalize hQ : MQ below _ _ _ _ _ _ = Q
  have L4 : ∀ (x1 : Int), InR x1 → ∀ (n4 : Nat) (x2 : Int) (x3 : Int) (H : Heap) (locs : List Loc) (ls : Array Slot), InR x2 → InR x3 → sI D dA wX ad A s.heap S H locs → lv_has ls 4 [(0, .ref (ad 129)), (1, iV x1), (2, iV x2), (3, iV x3)] → l_X_atTown_4 x1 S K n4 x2 x3 → W p l e R s m args below meth c H locs 0 0 Q (F0 m 4 ls []) := by
    intro x1 rx1 n4
    induction n4 with
    | zero => intro x2 x3 H locs ls rx2 rx3 hI hl h; exact False.elim h
    | succ n4 ih4 =>
      intro x2 x3 H locs ls rx2 rx3 hI hl h
      have J33 : ∀ (x3 : Int) (y0 : Int) (y1 : Int) (H : Heap) (locs : List Loc) (ls : Array Slot), InR x3 → InR y0 → InR y1 → sI D dA wX ad A s.heap S H locs → lv_has ls 4 [(0, .ref (ad 129)), (1, iV x1), (3, iV x3)] → j_X_atTown_33 x1 x3 y0 y1 S K (l_X_atTown_4 x1 S K n4) → W p l e R s m args below meth c H locs 0 0 Q (F0 m 33 ls [iV y1, iV y0]) := by
        intro x3 y0 y1 H locs ls rx3 ry0 ry1 hI hl h
        unfold j_X_atTown_33 at h
        have f1 := h.1; replace h := h.2
        refine nr_iadd hx hb dX0_atTown_33 ?_
        refine nr_topi (fun v2 ev2 => ?_)
        have rv2 : InR v2 := by rw [ev2]; exact f1
        replace h := h v2 ev2 rv2
        refine lv_istore_n (lv' := [(2, iV v2), (0, .ref (ad 129)), (1, iV x1), (3, iV x3)]) hx hb dX0_atTown_34 rfl hl (by decide) rfl (fun ls hl => ?_)
        have f3 := h.1; replace h := h.2
        refine nr_iinc (lv' := [(3, iV (x3 + 1)), (2, iV v2), (0, .ref (ad 129)), (1, iV x1)]) hx hb dX0_atTown_35 hl (k := 3) rfl (by decide) rfl (fun ls hl => ?_)
        refine lv_goto (tgt := 4) hx hb dX0_atTown_38 (by decide) ?_
        exact ih4 v2 (x3 + 1) _ _ _ rv2 f3 hI (lv_sub hl [2, 3, 1, 0] rfl) h
      unfold l_X_atTown_4 at h
      refine lv_iload_n hx hb dX0_atTown_4 rfl (lv_at hl 3 rfl) ?_
      refine lv_aload_n hx hb dX0_atTown_5 rfl (lv_at hl 0 rfl) ?_
      refine gXX0_12_129 hF hK hI dX0_atTown_6 ?_
      refine gXX0_71_130 hF hK hI dX0_atTown_9 ?_
      refine nr_iconst hx hb dX0_atTown_12 ?_
      refine s_iald hx hb hK hI 0 (by decide) wX_0 (by decide) (by decide) dX0_atTown_13 (fun f4 => ?_)
      replace h := h f4
      refine nr_icmp_ge hx hb rx3 f4 dX0_atTown_14 (tgt := 41) (by decide) (fun c5 => ?_) (fun c5 => ?_)
      · replace h := h.1 c5
        refine lv_iload_n hx hb dX0_atTown_41 rfl (lv_at hl 2 rfl) ?_
        rw [← hQ]; exact s_iret (K := fun r S' => S' = S ∧ K r) hx hb hr hlocks hI rx2 ⟨rfl, h⟩ dX0_atTown_42
      · replace h := h.2 c5
        refine lv_iload_n hx hb dX0_atTown_17 rfl (lv_at hl 2 rfl) ?_
        refine lv_aload_n hx hb dX0_atTown_18 rfl (lv_at hl 0 rfl) ?_
        refine lv_iload_n hx hb dX0_atTown_19 rfl (lv_at hl 3 rfl) ?_
        refine nr_iconst hx hb dX0_atTown_20 ?_
        refine cXX0_149 hF hK hI hl.1 hR (by decide) (Nat.le_of_ble_eq_true rfl) ⟨Nat.zero_le _, Nat.zero_le _⟩ rx3 (by decide) h dX0_atTown_21 (fun r6 H locs fr6 h hI => ?_)
        replace h := h fr6
        refine lv_iload_n hx hb dX0_atTown_24 rfl (lv_at hl 1 rfl) ?_
        refine nr_icmp_ne hx hb fr6 rx1 dX0_atTown_25 (tgt := 32) (by decide) (fun c8 => ?_) (fun c8 => ?_)
        · replace h := h.1 c8
          refine nr_iconst hx hb dX0_atTown_32 ?_
          exact J33 x3 x2 0 _ _ _ rx3 rx2 (by decide) hI (lv_sub hl [0, 1, 3] rfl) h
        · replace h := h.2 c8
          refine nr_iconst hx hb dX0_atTown_28 ?_
          refine lv_goto (tgt := 33) hx hb dX0_atTown_29 (by decide) ?_
          exact J33 x3 x2 1 _ _ _ rx3 rx2 (by decide) hI (lv_sub hl [0, 1, 3] rfl) h
  unfold w_X_atTown at h
  refine nr_iconst hx hb dX0_atTown_0 ?_
  refine lv_istore_n (lv' := [(2, iV 0), (0, .ref (ad 129)), (1, iV x1)]) hx hb dX0_atTown_1 rfl hl (by decide) rfl (fun ls hl => ?_)
  refine nr_iconst hx hb dX0_atTown_2 ?_
  refine lv_istore_n (lv' := [(3, iV 0), (2, iV 0), (0, .ref (ad 129)), (1, iV x1)]) hx hb dX0_atTown_3 rfl hl (by decide) rfl (fun ls hl => ?_)
  obtain ⟨n0, h⟩ := h
  exact L4 x1 rx1 n0 0 0 _ _ _ (by decide) (by decide) hI (lv_sub hl [2, 3, 1, 0] rfl) h
theorem cXX0_342 {p : Program} {l : Launch} {e : Env} {R : Room} {s : State} {m : MethodId} {args : Array Value} {below : List Frame} {meth : Method} {c : Code} {H : Heap} {locs : List Loc} {Q : State → Prop} {cc : ByteArray} {nL pc : Nat} {ls : Array Slot} {rest : List Value} {cells slots : Nat} {D : va_G} {dA : Nat → ClassId} {ad : Nat → Nat} {A : Nat → Prop} {H0 : Heap} {S : St} {dk : Nat} (hF : CallFix p m c cc nL s args lw_all RX0) (hK : gK D dA s) (hI : sI D dA wX ad A H0 S H locs) (hls : ls.size = nL) (hR : R.frames = dk + 1 ∧ R.locals = 64 * dk + 64) (hd : 1 + 1 ≤ dk) (hW : (rest.map fun v => v.category).sum ≤ 8) (hf : cells ≤ R.cells ∧ slots ≤ R.slots) {x1 : Int} {K : Int → Prop} (r1 : InR x1) (h : w_X_atTown x1 S K) (hdg : decode cc pc = .ok (.invokevirtual 342, 3)) (kk : ∀ (r : Int) (H1 : Heap) (locs1 : List Loc), InR r → K r → sI D dA wX ad A H0 S H1 locs1 → W p l e R s m args below meth c H1 locs1 cells slots Q (F0 m (pc + 3) ls (iV r :: rest))) : W p l e R s m args below meth c H locs cells slots Q (F0 m (pc) ls (iV x1 :: .ref (ad 129) :: rest)) := s_callVi (As := [iV x1]) (rest := rest) (K := fun r S' => S' = S ∧ K r) hF (t_X_atTown l D dA ad S H.size x1 K r1 h) (s_recv hK hI 129 (by decide) wX_129 rfl) (cwV 1 hF.2.2.2.2 (lw_V q1149 q1151 qs48 q106 q1152) rfl rfl rfl (by decide +kernel) ⟨by have h1 := hR.1; have h2 : (rmD 1 0 0).frames = 1 + 1 := rfl; omega, by have h1 := hR.2; have h2 : (rmD 1 0 0).locals = 64 * 1 + 64 := rfl; omega⟩) hK hI rfl hls rfl hW hdg hf (fun r S1 H1 locs1 f hk hI1 => by obtain ⟨rfl, hk⟩ := hk; exact kk r H1 locs1 f hk hI1)
set_option maxHeartbeats 4000000 in
theorem t_X_about (l : Launch) (D : va_G) (dA : Nat → ClassId) (ad : Nat → Nat) (S : St) (sz : Nat) (x1 : Int) (K : Int → Prop) (rx1 : InR x1) (h : w_X_about x1 S K) : Met l yX0_about (ws_ yX0_about cX0_about 2 (Option.some Jvm.ClassFile.FieldType.int)) (rmD 2 0 0) (va_Pc [.ref (ad 129), iV x1] (sPre D dA wX ad S sz)) (va_Qi (fun r S' => S' = S ∧ K r.toInt) (sPost D dA wX ad (wA wX ad S sz)) (wA wX ad S sz)) 0 0 (wA wX ad S sz) := by
  refine Met.ofW (cc := cX0_about) (maxL := 2) (ret := (Option.some Jvm.ClassFile.FieldType.int)) (by decide) rfl ?_
  intro p e s m args below meth c s₁ B hml hv
  obtain ⟨rfl, hsz, hK, hC⟩ := hv
  have hx := B.exec
  have hb := B.bytes
  have hr := B.returns
  have hlocks := B.notSynchronized
  have hts := atoms_spec (ws := (ws_ yX0_about cX0_about 2 (Option.some Jvm.ClassFile.FieldType.int))) B.pre
  have hts : ∀ w ∈ lw_all, w.before _ s = true := fun w h => hts w (List.mem_cons_of_mem _ h)
  have hown : s.vm.findClass RX0 = some m.cls := findClass_of_methodNamed B.named
  clear B
  subst hsz
  have hI : sI D dA wX ad (wA wX ad S s.heap.size) s.heap S s.heap [] := hC.start
  clear hC
  generalize wA wX ad S s.heap.size = A at hI ⊢
  have hl := lv_entry ([.ref (ad 129), iV x1] : List Value) (n := 2) (Nat.le_of_ble_eq_true rfl)
  rw [lg_entry_eq]
  generalize (lg_sl ([.ref (ad 129), iV x1] : List Value) ++ List.replicate (2 - (lg_sl ([.ref (ad 129), iV x1] : List Value)).length) Slot.unset).toArray = ls at hl ⊢
  have hl : lv_has ls 2 [(0, .ref (ad 129)), (1, iV x1)] := hl
  have hF : CallFix p m c cX0_about 2 s _ lw_all RX0 := ⟨hx, hb, hml, hown, hts⟩
  have hR : (headSpec (ws_ yX0_about cX0_about 2 (Option.some Jvm.ClassFile.FieldType.int)) (rmD 2 0 0)).room.frames = 2 + 1 ∧ (headSpec (ws_ yX0_about cX0_about 2 (Option.some Jvm.ClassFile.FieldType.int)) (rmD 2 0 0)).room.locals = 64 * 2 + 64 := ⟨rfl, rfl⟩
  generalize (headSpec (ws_ yX0_about cX0_about 2 (Option.some Jvm.ClassFile.FieldType.int)) (rmD 2 0 0)).room = R at hR ⊢
  generalize ([.ref (ad 129), iV x1] : List Value).toArray = args at hts hF ⊢
  generalize hQ : MQ below _ _ _ _ _ _ = Q
  unfold w_X_about at h
  refine lv_iload_n hx hb dX0_about_0 rfl (lv_at hl 1 rfl) ?_
  have hcs : x1 = 0 ∨ x1 = 1 ∨ x1 = 2 ∨ x1 = 3 ∨ x1 = 4 ∨ x1 = 5 ∨ x1 = 6 ∨ x1 = 7 ∨ x1 = 8 ∨ x1 = 9 ∨ ¬ (0 ≤ x1 ∧ x1 ≤ 9) := by omega
  rcases hcs with c1 | c1 | c1 | c1 | c1 | c1 | c1 | c1 | c1 | c1 | c1
  · replace h := h.1 c1
    refine nr_tableIn hx hb 0 c1 (by decide) dX0_about_1 (by decide) rfl (tgt := 56) (by decide) ?_
    refine lv_aload_n hx hb dX0_about_56 rfl (lv_at hl 0 rfl) ?_
    refine gXX0_12_129 hF hK hI dX0_about_57 ?_
    refine gXX0_71_130 hF hK hI dX0_about_60 ?_
    refine nr_iconst hx hb dX0_about_63 ?_
    refine s_iald hx hb hK hI 0 (by decide) wX_0 (by decide) (by decide) dX0_about_64 (fun f2 => ?_)
    replace h := h f2
    rw [← hQ]; exact s_iret (K := fun r S' => S' = S ∧ K r) hx hb hr hlocks hI f2 ⟨rfl, h⟩ dX0_about_65
  · replace h := h.2.1 c1
    refine nr_tableIn hx hb 1 c1 (by decide) dX0_about_1 (by decide) rfl (tgt := 66) (by decide) ?_
    refine lv_aload_n hx hb dX0_about_66 rfl (lv_at hl 0 rfl) ?_
    refine gXX0_12_129 hF hK hI dX0_about_67 ?_
    refine gXX0_71_130 hF hK hI dX0_about_70 ?_
    refine nr_iconst hx hb dX0_about_73 ?_
    refine s_iald hx hb hK hI 0 (by decide) wX_0 (by decide) (by decide) dX0_about_74 (fun f3 => ?_)
    replace h := h f3
    rw [← hQ]; exact s_iret (K := fun r S' => S' = S ∧ K r) hx hb hr hlocks hI f3 ⟨rfl, h⟩ dX0_about_75
  · replace h := h.2.2.1 c1
    refine nr_tableIn hx hb 2 c1 (by decide) dX0_about_1 (by decide) rfl (tgt := 76) (by decide) ?_
    refine lv_aload_n hx hb dX0_about_76 rfl (lv_at hl 0 rfl) ?_
    refine cXX0_156 hF hK hI hl.1 hR (by decide) (Nat.le_of_ble_eq_true rfl) ⟨Nat.zero_le _, Nat.zero_le _⟩ h dX0_about_77 (fun r4 H locs fr4 h hI => ?_)
    replace h := h fr4
    rw [← hQ]; exact s_iret (K := fun r S' => S' = S ∧ K r) hx hb hr hlocks hI fr4 ⟨rfl, h⟩ dX0_about_80
  · replace h := h.2.2.2.1 c1
    refine nr_tableIn hx hb 3 c1 (by decide) dX0_about_1 (by decide) rfl (tgt := 81) (by decide) ?_
    refine lv_aload_n hx hb dX0_about_81 rfl (lv_at hl 0 rfl) ?_
    refine gXX0_12_129 hF hK hI dX0_about_82 ?_
    refine gXX0_71_130 hF hK hI dX0_about_85 ?_
    refine nr_iconst hx hb dX0_about_88 ?_
    refine s_iald hx hb hK hI 0 (by decide) wX_0 (by decide) (by decide) dX0_about_89 (fun f6 => ?_)
    replace h := h f6
    rw [← hQ]; exact s_iret (K := fun r S' => S' = S ∧ K r) hx hb hr hlocks hI f6 ⟨rfl, h⟩ dX0_about_90
  · replace h := h.2.2.2.2.1 c1
    refine nr_tableIn hx hb 4 c1 (by decide) dX0_about_1 (by decide) rfl (tgt := 91) (by decide) ?_
    refine lv_aload_n hx hb dX0_about_91 rfl (lv_at hl 0 rfl) ?_
    refine gXX0_12_129 hF hK hI dX0_about_92 ?_
    refine gXX0_71_130 hF hK hI dX0_about_95 ?_
    refine nr_iconst hx hb dX0_about_98 ?_
    refine s_iald hx hb hK hI 0 (by decide) wX_0 (by decide) (by decide) dX0_about_99 (fun f7 => ?_)
    replace h := h f7
    rw [← hQ]; exact s_iret (K := fun r S' => S' = S ∧ K r) hx hb hr hlocks hI f7 ⟨rfl, h⟩ dX0_about_100
  · replace h := h.2.2.2.2.2.1 c1
    refine nr_tableIn hx hb 5 c1 (by decide) dX0_about_1 (by decide) rfl (tgt := 101) (by decide) ?_
    refine lv_aload_n hx hb dX0_about_101 rfl (lv_at hl 0 rfl) ?_
    refine gXX0_12_129 hF hK hI dX0_about_102 ?_
    refine gXX0_71_130 hF hK hI dX0_about_105 ?_
    refine nr_iconst hx hb dX0_about_108 ?_
    refine s_iald hx hb hK hI 0 (by decide) wX_0 (by decide) (by decide) dX0_about_109 (fun f8 => ?_)
    replace h := h f8
    rw [← hQ]; exact s_iret (K := fun r S' => S' = S ∧ K r) hx hb hr hlocks hI f8 ⟨rfl, h⟩ dX0_about_110
  · replace h := h.2.2.2.2.2.2.1 c1
    refine nr_tableIn hx hb 6 c1 (by decide) dX0_about_1 (by decide) rfl (tgt := 111) (by decide) ?_
    refine lv_aload_n hx hb dX0_about_111 rfl (lv_at hl 0 rfl) ?_
    refine gXX0_12_129 hF hK hI dX0_about_112 ?_
    refine gXX0_71_130 hF hK hI dX0_about_115 ?_
    refine nr_iconst hx hb dX0_about_118 ?_
    refine s_iald hx hb hK hI 0 (by decide) wX_0 (by decide) (by decide) dX0_about_119 (fun f9 => ?_)
    replace h := h f9
    rw [← hQ]; exact s_iret (K := fun r S' => S' = S ∧ K r) hx hb hr hlocks hI f9 ⟨rfl, h⟩ dX0_about_120
  · replace h := h.2.2.2.2.2.2.2.1 c1
    refine nr_tableIn hx hb 7 c1 (by decide) dX0_about_1 (by decide) rfl (tgt := 121) (by decide) ?_
    refine lv_aload_n hx hb dX0_about_121 rfl (lv_at hl 0 rfl) ?_
    refine gXX0_12_129 hF hK hI dX0_about_122 ?_
    refine gXX0_71_130 hF hK hI dX0_about_125 ?_
    refine nr_bipush hx hb dX0_about_128 (by decide) ?_
    refine s_iald hx hb hK hI 0 (by decide) wX_0 (by decide) (by decide) dX0_about_130 (fun f10 => ?_)
    replace h := h f10
    rw [← hQ]; exact s_iret (K := fun r S' => S' = S ∧ K r) hx hb hr hlocks hI f10 ⟨rfl, h⟩ dX0_about_131
  · replace h := h.2.2.2.2.2.2.2.2.1 c1
    refine nr_tableIn hx hb 8 c1 (by decide) dX0_about_1 (by decide) rfl (tgt := 132) (by decide) ?_
    refine lv_aload_n hx hb dX0_about_132 rfl (lv_at hl 0 rfl) ?_
    refine gXX0_12_129 hF hK hI dX0_about_133 ?_
    refine gXX0_71_130 hF hK hI dX0_about_136 ?_
    refine nr_bipush hx hb dX0_about_139 (by decide) ?_
    refine s_iald hx hb hK hI 0 (by decide) wX_0 (by decide) (by decide) dX0_about_141 (fun f11 => ?_)
    replace h := h f11
    rw [← hQ]; exact s_iret (K := fun r S' => S' = S ∧ K r) hx hb hr hlocks hI f11 ⟨rfl, h⟩ dX0_about_142
  · replace h := h.2.2.2.2.2.2.2.2.2.1 c1
    refine nr_tableIn hx hb 9 c1 (by decide) dX0_about_1 (by decide) rfl (tgt := 143) (by decide) ?_
    refine lv_aload_n hx hb dX0_about_143 rfl (lv_at hl 0 rfl) ?_
    refine gXX0_120_129 hF hK hI dX0_about_144 (fun f12 => ?_)
    replace h := h f12
    rw [← hQ]; exact s_iret (K := fun r S' => S' = S ∧ K r) hx hb hr hlocks hI f12 ⟨rfl, h⟩ dX0_about_147
  · replace h := h.2.2.2.2.2.2.2.2.2.2 c1
    refine nr_tableOut hx hb rx1 dX0_about_1 c1 (tgt := 148) (by decide) ?_
    refine lv_aload_n hx hb dX0_about_148 rfl (lv_at hl 0 rfl) ?_
    refine lv_iload_n hx hb dX0_about_149 rfl (lv_at hl 1 rfl) ?_
    refine nr_bipush hx hb dX0_about_150 (by decide) ?_
    refine nr_isubw hx hb dX0_about_152 ?_
    refine nr_topi (fun v13 ev13 => ?_)
    have rv13 : InR v13 := by rw [ev13]; exact ni_wR _
    replace h := h v13 ev13 rv13
    refine cXX0_93 hF hK hI hl.1 hR (by decide) (Nat.le_of_ble_eq_true rfl) ⟨Nat.zero_le _, Nat.zero_le _⟩ rv13 h dX0_about_153 (fun r14 H locs fr14 h hI => ?_)
    replace h := h fr14
    have gr14 : InR r14 := kdP_R (k := 2) (by decide) fr14
    refine nr_if_eq hx hb gr14 dX0_about_156 (tgt := 178) (by decide) (fun c16 => ?_) (fun c16 => ?_)
    · replace h := h.1 c16
      refine lv_aload_n hx hb dX0_about_178 rfl (lv_at hl 0 rfl) ?_
      refine lv_iload_n hx hb dX0_about_179 rfl (lv_at hl 1 rfl) ?_
      refine nr_bipush hx hb dX0_about_180 (by decide) ?_
      refine nr_isubw hx hb dX0_about_182 ?_
      refine nr_topi (fun v17 ev17 => ?_)
      have rv17 : InR v17 := by rw [ev17]; exact ni_wR _
      replace h := h v17 ev17 rv17
      refine cXX0_93 hF hK hI hl.1 hR (by decide) (Nat.le_of_ble_eq_true rfl) ⟨Nat.zero_le _, Nat.zero_le _⟩ rv17 h dX0_about_183 (fun r18 H locs fr18 h hI => ?_)
      replace h := h fr18
      have gr18 : InR r18 := kdP_R (k := 2) (by decide) fr18
      refine nr_if_eq hx hb gr18 dX0_about_186 (tgt := 200) (by decide) (fun c20 => ?_) (fun c20 => ?_)
      · replace h := h.1 c20
        refine nr_bipush hx hb dX0_about_200 (by decide) ?_
        rw [← hQ]; exact s_iret (K := fun r S' => S' = S ∧ K r) hx hb hr hlocks hI (by decide) ⟨rfl, h⟩ dX0_about_202
      · replace h := h.2 c20
        refine lv_aload_n hx hb dX0_about_189 rfl (lv_at hl 0 rfl) ?_
        refine lv_iload_n hx hb dX0_about_190 rfl (lv_at hl 1 rfl) ?_
        refine nr_bipush hx hb dX0_about_191 (by decide) ?_
        refine nr_isubw hx hb dX0_about_193 ?_
        refine nr_topi (fun v21 ev21 => ?_)
        have rv21 : InR v21 := by rw [ev21]; exact ni_wR _
        replace h := h v21 ev21 rv21
        refine cXX0_342 hF hK hI hl.1 hR (by decide) (Nat.le_of_ble_eq_true rfl) ⟨Nat.zero_le _, Nat.zero_le _⟩ rv21 h dX0_about_194 (fun r22 H locs fr22 h hI => ?_)
        replace h := h fr22
        refine lv_goto (tgt := 202) hx hb dX0_about_197 (by decide) ?_
        rw [← hQ]; exact s_iret (K := fun r S' => S' = S ∧ K r) hx hb hr hlocks hI fr22 ⟨rfl, h⟩ dX0_about_202
    · replace h := h.2 c16
      refine lv_aload_n hx hb dX0_about_159 rfl (lv_at hl 0 rfl) ?_
      refine gXX0_12_129 hF hK hI dX0_about_160 ?_
      refine gXX0_78_130 hF hK hI dX0_about_163 ?_
      refine nr_bipush hx hb dX0_about_166 (by decide) ?_
      refine lv_iload_n hx hb dX0_about_168 rfl (lv_at hl 1 rfl) ?_
      have f24 := h.1; replace h := h.2
      refine nr_iadd hx hb dX0_about_169 ?_
      refine nr_bipush hx hb dX0_about_170 (by decide) ?_
      refine nr_isubw hx hb dX0_about_172 ?_
      refine nr_topi (fun v25 ev25 => ?_)
      have rv25 : InR v25 := by rw [ev25]; exact ni_wR _
      replace h := h v25 ev25 rv25
      have f26 := h.1; replace h := h.2
      refine s_iald hx hb hK hI 3 (by decide) wX_3 rv25 f26 dX0_about_173 (fun f27 => ?_)
      replace h := h f27
      refine cXX0_166 hF hK hI hl.1 hR (by decide) (Nat.le_of_ble_eq_true rfl) ⟨Nat.zero_le _, Nat.zero_le _⟩ f27 h dX0_about_174 (fun r28 H locs fr28 h hI => ?_)
      replace h := h fr28
      rw [← hQ]; exact s_iret (K := fun r S' => S' = S ∧ K r) hx hb hr hlocks hI fr28 ⟨rfl, h⟩ dX0_about_177
