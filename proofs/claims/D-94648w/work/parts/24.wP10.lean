set_option maxRecDepth 100000
theorem cXX3_147 {p : Program} {l : Launch} {e : Env} {R : Room} {s : State} {m : MethodId} {args : Array Value} {below : List Frame} {meth : Method} {c : Code} {H : Heap} {locs : List Loc} {Q : State → Prop} {cc : ByteArray} {nL pc : Nat} {ls : Array Slot} {rest : List Value} {cells slots : Nat} {D : va_G} {dA : Nat → ClassId} {ad : Nat → Nat} {A : Nat → Prop} {H0 : Heap} {S : St} {dk : Nat} (hF : CallFix p m c cc nL s args lw_all RX3) (hK : gK D dA s) (hI : sI D dA wX ad A H0 S H locs) (hls : ls.size = nL) (hR : R.frames = dk + 1 ∧ R.locals = 64 * dk + 64) (hd : 0 + 1 ≤ dk) (hW : (rest.map fun v => v.category).sum ≤ 8) (hf : cells ≤ R.cells ∧ slots ≤ R.slots) {x0 : Nat} {K : Int → Prop} (hg0 : ∃ fs : List PV, gI S x0 = some (.inr (.inl (14, fs)))) (h : w_J2_size x0 S K) (hdg : decode cc pc = .ok (.invokevirtual 147, 3)) (kk : ∀ (r : Int) (H1 : Heap) (locs1 : List Loc), InR r → K r → sI D dA wX ad A H0 S H1 locs1 → W p l e R s m args below meth c H1 locs1 cells slots Q (F0 m (pc + 3) ls (iV r :: rest))) : W p l e R s m args below meth c H locs cells slots Q (F0 m (pc) ls (.ref x0 :: rest)) := s_callVi (As := []) (rest := rest) (K := fun r S' => S' = S ∧ K r) hF (t_J2_size l D dA ad S H.size x0 K h) (by obtain ⟨fs, hg⟩ := hg0; exact s_recvP hK hI hg rfl) (cwV 0 hF.2.2.2.2 (lw_V q765 q766 q767 q114 q768) rfl rfl rfl (by decide +kernel) ⟨by have h1 := hR.1; have h2 : (rmD 0 0 0).frames = 0 + 1 := rfl; omega, by have h1 := hR.2; have h2 : (rmD 0 0 0).locals = 64 * 0 + 64 := rfl; omega⟩) hK hI rfl hls rfl hW hdg hf (fun r S1 H1 locs1 f hk hI1 => by obtain ⟨rfl, hk⟩ := hk; exact kk r H1 locs1 f hk hI1)
theorem cXX3_149 {p : Program} {l : Launch} {e : Env} {R : Room} {s : State} {m : MethodId} {args : Array Value} {below : List Frame} {meth : Method} {c : Code} {H : Heap} {locs : List Loc} {Q : State → Prop} {cc : ByteArray} {nL pc : Nat} {ls : Array Slot} {rest : List Value} {cells slots : Nat} {D : va_G} {dA : Nat → ClassId} {ad : Nat → Nat} {A : Nat → Prop} {H0 : Heap} {S : St} {dk : Nat} (hF : CallFix p m c cc nL s args lw_all RX3) (hK : gK D dA s) (hI : sI D dA wX ad A H0 S H locs) (hls : ls.size = nL) (hR : R.frames = dk + 1 ∧ R.locals = 64 * dk + 64) (hd : 2 + 1 ≤ dk) (hW : (rest.map fun v => v.category).sum ≤ 8) (hf : cells ≤ R.cells ∧ slots ≤ R.slots) {x0 : Nat} {x1 : Int} {K : Option Nat → Prop} (hg0 : ∃ fs : List PV, gI S x0 = some (.inr (.inl (14, fs)))) (r1 : InR x1) (h : w_J2_get x0 x1 S K) (hdg : decode cc pc = .ok (.invokevirtual 149, 3)) (kk : ∀ (r : Option Nat) (H1 : Heap) (locs1 : List Loc), K r → sI D dA wX ad A H0 S H1 locs1 → W p l e R s m args below meth c H1 locs1 cells slots Q (F0 m (pc + 3) ls (va_rf r :: rest))) : W p l e R s m args below meth c H locs cells slots Q (F0 m (pc) ls (iV x1 :: .ref x0 :: rest)) := s_callVq (As := [iV x1]) (rest := rest) (K := fun r S' => S' = S ∧ K r) hF (t_J2_get l D dA ad S H.size x0 x1 K r1 h) (by obtain ⟨fs, hg⟩ := hg0; exact s_recvP hK hI hg rfl) (cwV 1 hF.2.2.2.2 (lw_V q769 q770 q771 q114 q772) rfl rfl rfl (by decide +kernel) ⟨by have h1 := hR.1; have h2 : (rmD 2 0 0).frames = 2 + 1 := rfl; omega, by have h1 := hR.2; have h2 : (rmD 2 0 0).locals = 64 * 2 + 64 := rfl; omega⟩) hK hI rfl hls rfl hW hdg hf (fun r S1 H1 locs1 hk hI1 => by obtain ⟨rfl, hk⟩ := hk; exact kk r H1 locs1 hk hI1)
theorem kPX3_153 {p : Program} {l : Launch} {e : Env} {R : Room} {s : State} {m : MethodId} {args : Array Value} {below : List Frame} {meth : Method} {c : Code} {H : Heap} {locs : List Loc} {Q : State → Prop} {cc : ByteArray} {nL pc : Nat} {ls : Array Slot} {rest : List Value} {cells slots : Nat} {w : Wd} {D : va_G} {dA : Nat → ClassId} {ad : Nat → Nat} {A : Nat → Prop} {H0 : Heap} {S : St} {q : Nat} (hF : CallFix p m c cc nL s args lw_all RX3) (hK : gK D dA s) (hI : sI D dA w ad A H0 S H locs) (hc : isAsked S q) (hdg : decode cc pc = .ok (.checkcast 153, 3)) (k : W p l e R s m args below meth c H locs cells slots Q (F0 m (pc + 3) ls (.ref q :: rest))) : W p l e R s m args below meth c H locs cells slots Q (F0 m (pc) ls (.ref q :: rest)) := by
  rcases hc with ⟨fs, hg⟩ | ⟨fs, hg⟩ | ⟨fs, hg⟩
  · exact s_cast hF.1 hF.2.1 hF.2.2.2.1 hF.2.2.2.2 q781 (nCs_8 hK.2) hK hI hg rfl hdg k
  · exact s_cast hF.1 hF.2.1 hF.2.2.2.1 hF.2.2.2.2 q781 (nCs_6 hK.2) hK hI hg rfl hdg k
  · exact s_cast hF.1 hF.2.1 hF.2.2.2.1 hF.2.2.2.2 q781 (nCs_10 hK.2) hK hI hg rfl hdg k
set_option maxHeartbeats 4000000 in
theorem t_X3_both (l : Launch) (hlt : l.stackTraces = false) (D : va_G) (dA : Nat → ClassId) (ad : Nat → Nat) (S : St) (sz : Nat) (x0 : Nat) (K : Option Nat → Option Nat → St → Prop) (mc ms : Nat) (hmc : mc = bC S) (hms : ms = bL S) (h : w_X3_both x0 S K) : vz_Met l yX3_both (ws_ yX3_both cX3_both 2 (Option.some (Jvm.ClassFile.FieldType.object "NineGraves$Asked"))) (rmD 63 mc ms) (va_Pc [.ref x0] (tPre D dA ad S sz)) (va_Qq (fun r S' => K none r S') (sPost D dA wX ad (wA wX ad S sz)) (wA wX ad S sz)) (vz_X (fun _ : St => True) (xB D dA ad (wA wX ad S sz) (fun q S' => K (some q) none S')) (wA wX ad S sz)) mc ms (wA wX ad S sz) := by
  refine vz_ofW (cc := cX3_both) (maxL := 2) (ret := (Option.some (Jvm.ClassFile.FieldType.object "NineGraves$Asked"))) (by decide) rfl ?_
  intro p e s m args below meth c s₁ B hml hout hv
  obtain ⟨rfl, ⟨hsz, hK, hC⟩, hZ⟩ := hv
  have hx := B.exec
  have hb := B.bytes
  have hr := B.returns
  have hlocks := B.notSynchronized
  have hts := atoms_spec (ws := (ws_ yX3_both cX3_both 2 (Option.some (Jvm.ClassFile.FieldType.object "NineGraves$Asked")))) B.pre
  have hts : ∀ w ∈ lw_all, w.before _ s = true := fun w h => hts w (List.mem_cons_of_mem _ h)
  have hown : s.vm.findClass RX3 = some m.cls := findClass_of_methodNamed B.named
  clear B
  subst hsz
  have hI : sI D dA wX ad (wA wX ad S s.heap.size) s.heap S s.heap [] := hC.start
  clear hC
  generalize wA wX ad S s.heap.size = A at hI hZ ⊢
  have hl := lv_entry ([.ref x0] : List Value) (n := 2) (Nat.le_of_ble_eq_true rfl)
  rw [lg_entry_eq]
  generalize (lg_sl ([.ref x0] : List Value) ++ List.replicate (2 - (lg_sl ([.ref x0] : List Value)).length) Slot.unset).toArray = ls at hl ⊢
  have hl : lv_has ls 2 [(0, .ref x0)] := hl
  have hF : CallFix p m c cX3_both 2 s _ lw_all RX3 := ⟨hx, hb, hml, hown, hts⟩
  have hR : (headSpec (ws_ yX3_both cX3_both 2 (Option.some (Jvm.ClassFile.FieldType.object "NineGraves$Asked"))) (rmD 63 mc ms)).room.frames = 63 + 1 ∧ (headSpec (ws_ yX3_both cX3_both 2 (Option.some (Jvm.ClassFile.FieldType.object "NineGraves$Asked"))) (rmD 63 mc ms)).room.locals = 64 * 63 + 64 := ⟨rfl, rfl⟩
  have hRc : (headSpec (ws_ yX3_both cX3_both 2 (Option.some (Jvm.ClassFile.FieldType.object "NineGraves$Asked"))) (rmD 63 mc ms)).room.cells = mc ∧ (headSpec (ws_ yX3_both cX3_both 2 (Option.some (Jvm.ClassFile.FieldType.object "NineGraves$Asked"))) (rmD 63 mc ms)).room.slots = ms := ⟨rfl, rfl⟩
  generalize (headSpec (ws_ yX3_both cX3_both 2 (Option.some (Jvm.ClassFile.FieldType.object "NineGraves$Asked"))) (rmD 63 mc ms)).room = R at hR hRc ⊢
  obtain ⟨hRc, hRs⟩ := hRc
  have hcs : bOK R S 0 0 := ⟨by omega, by omega⟩
  clear hmc hms
  have hcs0 := hcs
  generalize ([.ref x0] : List Value).toArray = args at hts hF ⊢
  generalize hQ : vz_MQ below _ _ _ _ _ _ _ = Q
  have J43 : ∀ (x1 : Nat) (S : St) (H : Heap) (locs : List Loc) (ls : Array Slot) (cells slots : Nat), (sI D dA wX ad A s.heap S H locs ∧ bOK R S cells slots) → lv_has ls 2 [(1, .ref x1)] → j_X3_both_43 x1 S K → W p l e R s m args below meth c H locs cells slots Q (F0 m 43 ls []) := by
    intro x1 S H locs ls cells slots hI hl h
    obtain ⟨hI, hcs⟩ := hI
    unfold j_X3_both_43 at h
    refine lv_aload_n hx hb dX3_both_43 rfl (lv_at hl 0 rfl) ?_
    have hr1 := h.1; replace h := h.2
    refine cXX3_147 hF hK hI hl.1 hR (by decide) (Nat.le_of_ble_eq_true rfl) (cs0 hcs) hr1 h dX3_both_44 (fun r2 H locs fr2 h hI => ?_)
    replace h := h fr2
    refine nr_iconst hx hb dX3_both_47 ?_
    refine nr_icmp_ne hx hb fr2 (by decide) dX3_both_48 (tgt := 62) (by decide) (fun c4 => ?_) (fun c4 => ?_)
    · replace h := h.1 c4
      have f7 := h.1; replace h := h.2
      refine t_new (C := RX12) (T := TX12) (ci := 12) hx hb tyX12 tyX12_ok hts hown hK hI hcs rfl in_X12 q782 q783 q136 ([.inl 0, .inr (.inr none)] : List PV) (by intro j hj; have hj2 : j = 0 ∨ j = 1 := (by omega); rcases hj2 with rfl | rfl <;> rfl) (by intro v hv; simp only [List.mem_cons, List.not_mem_nil, or_false] at hv; rcases hv with rfl | rfl <;> first | exact ni_r0 | exact trivial) f7 dX3_both_62 (fun q5 S6 H cells slots hqq5 eS6 _ hI hcs => ?_)
      replace h := h q5 S6 hqq5 eS6
      refine lv_dup hx hb dX3_both_65 rfl ?_
      refine nr_iconst hx hb dX3_both_66 ?_
      refine lv_aload_n hx hb dX3_both_67 rfl (lv_at hl 0 rfl) ?_
      obtain ⟨a8, b9, f10, h⟩ := h
      refine p_callINv (As := [iV 1, .ref x1]) (rest := [.ref q5]) hF (t_X12_init l hlt D dA ad (bset S6 a8 b9) _ q5 1 x1 _ (by decide) a8.toNat b9.toNat (bC_bset _ _ _).symm (bL_bset _ _ _).symm h) ⟨va_cnB 2 hts (lw_meth q786) rfl rfl rfl (nMl_7 hK.2) (hts _ q136) (by decide +kernel) ⟨by have h1 := hR.1; have h2 : (rmD 2 a8.toNat b9.toNat).frames = 2 + 1 := rfl; omega, by have h1 := hR.2; have h2 : (rmD 2 a8.toNat b9.toNat).locals = 64 * 2 + 64 := rfl; omega⟩, rfl, hts _ q785⟩ hK hI hZ hcs f10 rfl hl.1 rfl (Nat.le_of_ble_eq_true rfl) dX3_both_68 (fun S12 S13 H locs cells slots h eS13 hI hcs => ?_)
      replace h := h S13 eS13
      rw [← hQ]; refine vz_ret ?_; refine W.widen (k := mc) (n := ms) (by have h1 := hcs.1; omega) (by have h1 := hcs.2; omega) ?_; exact s_qret (v := (some q5)) (K := (K none)) hx hb hr (Or.inl ⟨_, rfl⟩) hlocks hI h dX3_both_71
    · replace h := h.2 c4
      refine lv_aload_n hx hb dX3_both_51 rfl (lv_at hl 0 rfl) ?_
      refine nr_iconst hx hb dX3_both_52 ?_
      have hr15 := h.1; replace h := h.2
      refine cXX3_149 hF hK hI hl.1 hR (by decide) (Nat.le_of_ble_eq_true rfl) (cs0 hcs) hr15 (by decide) h dX3_both_53 (fun r16 H locs h hI => ?_)
      obtain ⟨q18, e19, h⟩ := h
      rw [e19]
      show W p l e R s m args below meth c _ _ _ _ Q (F0 m _ ls [.ref q18])
      have hcst := h.1; replace h := h.2
      refine kPX3_153 hF hK hI hcst dX3_both_56 ?_
      refine lv_goto (tgt := 71) hx hb dX3_both_59 (by decide) ?_
      rw [← hQ]; refine vz_ret ?_; refine W.widen (k := mc) (n := ms) (by have h1 := hcs.1; omega) (by have h1 := hcs.2; omega) ?_; exact s_qret (v := (some q18)) (K := (K none)) hx hb hr (Or.inl ⟨_, rfl⟩) hlocks hI h dX3_both_71
  have L17 : ∀ (x0 : Nat) (x1 : Nat), ∀ (n17 : Nat) (S : St) (H : Heap) (locs : List Loc) (ls : Array Slot) (cells slots : Nat), (sI D dA wX ad A s.heap S H locs ∧ bOK R S cells slots) → lv_has ls 2 [(0, .ref x0), (1, .ref x1)] → l_X3_both_17 x0 x1 K (fun (zS : St) => j_X3_both_43 x1 zS K) n17 S → W p l e R s m args below meth c H locs cells slots Q (F0 m 17 ls []) := by
    intro x0 x1 n17
    induction n17 with
    | zero => intro S H locs ls cells slots hI hl h; exact False.elim h
    | succ n17 ih17 =>
      intro S H locs ls cells slots hI hl h
      obtain ⟨hI, hcs⟩ := hI
      unfold l_X3_both_17 at h
      refine lv_aload_n hx hb dX3_both_17 rfl (lv_at hl 0 rfl) ?_
      obtain ⟨fs20, v23, hg21, hv22, h⟩ := h
      refine gPX3_25 hF hK hI hg21 hv22 dX3_both_18 (fun f24 => ?_)
      replace h := h f24
      refine nr_sipush hx hb dX3_both_21 (by decide) ?_
      refine nr_icmp_ne hx hb f24 (by decide) dX3_both_24 (tgt := 43) (by decide) (fun c25 => ?_) (fun c25 => ?_)
      · replace h := h.1 c25
        exact J43 x1 S _ _ _ _ _ ⟨hI, hcs⟩ (lv_sub hl [1] rfl) h
      · replace h := h.2 c25
        refine lv_aload_n hx hb dX3_both_27 rfl (lv_at hl 0 rfl) ?_
        have hr29 := h.1; replace h := h.2
        obtain ⟨a26, b27, f28, h⟩ := h
        refine p_callVv (As := []) (rest := []) hF (t_X3_next l hlt D dA ad (bset S a26 b27) _ x0 _ a26.toNat b27.toNat (bC_bset _ _ _).symm (bL_bset _ _ _).symm h) (by obtain ⟨fs, hg⟩ := hr29; exact s_recvP hK hI hg rfl) (cwV 0 hts (lw_V q417 q419 qs5 q110 q420) rfl rfl rfl (by decide +kernel) ⟨by have h1 := hR.1; have h2 : (rmD 7 a26.toNat b27.toNat).frames = 7 + 1 := rfl; omega, by have h1 := hR.2; have h2 : (rmD 7 a26.toNat b27.toNat).locals = 64 * 7 + 64 := rfl; omega⟩) hK hI hZ hcs f28 rfl hl.1 rfl (Nat.le_of_ble_eq_true rfl) dX3_both_28 (fun S31 S32 H locs cells slots h eS32 hI hcs => ?_)
        replace h := h S32 eS32
        refine lv_aload_n hx hb dX3_both_31 rfl (lv_at hl 1 rfl) ?_
        refine lv_aload_n hx hb dX3_both_32 rfl (lv_at hl 0 rfl) ?_
        have hr38 := h.1; replace h := h.2
        obtain ⟨a34, b35, f36, h⟩ := h
        obtain ⟨d37, hd37, h⟩ := h
        refine x_callVq (As := []) (rest := [.ref x1]) hF (t_X3_ask l hlt d37 D dA ad (bset S32 a34 b35) _ x0 _ a34.toNat b35.toNat (bC_bset _ _ _).symm (bL_bset _ _ _).symm h) (by obtain ⟨fs, hg⟩ := hr38; exact s_recvP hK hI hg rfl) (cwV 0 hts (lw_V q734 q736 qs21 q110 q737) rfl rfl rfl (by decide +kernel) ⟨by have h1 := hR.1; have h2 : (rmD (52 + d37) a34.toNat b35.toNat).frames = (52 + d37) + 1 := rfl; omega, by have h1 := hR.2; have h2 : (rmD (52 + d37) a34.toNat b35.toNat).locals = 64 * (52 + d37) + 64 := rfl; omega⟩) hK hI hZ hcs f36 rfl hl.1 rfl (Nat.le_of_ble_eq_true rfl) dX3_both_33 (fun q S40 S41 H locs cells slots h eS41 hg hI hcs => ?_) (fun r39 S40 S41 H locs cells slots h eS41 hI hcs => ?_)
        · replace h := (h S41 eS41).1 q rfl
          rw [← hQ]; exact x_out hout hlocks hK hI ⟨by have h1 := hcs.1; omega, by have h1 := hcs.2; omega⟩ hg h
        replace h := (h S41 eS41).2 rfl
        obtain ⟨q43, e44, h⟩ := h
        rw [e44]
        show W p l e R s m args below meth c _ _ _ _ Q (F0 m _ ls [.ref q43, .ref x1])
        have hr48 := h.1; replace h := h.2
        obtain ⟨a45, b46, f47, h⟩ := h
        refine p_callVz (As := [.ref q43]) (rest := []) hF (t_J2_add l hlt D dA ad (bset S41 a45 b46) _ x1 q43 _ a45.toNat b46.toNat (bC_bset _ _ _).symm (bL_bset _ _ _).symm h) (by obtain ⟨fs, hg⟩ := hr48; exact s_recvP hK hI hg rfl) (cwV 1 hts (lw_V q764 q658 q659 q114 q660) rfl rfl rfl (by decide +kernel) ⟨by have h1 := hR.1; have h2 : (rmD 6 a45.toNat b46.toNat).frames = 6 + 1 := rfl; omega, by have h1 := hR.2; have h2 : (rmD 6 a45.toNat b46.toNat).locals = 64 * 6 + 64 := rfl; omega⟩) hK hI hZ hcs f47 rfl hl.1 rfl (Nat.le_of_ble_eq_true rfl) dX3_both_36 (fun r49 S50 S51 H locs cells slots fr49 h eS51 hI hcs => ?_)
        replace h := h fr49
        replace h := h S51 eS51
        have gr49 : InR r49 := kdP_R (k := 2) (by decide) fr49
        refine lv_pop hx hb dX3_both_39 rfl ?_
        refine lv_goto (tgt := 17) hx hb dX3_both_40 (by decide) ?_
        exact ih17 S51 _ _ _ _ _ ⟨hI, hcs⟩ (lv_sub hl [0, 1] rfl) h
  unfold w_X3_both at h
  have f55 := h.1; replace h := h.2
  refine t_new (C := RJ2) (T := TJ2) (ci := 14) hx hb tyJ2 tyJ2_ok hts hown hK hI hcs rfl in_J2 q728 q366 q114 ([.inl 0, .inr (.inr none), .inl 0] : List PV) (by intro j hj; have hj2 : j = 0 ∨ j = 1 ∨ j = 2 := (by omega); rcases hj2 with rfl | rfl | rfl <;> rfl) (by intro v hv; simp only [List.mem_cons, List.not_mem_nil, or_false] at hv; rcases hv with rfl | rfl | rfl <;> first | exact ni_r0 | exact trivial) f55 dX3_both_0 (fun q53 S54 H cells slots hqq53 eS54 _ hI hcs => ?_)
  replace h := h q53 S54 hqq53 eS54
  refine lv_dup hx hb dX3_both_3 rfl ?_
  obtain ⟨a56, b57, f58, h⟩ := h
  refine p_callIv (As := []) (rest := [.ref q53]) hF (t_J2_init l hlt D dA ad (bset S54 a56 b57) _ q53 _ a56.toNat b57.toNat (bC_bset _ _ _).symm (bL_bset _ _ _).symm h) (cwI 0 hts (lw_meth q369) rfl rfl rfl (hts _ q114) (hts _ q729) (hts _ q368) rfl (by decide +kernel) ⟨by have h1 := hR.1; have h2 : (rmD 3 a56.toNat b57.toNat).frames = 3 + 1 := rfl; omega, by have h1 := hR.2; have h2 : (rmD 3 a56.toNat b57.toNat).locals = 64 * 3 + 64 := rfl; omega⟩) hK hI hZ hcs f58 rfl hl.1 rfl (Nat.le_of_ble_eq_true rfl) dX3_both_4 (fun S60 S61 H locs cells slots h eS61 hI hcs => ?_)
  replace h := h S61 eS61
  refine lv_astore_n (lv' := [(1, .ref q53), (0, .ref x0)]) hx hb dX3_both_7 rfl hl (by decide) rfl (fun ls hl => ?_)
  refine lv_aload_n hx hb dX3_both_8 rfl (lv_at hl 0 rfl) ?_
  refine lv_aload_n hx hb dX3_both_9 rfl (lv_at hl 1 rfl) ?_
  have hr67 := h.1; replace h := h.2
  obtain ⟨a63, b64, f65, h⟩ := h
  obtain ⟨d66, hd66, h⟩ := h
  refine x_callVq (As := []) (rest := [.ref q53]) hF (t_X3_ask l hlt d66 D dA ad (bset S61 a63 b64) _ x0 _ a63.toNat b64.toNat (bC_bset _ _ _).symm (bL_bset _ _ _).symm h) (by obtain ⟨fs, hg⟩ := hr67; exact s_recvP hK hI hg rfl) (cwV 0 hts (lw_V q734 q736 qs21 q110 q737) rfl rfl rfl (by decide +kernel) ⟨by have h1 := hR.1; have h2 : (rmD (52 + d66) a63.toNat b64.toNat).frames = (52 + d66) + 1 := rfl; omega, by have h1 := hR.2; have h2 : (rmD (52 + d66) a63.toNat b64.toNat).locals = 64 * (52 + d66) + 64 := rfl; omega⟩) hK hI hZ hcs f65 rfl hl.1 rfl (Nat.le_of_ble_eq_true rfl) dX3_both_10 (fun q S69 S70 H locs cells slots h eS70 hg hI hcs => ?_) (fun r68 S69 S70 H locs cells slots h eS70 hI hcs => ?_)
  · replace h := (h S70 eS70).1 q rfl
    rw [← hQ]; exact x_out hout hlocks hK hI ⟨by have h1 := hcs.1; omega, by have h1 := hcs.2; omega⟩ hg h
  replace h := (h S70 eS70).2 rfl
  obtain ⟨q72, e73, h⟩ := h
  rw [e73]
  show W p l e R s m args below meth c _ _ _ _ Q (F0 m _ ls [.ref q72, .ref q53])
  have hr77 := h.1; replace h := h.2
  obtain ⟨a74, b75, f76, h⟩ := h
  refine p_callVz (As := [.ref q72]) (rest := []) hF (t_J2_add l hlt D dA ad (bset S70 a74 b75) _ q53 q72 _ a74.toNat b75.toNat (bC_bset _ _ _).symm (bL_bset _ _ _).symm h) (by obtain ⟨fs, hg⟩ := hr77; exact s_recvP hK hI hg rfl) (cwV 1 hts (lw_V q764 q658 q659 q114 q660) rfl rfl rfl (by decide +kernel) ⟨by have h1 := hR.1; have h2 : (rmD 6 a74.toNat b75.toNat).frames = 6 + 1 := rfl; omega, by have h1 := hR.2; have h2 : (rmD 6 a74.toNat b75.toNat).locals = 64 * 6 + 64 := rfl; omega⟩) hK hI hZ hcs f76 rfl hl.1 rfl (Nat.le_of_ble_eq_true rfl) dX3_both_13 (fun r78 S79 S80 H locs cells slots fr78 h eS80 hI hcs => ?_)
  replace h := h fr78
  replace h := h S80 eS80
  have gr78 : InR r78 := kdP_R (k := 2) (by decide) fr78
  refine lv_pop hx hb dX3_both_16 rfl ?_
  obtain ⟨n0, h⟩ := h
  exact L17 x0 q53 n0 S80 _ _ _ _ _ ⟨hI, hcs⟩ (lv_sub hl [1, 0] rfl) h
set_option maxHeartbeats 4000000 in
theorem t_X3_either (l : Launch) (hlt : l.stackTraces = false) (D : va_G) (dA : Nat → ClassId) (ad : Nat → Nat) (S : St) (sz : Nat) (x0 : Nat) (K : Option Nat → Option Nat → St → Prop) (mc ms : Nat) (hmc : mc = bC S) (hms : ms = bL S) (h : w_X3_either x0 S K) : vz_Met l yX3_either (ws_ yX3_either cX3_either 2 (Option.some (Jvm.ClassFile.FieldType.object "NineGraves$Asked"))) (rmD 64 mc ms) (va_Pc [.ref x0] (tPre D dA ad S sz)) (va_Qq (fun r S' => K none r S') (sPost D dA wX ad (wA wX ad S sz)) (wA wX ad S sz)) (vz_X (fun _ : St => True) (xB D dA ad (wA wX ad S sz) (fun q S' => K (some q) none S')) (wA wX ad S sz)) mc ms (wA wX ad S sz) := by
  refine vz_ofW (cc := cX3_either) (maxL := 2) (ret := (Option.some (Jvm.ClassFile.FieldType.object "NineGraves$Asked"))) (by decide) rfl ?_
  intro p e s m args below meth c s₁ B hml hout hv
  obtain ⟨rfl, ⟨hsz, hK, hC⟩, hZ⟩ := hv
  have hx := B.exec
  have hb := B.bytes
  have hr := B.returns
  have hlocks := B.notSynchronized
  have hts := atoms_spec (ws := (ws_ yX3_either cX3_either 2 (Option.some (Jvm.ClassFile.FieldType.object "NineGraves$Asked")))) B.pre
  have hts : ∀ w ∈ lw_all, w.before _ s = true := fun w h => hts w (List.mem_cons_of_mem _ h)
  have hown : s.vm.findClass RX3 = some m.cls := findClass_of_methodNamed B.named
  clear B
  subst hsz
  have hI : sI D dA wX ad (wA wX ad S s.heap.size) s.heap S s.heap [] := hC.start
  clear hC
  generalize wA wX ad S s.heap.size = A at hI hZ ⊢
  have hl := lv_entry ([.ref x0] : List Value) (n := 2) (Nat.le_of_ble_eq_true rfl)
  rw [lg_entry_eq]
  generalize (lg_sl ([.ref x0] : List Value) ++ List.replicate (2 - (lg_sl ([.ref x0] : List Value)).length) Slot.unset).toArray = ls at hl ⊢
  have hl : lv_has ls 2 [(0, .ref x0)] := hl
  have hF : CallFix p m c cX3_either 2 s _ lw_all RX3 := ⟨hx, hb, hml, hown, hts⟩
  have hR : (headSpec (ws_ yX3_either cX3_either 2 (Option.some (Jvm.ClassFile.FieldType.object "NineGraves$Asked"))) (rmD 64 mc ms)).room.frames = 64 + 1 ∧ (headSpec (ws_ yX3_either cX3_either 2 (Option.some (Jvm.ClassFile.FieldType.object "NineGraves$Asked"))) (rmD 64 mc ms)).room.locals = 64 * 64 + 64 := ⟨rfl, rfl⟩
  have hRc : (headSpec (ws_ yX3_either cX3_either 2 (Option.some (Jvm.ClassFile.FieldType.object "NineGraves$Asked"))) (rmD 64 mc ms)).room.cells = mc ∧ (headSpec (ws_ yX3_either cX3_either 2 (Option.some (Jvm.ClassFile.FieldType.object "NineGraves$Asked"))) (rmD 64 mc ms)).room.slots = ms := ⟨rfl, rfl⟩
  generalize (headSpec (ws_ yX3_either cX3_either 2 (Option.some (Jvm.ClassFile.FieldType.object "NineGraves$Asked"))) (rmD 64 mc ms)).room = R at hR hRc ⊢
  obtain ⟨hRc, hRs⟩ := hRc
  have hcs : bOK R S 0 0 := ⟨by omega, by omega⟩
  clear hmc hms
  have hcs0 := hcs
  generalize ([.ref x0] : List Value).toArray = args at hts hF ⊢
  generalize hQ : vz_MQ below _ _ _ _ _ _ _ = Q
  have J43 : ∀ (x1 : Nat) (S : St) (H : Heap) (locs : List Loc) (ls : Array Slot) (cells slots : Nat), (sI D dA wX ad A s.heap S H locs ∧ bOK R S cells slots) → lv_has ls 2 [(1, .ref x1)] → j_X3_either_43 x1 S K → W p l e R s m args below meth c H locs cells slots Q (F0 m 43 ls []) := by
    intro x1 S H locs ls cells slots hI hl h
    obtain ⟨hI, hcs⟩ := hI
    unfold j_X3_either_43 at h
    refine lv_aload_n hx hb dX3_either_43 rfl (lv_at hl 0 rfl) ?_
    have hr1 := h.1; replace h := h.2
    refine cXX3_147 hF hK hI hl.1 hR (by decide) (Nat.le_of_ble_eq_true rfl) (cs0 hcs) hr1 h dX3_either_44 (fun r2 H locs fr2 h hI => ?_)
    replace h := h fr2
    refine nr_iconst hx hb dX3_either_47 ?_
    refine nr_icmp_ne hx hb fr2 (by decide) dX3_either_48 (tgt := 62) (by decide) (fun c4 => ?_) (fun c4 => ?_)
    · replace h := h.1 c4
      have f7 := h.1; replace h := h.2
      refine t_new (C := RX12) (T := TX12) (ci := 12) hx hb tyX12 tyX12_ok hts hown hK hI hcs rfl in_X12 q782 q783 q136 ([.inl 0, .inr (.inr none)] : List PV) (by intro j hj; have hj2 : j = 0 ∨ j = 1 := (by omega); rcases hj2 with rfl | rfl <;> rfl) (by intro v hv; simp only [List.mem_cons, List.not_mem_nil, or_false] at hv; rcases hv with rfl | rfl <;> first | exact ni_r0 | exact trivial) f7 dX3_either_62 (fun q5 S6 H cells slots hqq5 eS6 _ hI hcs => ?_)
      replace h := h q5 S6 hqq5 eS6
      refine lv_dup hx hb dX3_either_65 rfl ?_
      refine nr_iconst hx hb dX3_either_66 ?_
      refine lv_aload_n hx hb dX3_either_67 rfl (lv_at hl 0 rfl) ?_
      obtain ⟨a8, b9, f10, h⟩ := h
      refine p_callINv (As := [iV 0, .ref x1]) (rest := [.ref q5]) hF (t_X12_init l hlt D dA ad (bset S6 a8 b9) _ q5 0 x1 _ (by decide) a8.toNat b9.toNat (bC_bset _ _ _).symm (bL_bset _ _ _).symm h) ⟨va_cnB 2 hts (lw_meth q786) rfl rfl rfl (nMl_7 hK.2) (hts _ q136) (by decide +kernel) ⟨by have h1 := hR.1; have h2 : (rmD 2 a8.toNat b9.toNat).frames = 2 + 1 := rfl; omega, by have h1 := hR.2; have h2 : (rmD 2 a8.toNat b9.toNat).locals = 64 * 2 + 64 := rfl; omega⟩, rfl, hts _ q785⟩ hK hI hZ hcs f10 rfl hl.1 rfl (Nat.le_of_ble_eq_true rfl) dX3_either_68 (fun S12 S13 H locs cells slots h eS13 hI hcs => ?_)
      replace h := h S13 eS13
      rw [← hQ]; refine vz_ret ?_; refine W.widen (k := mc) (n := ms) (by have h1 := hcs.1; omega) (by have h1 := hcs.2; omega) ?_; exact s_qret (v := (some q5)) (K := (K none)) hx hb hr (Or.inl ⟨_, rfl⟩) hlocks hI h dX3_either_71
    · replace h := h.2 c4
      refine lv_aload_n hx hb dX3_either_51 rfl (lv_at hl 0 rfl) ?_
      refine nr_iconst hx hb dX3_either_52 ?_
      have hr15 := h.1; replace h := h.2
      refine cXX3_149 hF hK hI hl.1 hR (by decide) (Nat.le_of_ble_eq_true rfl) (cs0 hcs) hr15 (by decide) h dX3_either_53 (fun r16 H locs h hI => ?_)
      obtain ⟨q18, e19, h⟩ := h
      rw [e19]
      show W p l e R s m args below meth c _ _ _ _ Q (F0 m _ ls [.ref q18])
      have hcst := h.1; replace h := h.2
      refine kPX3_153 hF hK hI hcst dX3_either_56 ?_
      refine lv_goto (tgt := 71) hx hb dX3_either_59 (by decide) ?_
      rw [← hQ]; refine vz_ret ?_; refine W.widen (k := mc) (n := ms) (by have h1 := hcs.1; omega) (by have h1 := hcs.2; omega) ?_; exact s_qret (v := (some q18)) (K := (K none)) hx hb hr (Or.inl ⟨_, rfl⟩) hlocks hI h dX3_either_71
  have L17 : ∀ (x0 : Nat) (x1 : Nat), ∀ (n17 : Nat) (S : St) (H : Heap) (locs : List Loc) (ls : Array Slot) (cells slots : Nat), (sI D dA wX ad A s.heap S H locs ∧ bOK R S cells slots) → lv_has ls 2 [(0, .ref x0), (1, .ref x1)] → l_X3_either_17 x0 x1 K (fun (zS : St) => j_X3_either_43 x1 zS K) n17 S → W p l e R s m args below meth c H locs cells slots Q (F0 m 17 ls []) := by
    intro x0 x1 n17
    induction n17 with
    | zero => intro S H locs ls cells slots hI hl h; exact False.elim h
    | succ n17 ih17 =>
      intro S H locs ls cells slots hI hl h
      obtain ⟨hI, hcs⟩ := hI
      unfold l_X3_either_17 at h
      refine lv_aload_n hx hb dX3_either_17 rfl (lv_at hl 0 rfl) ?_
      obtain ⟨fs20, v23, hg21, hv22, h⟩ := h
      refine gPX3_25 hF hK hI hg21 hv22 dX3_either_18 (fun f24 => ?_)
      replace h := h f24
      refine nr_sipush hx hb dX3_either_21 (by decide) ?_
      refine nr_icmp_ne hx hb f24 (by decide) dX3_either_24 (tgt := 43) (by decide) (fun c25 => ?_) (fun c25 => ?_)
      · replace h := h.1 c25
        exact J43 x1 S _ _ _ _ _ ⟨hI, hcs⟩ (lv_sub hl [1] rfl) h
      · replace h := h.2 c25
        refine lv_aload_n hx hb dX3_either_27 rfl (lv_at hl 0 rfl) ?_
        have hr29 := h.1; replace h := h.2
        obtain ⟨a26, b27, f28, h⟩ := h
        refine p_callVv (As := []) (rest := []) hF (t_X3_next l hlt D dA ad (bset S a26 b27) _ x0 _ a26.toNat b27.toNat (bC_bset _ _ _).symm (bL_bset _ _ _).symm h) (by obtain ⟨fs, hg⟩ := hr29; exact s_recvP hK hI hg rfl) (cwV 0 hts (lw_V q417 q419 qs5 q110 q420) rfl rfl rfl (by decide +kernel) ⟨by have h1 := hR.1; have h2 : (rmD 7 a26.toNat b27.toNat).frames = 7 + 1 := rfl; omega, by have h1 := hR.2; have h2 : (rmD 7 a26.toNat b27.toNat).locals = 64 * 7 + 64 := rfl; omega⟩) hK hI hZ hcs f28 rfl hl.1 rfl (Nat.le_of_ble_eq_true rfl) dX3_either_28 (fun S31 S32 H locs cells slots h eS32 hI hcs => ?_)
        replace h := h S32 eS32
        refine lv_aload_n hx hb dX3_either_31 rfl (lv_at hl 1 rfl) ?_
        refine lv_aload_n hx hb dX3_either_32 rfl (lv_at hl 0 rfl) ?_
        have hr37 := h.1; replace h := h.2
        obtain ⟨a34, b35, f36, h⟩ := h
        refine x_callVq (As := []) (rest := [.ref x1]) hF (t_X3_both l hlt D dA ad (bset S32 a34 b35) _ x0 _ a34.toNat b35.toNat (bC_bset _ _ _).symm (bL_bset _ _ _).symm h) (by obtain ⟨fs, hg⟩ := hr37; exact s_recvP hK hI hg rfl) (cwV 0 hts (lw_V q730 q732 qs20 q110 q733) rfl rfl rfl (by decide +kernel) ⟨by have h1 := hR.1; have h2 : (rmD 63 a34.toNat b35.toNat).frames = 63 + 1 := rfl; omega, by have h1 := hR.2; have h2 : (rmD 63 a34.toNat b35.toNat).locals = 64 * 63 + 64 := rfl; omega⟩) hK hI hZ hcs f36 rfl hl.1 rfl (Nat.le_of_ble_eq_true rfl) dX3_either_33 (fun q S39 S40 H locs cells slots h eS40 hg hI hcs => ?_) (fun r38 S39 S40 H locs cells slots h eS40 hI hcs => ?_)
        · replace h := (h S40 eS40).1 q rfl
          rw [← hQ]; exact x_out hout hlocks hK hI ⟨by have h1 := hcs.1; omega, by have h1 := hcs.2; omega⟩ hg h
        replace h := (h S40 eS40).2 rfl
        obtain ⟨q42, e43, h⟩ := h
        rw [e43]
        show W p l e R s m args below meth c _ _ _ _ Q (F0 m _ ls [.ref q42, .ref x1])
        have hr47 := h.1; replace h := h.2
        obtain ⟨a44, b45, f46, h⟩ := h
        refine p_callVz (As := [.ref q42]) (rest := []) hF (t_J2_add l hlt D dA ad (bset S40 a44 b45) _ x1 q42 _ a44.toNat b45.toNat (bC_bset _ _ _).symm (bL_bset _ _ _).symm h) (by obtain ⟨fs, hg⟩ := hr47; exact s_recvP hK hI hg rfl) (cwV 1 hts (lw_V q764 q658 q659 q114 q660) rfl rfl rfl (by decide +kernel) ⟨by have h1 := hR.1; have h2 : (rmD 6 a44.toNat b45.toNat).frames = 6 + 1 := rfl; omega, by have h1 := hR.2; have h2 : (rmD 6 a44.toNat b45.toNat).locals = 64 * 6 + 64 := rfl; omega⟩) hK hI hZ hcs f46 rfl hl.1 rfl (Nat.le_of_ble_eq_true rfl) dX3_either_36 (fun r48 S49 S50 H locs cells slots fr48 h eS50 hI hcs => ?_)
        replace h := h fr48
        replace h := h S50 eS50
        have gr48 : InR r48 := kdP_R (k := 2) (by decide) fr48
        refine lv_pop hx hb dX3_either_39 rfl ?_
        refine lv_goto (tgt := 17) hx hb dX3_either_40 (by decide) ?_
        exact ih17 S50 _ _ _ _ _ ⟨hI, hcs⟩ (lv_sub hl [0, 1] rfl) h
  unfold w_X3_either at h
  have f54 := h.1; replace h := h.2
  refine t_new (C := RJ2) (T := TJ2) (ci := 14) hx hb tyJ2 tyJ2_ok hts hown hK hI hcs rfl in_J2 q728 q366 q114 ([.inl 0, .inr (.inr none), .inl 0] : List PV) (by intro j hj; have hj2 : j = 0 ∨ j = 1 ∨ j = 2 := (by omega); rcases hj2 with rfl | rfl | rfl <;> rfl) (by intro v hv; simp only [List.mem_cons, List.not_mem_nil, or_false] at hv; rcases hv with rfl | rfl | rfl <;> first | exact ni_r0 | exact trivial) f54 dX3_either_0 (fun q52 S53 H cells slots hqq52 eS53 _ hI hcs => ?_)
  replace h := h q52 S53 hqq52 eS53
  refine lv_dup hx hb dX3_either_3 rfl ?_
  obtain ⟨a55, b56, f57, h⟩ := h
  refine p_callIv (As := []) (rest := [.ref q52]) hF (t_J2_init l hlt D dA ad (bset S53 a55 b56) _ q52 _ a55.toNat b56.toNat (bC_bset _ _ _).symm (bL_bset _ _ _).symm h) (cwI 0 hts (lw_meth q369) rfl rfl rfl (hts _ q114) (hts _ q729) (hts _ q368) rfl (by decide +kernel) ⟨by have h1 := hR.1; have h2 : (rmD 3 a55.toNat b56.toNat).frames = 3 + 1 := rfl; omega, by have h1 := hR.2; have h2 : (rmD 3 a55.toNat b56.toNat).locals = 64 * 3 + 64 := rfl; omega⟩) hK hI hZ hcs f57 rfl hl.1 rfl (Nat.le_of_ble_eq_true rfl) dX3_either_4 (fun S59 S60 H locs cells slots h eS60 hI hcs => ?_)
  replace h := h S60 eS60
  refine lv_astore_n (lv' := [(1, .ref q52), (0, .ref x0)]) hx hb dX3_either_7 rfl hl (by decide) rfl (fun ls hl => ?_)
  refine lv_aload_n hx hb dX3_either_8 rfl (lv_at hl 0 rfl) ?_
  refine lv_aload_n hx hb dX3_either_9 rfl (lv_at hl 1 rfl) ?_
  have hr65 := h.1; replace h := h.2
  obtain ⟨a62, b63, f64, h⟩ := h
  refine x_callVq (As := []) (rest := [.ref q52]) hF (t_X3_both l hlt D dA ad (bset S60 a62 b63) _ x0 _ a62.toNat b63.toNat (bC_bset _ _ _).symm (bL_bset _ _ _).symm h) (by obtain ⟨fs, hg⟩ := hr65; exact s_recvP hK hI hg rfl) (cwV 0 hts (lw_V q730 q732 qs20 q110 q733) rfl rfl rfl (by decide +kernel) ⟨by have h1 := hR.1; have h2 : (rmD 63 a62.toNat b63.toNat).frames = 63 + 1 := rfl; omega, by have h1 := hR.2; have h2 : (rmD 63 a62.toNat b63.toNat).locals = 64 * 63 + 64 := rfl; omega⟩) hK hI hZ hcs f64 rfl hl.1 rfl (Nat.le_of_ble_eq_true rfl) dX3_either_10 (fun q S67 S68 H locs cells slots h eS68 hg hI hcs => ?_) (fun r66 S67 S68 H locs cells slots h eS68 hI hcs => ?_)
  · replace h := (h S68 eS68).1 q rfl
    rw [← hQ]; exact x_out hout hlocks hK hI ⟨by have h1 := hcs.1; omega, by have h1 := hcs.2; omega⟩ hg h
  replace h := (h S68 eS68).2 rfl
  obtain ⟨q70, e71, h⟩ := h
  rw [e71]
  show W p l e R s m args below meth c _ _ _ _ Q (F0 m _ ls [.ref q70, .ref q52])
  have hr75 := h.1; replace h := h.2
  obtain ⟨a72, b73, f74, h⟩ := h
  refine p_callVz (As := [.ref q70]) (rest := []) hF (t_J2_add l hlt D dA ad (bset S68 a72 b73) _ q52 q70 _ a72.toNat b73.toNat (bC_bset _ _ _).symm (bL_bset _ _ _).symm h) (by obtain ⟨fs, hg⟩ := hr75; exact s_recvP hK hI hg rfl) (cwV 1 hts (lw_V q764 q658 q659 q114 q660) rfl rfl rfl (by decide +kernel) ⟨by have h1 := hR.1; have h2 : (rmD 6 a72.toNat b73.toNat).frames = 6 + 1 := rfl; omega, by have h1 := hR.2; have h2 : (rmD 6 a72.toNat b73.toNat).locals = 64 * 6 + 64 := rfl; omega⟩) hK hI hZ hcs f74 rfl hl.1 rfl (Nat.le_of_ble_eq_true rfl) dX3_either_13 (fun r76 S77 S78 H locs cells slots fr76 h eS78 hI hcs => ?_)
  replace h := h fr76
  replace h := h S78 eS78
  have gr76 : InR r76 := kdP_R (k := 2) (by decide) fr76
  refine lv_pop hx hb dX3_either_16 rfl ?_
  obtain ⟨n0, h⟩ := h
  exact L17 x0 q52 n0 S78 _ _ _ _ _ ⟨hI, hcs⟩ (lv_sub hl [1, 0] rfl) h
