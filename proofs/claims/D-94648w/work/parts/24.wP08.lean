set_option maxRecDepth 100000
def PsM (l : Launch) (D : va_G) (dA : Nat → ClassId) (ad : Nat → Nat) (dd : Nat) (S : St) (sz : Nat) (i x0 : Nat) (K : Option Nat → Option Nat → St → Prop) (mc ms : Nat) : Prop :=
  (i = 0 ∧ vz_Met l yX3_one (ws_ yX3_one cX3_one 2 (Option.some (Jvm.ClassFile.FieldType.object "NineGraves$Sum"))) (rmD dd mc ms) (va_Pc [.ref x0] (tPre D dA ad S sz)) (va_Qq (fun r S' => K none r S') (sPost D dA wX ad (wA wX ad S sz)) (wA wX ad S sz)) (vz_X (fun _ : St => True) (xB D dA ad (wA wX ad S sz) (fun q S' => K (some q) none S')) (wA wX ad S sz)) mc ms (wA wX ad S sz)) ∨
  (i = 1 ∧ vz_Met l yX3_product (ws_ yX3_product cX3_product 3 (Option.some (Jvm.ClassFile.FieldType.object "NineGraves$Sum"))) (rmD dd mc ms) (va_Pc [.ref x0] (tPre D dA ad S sz)) (va_Qq (fun r S' => K none r S') (sPost D dA wX ad (wA wX ad S sz)) (wA wX ad S sz)) (vz_X (fun _ : St => True) (xB D dA ad (wA wX ad S sz) (fun q S' => K (some q) none S')) (wA wX ad S sz)) mc ms (wA wX ad S sz)) ∨
  (i = 2 ∧ vz_Met l yX3_sum (ws_ yX3_sum cX3_sum 3 (Option.some (Jvm.ClassFile.FieldType.object "NineGraves$Sum"))) (rmD dd mc ms) (va_Pc [.ref x0] (tPre D dA ad S sz)) (va_Qq (fun r S' => K none r S') (sPost D dA wX ad (wA wX ad S sz)) (wA wX ad S sz)) (vz_X (fun _ : St => True) (xB D dA ad (wA wX ad S sz) (fun q S' => K (some q) none S')) (wA wX ad S sz)) mc ms (wA wX ad S sz))
theorem ps_0 {l : Launch} {D : va_G} {dA : Nat → ClassId} {ad : Nat → Nat} {dd : Nat} {S : St} {sz x0 : Nat} {K : Option Nat → Option Nat → St → Prop} {mc ms : Nat} (h : PsM l D dA ad dd S sz 0 x0 K mc ms) : vz_Met l yX3_one (ws_ yX3_one cX3_one 2 (Option.some (Jvm.ClassFile.FieldType.object "NineGraves$Sum"))) (rmD dd mc ms) (va_Pc [.ref x0] (tPre D dA ad S sz)) (va_Qq (fun r S' => K none r S') (sPost D dA wX ad (wA wX ad S sz)) (wA wX ad S sz)) (vz_X (fun _ : St => True) (xB D dA ad (wA wX ad S sz) (fun q S' => K (some q) none S')) (wA wX ad S sz)) mc ms (wA wX ad S sz) := by
  rcases h with ⟨e, h⟩ | ⟨e, h⟩ | ⟨e, h⟩ <;> first | exact h | cases e
theorem ps_1 {l : Launch} {D : va_G} {dA : Nat → ClassId} {ad : Nat → Nat} {dd : Nat} {S : St} {sz x0 : Nat} {K : Option Nat → Option Nat → St → Prop} {mc ms : Nat} (h : PsM l D dA ad dd S sz 1 x0 K mc ms) : vz_Met l yX3_product (ws_ yX3_product cX3_product 3 (Option.some (Jvm.ClassFile.FieldType.object "NineGraves$Sum"))) (rmD dd mc ms) (va_Pc [.ref x0] (tPre D dA ad S sz)) (va_Qq (fun r S' => K none r S') (sPost D dA wX ad (wA wX ad S sz)) (wA wX ad S sz)) (vz_X (fun _ : St => True) (xB D dA ad (wA wX ad S sz) (fun q S' => K (some q) none S')) (wA wX ad S sz)) mc ms (wA wX ad S sz) := by
  rcases h with ⟨e, h⟩ | ⟨e, h⟩ | ⟨e, h⟩ <;> first | exact h | cases e
theorem ps_2 {l : Launch} {D : va_G} {dA : Nat → ClassId} {ad : Nat → Nat} {dd : Nat} {S : St} {sz x0 : Nat} {K : Option Nat → Option Nat → St → Prop} {mc ms : Nat} (h : PsM l D dA ad dd S sz 2 x0 K mc ms) : vz_Met l yX3_sum (ws_ yX3_sum cX3_sum 3 (Option.some (Jvm.ClassFile.FieldType.object "NineGraves$Sum"))) (rmD dd mc ms) (va_Pc [.ref x0] (tPre D dA ad S sz)) (va_Qq (fun r S' => K none r S') (sPost D dA wX ad (wA wX ad S sz)) (wA wX ad S sz)) (vz_X (fun _ : St => True) (xB D dA ad (wA wX ad S sz) (fun q S' => K (some q) none S')) (wA wX ad S sz)) mc ms (wA wX ad S sz) := by
  rcases h with ⟨e, h⟩ | ⟨e, h⟩ | ⟨e, h⟩ <;> first | exact h | cases e

theorem gPX3_83 {p : Program} {l : Launch} {e : Env} {R : Room} {s : State} {m : MethodId} {args : Array Value} {below : List Frame} {meth : Method} {c : Code} {H : Heap} {locs : List Loc} {Q : State → Prop} {cc : ByteArray} {nL pc : Nat} {ls : Array Slot} {rest : List Value} {cells slots : Nat} {w : Wd} {D : va_G} {dA : Nat → ClassId} {ad : Nat → Nat} {A : Nat → Prop} {H0 : Heap} {S : St} {q : Nat} {fs : List PV} {v : Int} (hF : CallFix p m c cc nL s args lw_all RX3) (hK : gK D dA s) (hI : sI D dA w ad A H0 S H locs) (hg : gI S q = some (.inr (.inl (3, fs)))) (hv : fs[7]? = some (.inl v)) (hdg : decode cc pc = .ok (.getfield 83, 3)) (kk : InR v → W p l e R s m args below meth c H locs cells slots Q (F0 m (pc + 3) ls (iV v :: rest))) : W p l e R s m args below meth c H locs cells slots Q (F0 m (pc) ls (.ref q :: rest)) := s_pgi hF.1 hF.2.1 hF.2.2.2.2 hF.2.2.2.1 hK hI hg rfl in_X3 7 (by decide) q337 rfl hv hdg kk
set_option maxHeartbeats 4000000 in
theorem t_X3_one (l : Launch) (hlt : l.stackTraces = false) (D : va_G) (dA : Nat → ClassId) (ad : Nat → Nat) (d : Nat) (W0 : Nat → Nat → St → (Option Nat → Option Nat → St → Prop) → Prop) (ihd : ∀ (S : St) (sz : Nat) (i q : Nat) (K : Option Nat → Option Nat → St → Prop) (mc ms : Nat), mc = bC S → ms = bL S → W0 i q S K → PsM l D dA ad (10 + d) S sz i q K mc ms) (S : St) (sz : Nat) (x0 : Nat) (K : Option Nat → Option Nat → St → Prop) (mc ms : Nat) (hmc : mc = bC S) (hms : ms = bL S) (h : b_X3_one W0 x0 S K) : vz_Met l yX3_one (ws_ yX3_one cX3_one 2 (Option.some (Jvm.ClassFile.FieldType.object "NineGraves$Sum"))) (rmD (10 + (d + 1)) mc ms) (va_Pc [.ref x0] (tPre D dA ad S sz)) (va_Qq (fun r S' => K none r S') (sPost D dA wX ad (wA wX ad S sz)) (wA wX ad S sz)) (vz_X (fun _ : St => True) (xB D dA ad (wA wX ad S sz) (fun q S' => K (some q) none S')) (wA wX ad S sz)) mc ms (wA wX ad S sz) := by
  refine vz_ofW (cc := cX3_one) (maxL := 2) (ret := (Option.some (Jvm.ClassFile.FieldType.object "NineGraves$Sum"))) (by decide) rfl ?_
  intro p e s m args below meth c s₁ B hml hout hv
  obtain ⟨rfl, ⟨hsz, hK, hC⟩, hZ⟩ := hv
  have hx := B.exec
  have hb := B.bytes
  have hr := B.returns
  have hlocks := B.notSynchronized
  have hts := atoms_spec (ws := (ws_ yX3_one cX3_one 2 (Option.some (Jvm.ClassFile.FieldType.object "NineGraves$Sum")))) B.pre
  have hts : ∀ w ∈ lw_all, w.before _ s = true := fun w h => hts w (List.mem_cons_of_mem _ h)
  have hown : s.vm.findClass RX3 = some m.cls := findClass_of_methodNamed B.named
  clear B
  subst hsz
  have hI : sI D dA wX ad (wA wX ad S s.heap.size) s.heap S s.heap [] := hC.start
  clear hC
  generalize wA wX ad S s.heap.size = A at hI hZ ⊢
  have hl := lv_entry ([.ref x0] : List Value) (n := 2) (Nat.le_of_ble_eq_true rfl)
  rw [lg_entry_eq]
  generalize (lg_sl ([.ref x0] : List Value) ++ List.replicate (2 - (lg_sl ([.ref x0] : List Value)).length) Slot.unset).toArray = ls at hl ⊢
  have hl : lv_has ls 2 [(0, .ref x0)] := hl
  have hF : CallFix p m c cX3_one 2 s _ lw_all RX3 := ⟨hx, hb, hml, hown, hts⟩
  have hR : (headSpec (ws_ yX3_one cX3_one 2 (Option.some (Jvm.ClassFile.FieldType.object "NineGraves$Sum"))) (rmD (10 + (d + 1)) mc ms)).room.frames = (10 + (d + 1)) + 1 ∧ (headSpec (ws_ yX3_one cX3_one 2 (Option.some (Jvm.ClassFile.FieldType.object "NineGraves$Sum"))) (rmD (10 + (d + 1)) mc ms)).room.locals = 64 * (10 + (d + 1)) + 64 := ⟨rfl, rfl⟩
  have hRc : (headSpec (ws_ yX3_one cX3_one 2 (Option.some (Jvm.ClassFile.FieldType.object "NineGraves$Sum"))) (rmD (10 + (d + 1)) mc ms)).room.cells = mc ∧ (headSpec (ws_ yX3_one cX3_one 2 (Option.some (Jvm.ClassFile.FieldType.object "NineGraves$Sum"))) (rmD (10 + (d + 1)) mc ms)).room.slots = ms := ⟨rfl, rfl⟩
  generalize (headSpec (ws_ yX3_one cX3_one 2 (Option.some (Jvm.ClassFile.FieldType.object "NineGraves$Sum"))) (rmD (10 + (d + 1)) mc ms)).room = R at hR hRc ⊢
  obtain ⟨hRc, hRs⟩ := hRc
  have hcs : bOK R S 0 0 := ⟨by omega, by omega⟩
  clear hmc hms
  have hcs0 := hcs
  generalize ([.ref x0] : List Value).toArray = args at hts hF ⊢
  generalize hQ : vz_MQ below _ _ _ _ _ _ _ = Q
  have J94 : ∀ (x0 : Nat) (S : St) (H : Heap) (locs : List Loc) (ls : Array Slot) (cells slots : Nat), (sI D dA wX ad A s.heap S H locs ∧ bOK R S cells slots) → lv_has ls 2 [(0, .ref x0)] → j_X3_one_94 W0 x0 S K → W p l e R s m args below meth c H locs cells slots Q (F0 m 94 ls []) := by
    intro x0 S H locs ls cells slots hI hl h
    obtain ⟨hI, hcs⟩ := hI
    unfold j_X3_one_94 at h
    refine lv_aload_n hx hb dX3_one_94 rfl (lv_at hl 0 rfl) ?_
    obtain ⟨fs1, v4, hg2, hv3, h⟩ := h
    refine gPX3_25 hF hK hI hg2 hv3 dX3_one_95 (fun f5 => ?_)
    replace h := h f5
    refine nr_bipush hx hb dX3_one_98 (by decide) ?_
    refine nr_icmp_ne hx hb f5 (by decide) dX3_one_100 (tgt := 121) (by decide) (fun c6 => ?_) (fun c6 => ?_)
    · replace h := h.1 c6
      refine lv_aload_n hx hb dX3_one_121 rfl (lv_at hl 0 rfl) ?_
      obtain ⟨fs7, v10, hg8, hv9, h⟩ := h
      refine gPX3_25 hF hK hI hg8 hv9 dX3_one_122 (fun f11 => ?_)
      replace h := h f11
      refine nr_bipush hx hb dX3_one_125 (by decide) ?_
      refine nr_icmp_ne hx hb f11 (by decide) dX3_one_127 (tgt := 149) (by decide) (fun c12 => ?_) (fun c12 => ?_)
      · replace h := h.1 c12
        refine lv_aload_n hx hb dX3_one_149 rfl (lv_at hl 0 rfl) ?_
        refine nr_iconst hx hb dX3_one_150 ?_
        have hr16 := h.1; replace h := h.2
        obtain ⟨a13, b14, f15, h⟩ := h
        refine p_callVq (As := [iV 1]) (rest := []) hF (t_X3_wrong l hlt D dA ad (bset S a13 b14) _ x0 1 _ (by decide) a13.toNat b14.toNat (bC_bset _ _ _).symm (bL_bset _ _ _).symm h) (by obtain ⟨fs, hg⟩ := hr16; exact s_recvP hK hI hg rfl) (cwV 1 hts (lw_V q486 q488 qs7 q110 q489) rfl rfl rfl (by decide +kernel) ⟨by have h1 := hR.1; have h2 : (rmD 8 a13.toNat b14.toNat).frames = 8 + 1 := rfl; omega, by have h1 := hR.2; have h2 : (rmD 8 a13.toNat b14.toNat).locals = 64 * 8 + 64 := rfl; omega⟩) hK hI hZ hcs f15 rfl hl.1 rfl (Nat.le_of_ble_eq_true rfl) dX3_one_151 (fun r17 S18 S19 H locs cells slots h eS19 hI hcs => ?_)
        replace h := h S19 eS19
        obtain ⟨q21, e22, h⟩ := h
        rw [e22]
        show W p l e R s m args below meth c _ _ _ _ Q (F0 m _ ls [.ref q21])
        refine vz_athrow hx hb dX3_one_154 ?_
        rw [← hQ]; exact x_out hout hlocks hK hI ⟨by have h1 := hcs.1; omega, by have h1 := hcs.2; omega⟩ h.1 h.2
      · replace h := h.2 c12
        refine lv_aload_n hx hb dX3_one_130 rfl (lv_at hl 0 rfl) ?_
        have hr27 := h.1; replace h := h.2
        obtain ⟨a24, b25, f26, h⟩ := h
        refine x_callVv (As := []) (rest := []) hF (t_X3_opens l hlt D dA ad (bset S a24 b25) _ x0 _ a24.toNat b25.toNat (bC_bset _ _ _).symm (bL_bset _ _ _).symm h) (by obtain ⟨fs, hg⟩ := hr27; exact s_recvP hK hI hg rfl) (cwV 0 hts (lw_V q599 q601 qs14 q110 q602) rfl rfl rfl (by decide +kernel) ⟨by have h1 := hR.1; have h2 : (rmD 9 a24.toNat b25.toNat).frames = 9 + 1 := rfl; omega, by have h1 := hR.2; have h2 : (rmD 9 a24.toNat b25.toNat).locals = 64 * 9 + 64 := rfl; omega⟩) hK hI hZ hcs f26 rfl hl.1 rfl (Nat.le_of_ble_eq_true rfl) dX3_one_131 (fun q S29 S30 H locs cells slots h eS30 hg hI hcs => ?_) (fun S29 S30 H locs cells slots h eS30 hI hcs => ?_)
        · replace h := (h S30 eS30).1 q rfl
          rw [← hQ]; exact x_out hout hlocks hK hI ⟨by have h1 := hcs.1; omega, by have h1 := hcs.2; omega⟩ hg h
        replace h := (h S30 eS30).2 rfl
        have f34 := h.1; replace h := h.2
        refine t_new (C := RX9) (T := TX9) (ci := 9) hx hb tyX9 tyX9_ok hts hown hK hI hcs rfl in_X9 q607 q608 q127 ([.inr (.inr none)] : List PV) (by intro j hj; have hj2 : j = 0 := (by omega); subst hj2; rfl) (by intro v hv; simp only [List.mem_cons, List.not_mem_nil, or_false] at hv; subst hv; first | exact ni_r0 | exact trivial) f34 dX3_one_134 (fun q32 S33 H cells slots hqq32 eS33 _ hI hcs => ?_)
        replace h := h q32 S33 hqq32 eS33
        refine lv_dup hx hb dX3_one_137 rfl ?_
        refine lv_aload_n hx hb dX3_one_138 rfl (lv_at hl 0 rfl) ?_
        have hr38 := h.1; replace h := h.2
        obtain ⟨a35, b36, f37, h⟩ := h
        refine x_callVq (As := []) (rest := [.ref q32, .ref q32]) hF (ps_0 (ihd (bset S33 a35 b36) _ 0 x0 _ a35.toNat b36.toNat (bC_bset _ _ _).symm (bL_bset _ _ _).symm h)) (by obtain ⟨fs, hg⟩ := hr38; exact s_recvP hK hI hg rfl) (cwV 0 hts (lw_V q568 q570 qs12 q110 q571) rfl rfl rfl (by decide +kernel) ⟨by have h1 := hR.1; have h2 : (rmD (10 + d) a35.toNat b36.toNat).frames = (10 + d) + 1 := rfl; omega, by have h1 := hR.2; have h2 : (rmD (10 + d) a35.toNat b36.toNat).locals = 64 * (10 + d) + 64 := rfl; omega⟩) hK hI hZ hcs f37 rfl hl.1 rfl (Nat.le_of_ble_eq_true rfl) dX3_one_139 (fun q S40 S41 H locs cells slots h eS41 hg hI hcs => ?_) (fun r39 S40 S41 H locs cells slots h eS41 hI hcs => ?_)
        · replace h := (h S41 eS41).1 q rfl
          rw [← hQ]; exact x_out hout hlocks hK hI ⟨by have h1 := hcs.1; omega, by have h1 := hcs.2; omega⟩ hg h
        replace h := (h S41 eS41).2 rfl
        obtain ⟨q43, e44, h⟩ := h
        rw [e44]
        show W p l e R s m args below meth c _ _ _ _ Q (F0 m _ ls [.ref q43, .ref q32, .ref q32])
        obtain ⟨a45, b46, f47, h⟩ := h
        refine p_callINv (As := [.ref q43]) (rest := [.ref q32]) hF (t_X9_init l hlt D dA ad (bset S41 a45 b46) _ q32 q43 _ a45.toNat b46.toNat (bC_bset _ _ _).symm (bL_bset _ _ _).symm h) ⟨va_cnB 1 hts (lw_meth q611) rfl rfl rfl (nMl_4 hK.2) (hts _ q127) (by decide +kernel) ⟨by have h1 := hR.1; have h2 : (rmD 2 a45.toNat b46.toNat).frames = 2 + 1 := rfl; omega, by have h1 := hR.2; have h2 : (rmD 2 a45.toNat b46.toNat).locals = 64 * 2 + 64 := rfl; omega⟩, rfl, hts _ q610⟩ hK hI hZ hcs f47 rfl hl.1 rfl (Nat.le_of_ble_eq_true rfl) dX3_one_142 (fun S49 S50 H locs cells slots h eS50 hI hcs => ?_)
        replace h := h S50 eS50
        refine lv_astore_n (lv' := [(1, .ref q32), (0, .ref x0)]) hx hb dX3_one_145 rfl hl (by decide) rfl (fun ls hl => ?_)
        refine lv_goto (tgt := 155) hx hb dX3_one_146 (by decide) ?_
        refine lv_aload_n hx hb dX3_one_155 rfl (lv_at hl 1 rfl) ?_
        refine lv_dup hx hb dX3_one_156 rfl ?_
        obtain ⟨fs52, v55, hg53, hv54, h⟩ := h
        refine gPX3_77 hF hK hI hg53 hv54 dX3_one_157 (fun f56 => ?_)
        replace h := h f56
        refine nr_iconst hx hb dX3_one_160 ?_
        have f57 := h.1; replace h := h.2
        refine nr_isub hx hb dX3_one_161 ?_
        obtain ⟨fs58, hg59, hn60, h⟩ := h
        refine uPX3_77 hF hK hI hg59 hn60 f57 dX3_one_162 (fun S61 H locs eS61 hI => ?_)
        replace h := h S61 eS61
        have hcs := bOK.to (S' := S61) hcs (by rw [eS61]; exact ⟨rfl, rfl⟩)
        refine lv_aload_n hx hb dX3_one_165 rfl (lv_at hl 0 rfl) ?_
        rw [← hQ]; refine vz_ret ?_; refine W.widen (k := mc) (n := ms) (by have h1 := hcs.1; omega) (by have h1 := hcs.2; omega) ?_; exact s_qret (v := (some q32)) (K := (K none)) hx hb hr (Or.inl ⟨_, rfl⟩) hlocks hI h dX3_one_166
    · replace h := h.2 c6
      refine lv_aload_n hx hb dX3_one_103 rfl (lv_at hl 0 rfl) ?_
      have hr65 := h.1; replace h := h.2
      obtain ⟨a62, b63, f64, h⟩ := h
      refine x_callVv (As := []) (rest := []) hF (t_X3_opens l hlt D dA ad (bset S a62 b63) _ x0 _ a62.toNat b63.toNat (bC_bset _ _ _).symm (bL_bset _ _ _).symm h) (by obtain ⟨fs, hg⟩ := hr65; exact s_recvP hK hI hg rfl) (cwV 0 hts (lw_V q599 q601 qs14 q110 q602) rfl rfl rfl (by decide +kernel) ⟨by have h1 := hR.1; have h2 : (rmD 9 a62.toNat b63.toNat).frames = 9 + 1 := rfl; omega, by have h1 := hR.2; have h2 : (rmD 9 a62.toNat b63.toNat).locals = 64 * 9 + 64 := rfl; omega⟩) hK hI hZ hcs f64 rfl hl.1 rfl (Nat.le_of_ble_eq_true rfl) dX3_one_104 (fun q S67 S68 H locs cells slots h eS68 hg hI hcs => ?_) (fun S67 S68 H locs cells slots h eS68 hI hcs => ?_)
      · replace h := (h S68 eS68).1 q rfl
        rw [← hQ]; exact x_out hout hlocks hK hI ⟨by have h1 := hcs.1; omega, by have h1 := hcs.2; omega⟩ hg h
      replace h := (h S68 eS68).2 rfl
      refine lv_aload_n hx hb dX3_one_107 rfl (lv_at hl 0 rfl) ?_
      have hr73 := h.1; replace h := h.2
      obtain ⟨a70, b71, f72, h⟩ := h
      refine x_callVq (As := []) (rest := []) hF (ps_2 (ihd (bset S68 a70 b71) _ 2 x0 _ a70.toNat b71.toNat (bC_bset _ _ _).symm (bL_bset _ _ _).symm h)) (by obtain ⟨fs, hg⟩ := hr73; exact s_recvP hK hI hg rfl) (cwV 0 hts (lw_V q558 q560 qs10 q110 q561) rfl rfl rfl (by decide +kernel) ⟨by have h1 := hR.1; have h2 : (rmD (10 + d) a70.toNat b71.toNat).frames = (10 + d) + 1 := rfl; omega, by have h1 := hR.2; have h2 : (rmD (10 + d) a70.toNat b71.toNat).locals = 64 * (10 + d) + 64 := rfl; omega⟩) hK hI hZ hcs f72 rfl hl.1 rfl (Nat.le_of_ble_eq_true rfl) dX3_one_108 (fun q S75 S76 H locs cells slots h eS76 hg hI hcs => ?_) (fun r74 S75 S76 H locs cells slots h eS76 hI hcs => ?_)
      · replace h := (h S76 eS76).1 q rfl
        rw [← hQ]; exact x_out hout hlocks hK hI ⟨by have h1 := hcs.1; omega, by have h1 := hcs.2; omega⟩ hg h
      replace h := (h S76 eS76).2 rfl
      obtain ⟨q78, e79, h⟩ := h
      rw [e79]
      show W p l e R s m args below meth c _ _ _ _ Q (F0 m _ ls [.ref q78])
      refine lv_astore_n (lv' := [(1, .ref q78), (0, .ref x0)]) hx hb dX3_one_111 rfl hl (by decide) rfl (fun ls hl => ?_)
      refine lv_aload_n hx hb dX3_one_112 rfl (lv_at hl 1 rfl) ?_
      refine nr_bipush hx hb dX3_one_113 (by decide) ?_
      have hr83 := h.1; replace h := h.2
      obtain ⟨a80, b81, f82, h⟩ := h
      refine x_callVv (As := [iV 41]) (rest := []) hF (t_X3_want l hlt D dA ad (bset S76 a80 b81) _ x0 41 _ (by decide) a80.toNat b81.toNat (bC_bset _ _ _).symm (bL_bset _ _ _).symm h) (by obtain ⟨fs, hg⟩ := hr83; exact s_recvP hK hI hg rfl) (cwV 1 hts (lw_V q603 q605 qs15 q110 q606) rfl rfl rfl (by decide +kernel) ⟨by have h1 := hR.1; have h2 : (rmD 9 a80.toNat b81.toNat).frames = 9 + 1 := rfl; omega, by have h1 := hR.2; have h2 : (rmD 9 a80.toNat b81.toNat).locals = 64 * 9 + 64 := rfl; omega⟩) hK hI hZ hcs f82 rfl hl.1 rfl (Nat.le_of_ble_eq_true rfl) dX3_one_115 (fun q S85 S86 H locs cells slots h eS86 hg hI hcs => ?_) (fun S85 S86 H locs cells slots h eS86 hI hcs => ?_)
      · replace h := (h S86 eS86).1 q rfl
        rw [← hQ]; exact x_out hout hlocks hK hI ⟨by have h1 := hcs.1; omega, by have h1 := hcs.2; omega⟩ hg h
      replace h := (h S86 eS86).2 rfl
      refine lv_goto (tgt := 155) hx hb dX3_one_118 (by decide) ?_
      refine lv_aload_n hx hb dX3_one_155 rfl (lv_at hl 1 rfl) ?_
      refine lv_dup hx hb dX3_one_156 rfl ?_
      obtain ⟨fs88, v91, hg89, hv90, h⟩ := h
      refine gPX3_77 hF hK hI hg89 hv90 dX3_one_157 (fun f92 => ?_)
      replace h := h f92
      refine nr_iconst hx hb dX3_one_160 ?_
      have f93 := h.1; replace h := h.2
      refine nr_isub hx hb dX3_one_161 ?_
      obtain ⟨fs94, hg95, hn96, h⟩ := h
      refine uPX3_77 hF hK hI hg95 hn96 f93 dX3_one_162 (fun S97 H locs eS97 hI => ?_)
      replace h := h S97 eS97
      have hcs := bOK.to (S' := S97) hcs (by rw [eS97]; exact ⟨rfl, rfl⟩)
      refine lv_aload_n hx hb dX3_one_165 rfl (lv_at hl 0 rfl) ?_
      rw [← hQ]; refine vz_ret ?_; refine W.widen (k := mc) (n := ms) (by have h1 := hcs.1; omega) (by have h1 := hcs.2; omega) ?_; exact s_qret (v := (some q78)) (K := (K none)) hx hb hr (Or.inl ⟨_, rfl⟩) hlocks hI h dX3_one_166
  have J72 : ∀ (x0 : Nat) (S : St) (H : Heap) (locs : List Loc) (ls : Array Slot) (cells slots : Nat), (sI D dA wX ad A s.heap S H locs ∧ bOK R S cells slots) → lv_has ls 2 [(0, .ref x0)] → j_X3_one_72 W0 x0 S K → W p l e R s m args below meth c H locs cells slots Q (F0 m 72 ls []) := by
    intro x0 S H locs ls cells slots hI hl h
    obtain ⟨hI, hcs⟩ := hI
    unfold j_X3_one_72 at h
    have f100 := h.1; replace h := h.2
    refine t_new (C := RX8) (T := TX8) (ci := 8) hx hb tyX8 tyX8_ok hts hown hK hI hcs rfl in_X8 q589 q590 q126 ([.inl 0] : List PV) (by intro j hj; have hj2 : j = 0 := (by omega); subst hj2; rfl) (by intro v hv; simp only [List.mem_cons, List.not_mem_nil, or_false] at hv; subst hv; first | exact ni_r0 | exact trivial) f100 dX3_one_72 (fun q98 S99 H cells slots hqq98 eS99 _ hI hcs => ?_)
    replace h := h q98 S99 hqq98 eS99
    refine lv_dup hx hb dX3_one_75 rfl ?_
    refine lv_aload_n hx hb dX3_one_76 rfl (lv_at hl 0 rfl) ?_
    obtain ⟨fs101, v104, hg102, hv103, h⟩ := h
    refine gPX3_25 hF hK hI hg102 hv103 dX3_one_77 (fun f105 => ?_)
    replace h := h f105
    refine nr_sipush hx hb dX3_one_80 (by decide) ?_
    have f106 := h.1; replace h := h.2
    refine nr_isub hx hb dX3_one_83 ?_
    obtain ⟨a107, b108, f109, h⟩ := h
    refine p_callINv (As := [iV (v104 - 216)]) (rest := [.ref q98]) hF (t_X8_init l hlt D dA ad (bset S99 a107 b108) _ q98 (v104 - 216) _ f106 a107.toNat b108.toNat (bC_bset _ _ _).symm (bL_bset _ _ _).symm h) ⟨va_cnB 1 hts (lw_meth q593) rfl rfl rfl (nMl_3 hK.2) (hts _ q126) (by decide +kernel) ⟨by have h1 := hR.1; have h2 : (rmD 2 a107.toNat b108.toNat).frames = 2 + 1 := rfl; omega, by have h1 := hR.2; have h2 : (rmD 2 a107.toNat b108.toNat).locals = 64 * 2 + 64 := rfl; omega⟩, rfl, hts _ q592⟩ hK hI hZ hcs f109 rfl hl.1 rfl (Nat.le_of_ble_eq_true rfl) dX3_one_84 (fun S111 S112 H locs cells slots h eS112 hI hcs => ?_)
    replace h := h S112 eS112
    refine lv_astore_n (lv' := [(1, .ref q98), (0, .ref x0)]) hx hb dX3_one_87 rfl hl (by decide) rfl (fun ls hl => ?_)
    refine lv_aload_n hx hb dX3_one_88 rfl (lv_at hl 1 rfl) ?_
    have hr117 := h.1; replace h := h.2
    obtain ⟨a114, b115, f116, h⟩ := h
    refine p_callVv (As := []) (rest := []) hF (t_X3_next l hlt D dA ad (bset S112 a114 b115) _ x0 _ a114.toNat b115.toNat (bC_bset _ _ _).symm (bL_bset _ _ _).symm h) (by obtain ⟨fs, hg⟩ := hr117; exact s_recvP hK hI hg rfl) (cwV 0 hts (lw_V q417 q419 qs5 q110 q420) rfl rfl rfl (by decide +kernel) ⟨by have h1 := hR.1; have h2 : (rmD 7 a114.toNat b115.toNat).frames = 7 + 1 := rfl; omega, by have h1 := hR.2; have h2 : (rmD 7 a114.toNat b115.toNat).locals = 64 * 7 + 64 := rfl; omega⟩) hK hI hZ hcs f116 rfl hl.1 rfl (Nat.le_of_ble_eq_true rfl) dX3_one_89 (fun S119 S120 H locs cells slots h eS120 hI hcs => ?_)
    replace h := h S120 eS120
    refine lv_aload_n hx hb dX3_one_92 rfl (lv_at hl 0 rfl) ?_
    rw [← hQ]; refine vz_ret ?_; refine W.widen (k := mc) (n := ms) (by have h1 := hcs.1; omega) (by have h1 := hcs.2; omega) ?_; exact s_qret (v := (some q98)) (K := (K none)) hx hb hr (Or.inl ⟨_, rfl⟩) hlocks hI h dX3_one_93
  unfold b_X3_one at h
  refine lv_aload_n hx hb dX3_one_0 rfl (lv_at hl 0 rfl) ?_
  obtain ⟨fs122, v125, hg123, hv124, h⟩ := h
  refine gPX3_25 hF hK hI hg123 hv124 dX3_one_1 (fun f126 => ?_)
  replace h := h f126
  refine nr_sipush hx hb dX3_one_4 (by decide) ?_
  refine nr_icmp_ne hx hb f126 (by decide) dX3_one_7 (tgt := 26) (by decide) (fun c127 => ?_) (fun c127 => ?_)
  · replace h := h.1 c127
    refine lv_aload_n hx hb dX3_one_26 rfl (lv_at hl 0 rfl) ?_
    obtain ⟨fs128, v131, hg129, hv130, h⟩ := h
    refine gPX3_25 hF hK hI hg129 hv130 dX3_one_27 (fun f132 => ?_)
    replace h := h f132
    refine nr_sipush hx hb dX3_one_30 (by decide) ?_
    refine nr_icmp_lt hx hb f132 (by decide) dX3_one_33 (tgt := 94) (by decide) (fun c133 => ?_) (fun c133 => ?_)
    · replace h := h.1 c133
      exact J94 x0 S _ _ _ _ _ ⟨hI, hcs⟩ (lv_sub hl [0] rfl) h
    · replace h := h.2 c133
      refine lv_aload_n hx hb dX3_one_36 rfl (lv_at hl 0 rfl) ?_
      obtain ⟨fs134, v137, hg135, hv136, h⟩ := h
      refine gPX3_25 hF hK hI hg135 hv136 dX3_one_37 (fun f138 => ?_)
      replace h := h f138
      refine nr_sipush hx hb dX3_one_40 (by decide) ?_
      refine nr_icmp_gt hx hb f138 (by decide) dX3_one_43 (tgt := 94) (by decide) (fun c139 => ?_) (fun c139 => ?_)
      · replace h := h.1 c139
        exact J94 x0 S _ _ _ _ _ ⟨hI, hcs⟩ (lv_sub hl [0] rfl) h
      · replace h := h.2 c139
        refine lv_aload_n hx hb dX3_one_46 rfl (lv_at hl 0 rfl) ?_
        obtain ⟨fs140, v143, hg141, hv142, h⟩ := h
        refine gPX3_25 hF hK hI hg141 hv142 dX3_one_47 (fun f144 => ?_)
        replace h := h f144
        refine nr_sipush hx hb dX3_one_50 (by decide) ?_
        refine nr_icmp_le hx hb f144 (by decide) dX3_one_53 (tgt := 72) (by decide) (fun c145 => ?_) (fun c145 => ?_)
        · replace h := h.1 c145
          exact J72 x0 S _ _ _ _ _ ⟨hI, hcs⟩ (lv_sub hl [0] rfl) h
        · replace h := h.2 c145
          refine lv_aload_n hx hb dX3_one_56 rfl (lv_at hl 0 rfl) ?_
          obtain ⟨fs146, v149, hg147, hv148, h⟩ := h
          refine gPX3_83 hF hK hI hg147 hv148 dX3_one_57 (fun f150 => ?_)
          replace h := h f150
          refine nr_sipush hx hb dX3_one_60 (by decide) ?_
          refine nr_icmp_eq hx hb f150 (by decide) dX3_one_63 (tgt := 72) (by decide) (fun c151 => ?_) (fun c151 => ?_)
          · replace h := h.1 c151
            exact J72 x0 S _ _ _ _ _ ⟨hI, hcs⟩ (lv_sub hl [0] rfl) h
          · replace h := h.2 c151
            refine lv_aload_n hx hb dX3_one_66 rfl (lv_at hl 0 rfl) ?_
            refine nr_iconst hx hb dX3_one_67 ?_
            have hr155 := h.1; replace h := h.2
            obtain ⟨a152, b153, f154, h⟩ := h
            refine p_callVq (As := [iV 5]) (rest := []) hF (t_X3_wrong l hlt D dA ad (bset S a152 b153) _ x0 5 _ (by decide) a152.toNat b153.toNat (bC_bset _ _ _).symm (bL_bset _ _ _).symm h) (by obtain ⟨fs, hg⟩ := hr155; exact s_recvP hK hI hg rfl) (cwV 1 hts (lw_V q486 q488 qs7 q110 q489) rfl rfl rfl (by decide +kernel) ⟨by have h1 := hR.1; have h2 : (rmD 8 a152.toNat b153.toNat).frames = 8 + 1 := rfl; omega, by have h1 := hR.2; have h2 : (rmD 8 a152.toNat b153.toNat).locals = 64 * 8 + 64 := rfl; omega⟩) hK hI hZ hcs f154 rfl hl.1 rfl (Nat.le_of_ble_eq_true rfl) dX3_one_68 (fun r156 S157 S158 H locs cells slots h eS158 hI hcs => ?_)
            replace h := h S158 eS158
            obtain ⟨q160, e161, h⟩ := h
            rw [e161]
            show W p l e R s m args below meth c _ _ _ _ Q (F0 m _ ls [.ref q160])
            refine vz_athrow hx hb dX3_one_71 ?_
            rw [← hQ]; exact x_out hout hlocks hK hI ⟨by have h1 := hcs.1; omega, by have h1 := hcs.2; omega⟩ h.1 h.2
  · replace h := h.2 c127
    have f165 := h.1; replace h := h.2
    refine t_new (C := RX7) (T := TX7) (ci := 7) hx hb tyX7 tyX7_ok hts hown hK hI hcs rfl in_X7 q572 q573 q125 ([.inl 0] : List PV) (by intro j hj; have hj2 : j = 0 := (by omega); subst hj2; rfl) (by intro v hv; simp only [List.mem_cons, List.not_mem_nil, or_false] at hv; subst hv; first | exact ni_r0 | exact trivial) f165 dX3_one_10 (fun q163 S164 H cells slots hqq163 eS164 _ hI hcs => ?_)
    replace h := h q163 S164 hqq163 eS164
    refine lv_dup hx hb dX3_one_13 rfl ?_
    refine lv_aload_n hx hb dX3_one_14 rfl (lv_at hl 0 rfl) ?_
    refine nr_iconst hx hb dX3_one_15 ?_
    refine nr_sipush hx hb dX3_one_16 (by decide) ?_
    have hr169 := h.1; replace h := h.2
    obtain ⟨a166, b167, f168, h⟩ := h
    refine x_callVi (As := [iV 0, iV 9999]) (rest := [.ref q163, .ref q163]) hF (t_X3_number l hlt D dA ad (bset S164 a166 b167) _ x0 0 9999 _ (by decide) (by decide) a166.toNat b167.toNat (bC_bset _ _ _).symm (bL_bset _ _ _).symm h) (by obtain ⟨fs, hg⟩ := hr169; exact s_recvP hK hI hg rfl) (cwV 2 hts (lw_V q574 q576 qs13 q110 q577) rfl rfl rfl (by decide +kernel) ⟨by have h1 := hR.1; have h2 : (rmD 9 a166.toNat b167.toNat).frames = 9 + 1 := rfl; omega, by have h1 := hR.2; have h2 : (rmD 9 a166.toNat b167.toNat).locals = 64 * 9 + 64 := rfl; omega⟩) hK hI hZ hcs f168 rfl hl.1 rfl (Nat.le_of_ble_eq_true rfl) dX3_one_19 (fun q S171 S172 H locs cells slots h eS172 hg hI hcs => ?_) (fun r170 S171 S172 H locs cells slots fr170 h eS172 hI hcs => ?_)
    · replace h := (h S172 eS172).1 q rfl
      rw [← hQ]; exact x_out hout hlocks hK hI ⟨by have h1 := hcs.1; omega, by have h1 := hcs.2; omega⟩ hg h
    replace h := (h S172 eS172).2 rfl
    replace h := h fr170
    obtain ⟨a174, b175, f176, h⟩ := h
    refine p_callINv (As := [iV r170]) (rest := [.ref q163]) hF (t_X7_init l hlt D dA ad (bset S172 a174 b175) _ q163 r170 _ fr170 a174.toNat b175.toNat (bC_bset _ _ _).symm (bL_bset _ _ _).symm h) ⟨va_cnB 1 hts (lw_meth q580) rfl rfl rfl (nMl_2 hK.2) (hts _ q125) (by decide +kernel) ⟨by have h1 := hR.1; have h2 : (rmD 2 a174.toNat b175.toNat).frames = 2 + 1 := rfl; omega, by have h1 := hR.2; have h2 : (rmD 2 a174.toNat b175.toNat).locals = 64 * 2 + 64 := rfl; omega⟩, rfl, hts _ q579⟩ hK hI hZ hcs f176 rfl hl.1 rfl (Nat.le_of_ble_eq_true rfl) dX3_one_22 (fun S178 S179 H locs cells slots h eS179 hI hcs => ?_)
    replace h := h S179 eS179
    rw [← hQ]; refine vz_ret ?_; refine W.widen (k := mc) (n := ms) (by have h1 := hcs.1; omega) (by have h1 := hcs.2; omega) ?_; exact s_qret (v := (some q163)) (K := (K none)) hx hb hr (Or.inl ⟨_, rfl⟩) hlocks hI h dX3_one_25
