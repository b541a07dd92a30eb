set_option maxRecDepth 100000
set_option maxHeartbeats 4000000 in
theorem t_X3_product (l : Launch) (hlt : l.stackTraces = false) (D : va_G) (dA : Nat → ClassId) (ad : Nat → Nat) (d : Nat) (W0 : Nat → Nat → St → (Option Nat → Option Nat → St → Prop) → Prop) (ihd : ∀ (S : St) (sz : Nat) (i q : Nat) (K : Option Nat → Option Nat → St → Prop) (mc ms : Nat), mc = bC S → ms = bL S → W0 i q S K → PsM l D dA ad (10 + d) S sz i q K mc ms) (S : St) (sz : Nat) (x0 : Nat) (K : Option Nat → Option Nat → St → Prop) (mc ms : Nat) (hmc : mc = bC S) (hms : ms = bL S) (h : b_X3_product W0 x0 S K) : vz_Met l yX3_product (ws_ yX3_product cX3_product 3 (Option.some (Jvm.ClassFile.FieldType.object "NineGraves$Sum"))) (rmD (10 + (d + 1)) mc ms) (va_Pc [.ref x0] (tPre D dA ad S sz)) (va_Qq (fun r S' => K none r S') (sPost D dA wX ad (wA wX ad S sz)) (wA wX ad S sz)) (vz_X (fun _ : St => True) (xB D dA ad (wA wX ad S sz) (fun q S' => K (some q) none S')) (wA wX ad S sz)) mc ms (wA wX ad S sz) := by
  refine vz_ofW (cc := cX3_product) (maxL := 3) (ret := (Option.some (Jvm.ClassFile.FieldType.object "NineGraves$Sum"))) (by decide) rfl ?_
  intro p e s m args below meth c s₁ B hml hout hv
  obtain ⟨rfl, ⟨hsz, hK, hC⟩, hZ⟩ := hv
  have hx := B.exec
  have hb := B.bytes
  have hr := B.returns
  have hlocks := B.notSynchronized
  have hts := atoms_spec (ws := (ws_ yX3_product cX3_product 3 (Option.some (Jvm.ClassFile.FieldType.object "NineGraves$Sum")))) B.pre
  have hts : ∀ w ∈ lw_all, w.before _ s = true := fun w h => hts w (List.mem_cons_of_mem _ h)
  have hown : s.vm.findClass RX3 = some m.cls := findClass_of_methodNamed B.named
  clear B
  subst hsz
  have hI : sI D dA wX ad (wA wX ad S s.heap.size) s.heap S s.heap [] := hC.start
  clear hC
  generalize wA wX ad S s.heap.size = A at hI hZ ⊢
  have hl := lv_entry ([.ref x0] : List Value) (n := 3) (Nat.le_of_ble_eq_true rfl)
  rw [lg_entry_eq]
  generalize (lg_sl ([.ref x0] : List Value) ++ List.replicate (3 - (lg_sl ([.ref x0] : List Value)).length) Slot.unset).toArray = ls at hl ⊢
  have hl : lv_has ls 3 [(0, .ref x0)] := hl
  have hF : CallFix p m c cX3_product 3 s _ lw_all RX3 := ⟨hx, hb, hml, hown, hts⟩
  have hR : (headSpec (ws_ yX3_product cX3_product 3 (Option.some (Jvm.ClassFile.FieldType.object "NineGraves$Sum"))) (rmD (10 + (d + 1)) mc ms)).room.frames = (10 + (d + 1)) + 1 ∧ (headSpec (ws_ yX3_product cX3_product 3 (Option.some (Jvm.ClassFile.FieldType.object "NineGraves$Sum"))) (rmD (10 + (d + 1)) mc ms)).room.locals = 64 * (10 + (d + 1)) + 64 := ⟨rfl, rfl⟩
  have hRc : (headSpec (ws_ yX3_product cX3_product 3 (Option.some (Jvm.ClassFile.FieldType.object "NineGraves$Sum"))) (rmD (10 + (d + 1)) mc ms)).room.cells = mc ∧ (headSpec (ws_ yX3_product cX3_product 3 (Option.some (Jvm.ClassFile.FieldType.object "NineGraves$Sum"))) (rmD (10 + (d + 1)) mc ms)).room.slots = ms := ⟨rfl, rfl⟩
  generalize (headSpec (ws_ yX3_product cX3_product 3 (Option.some (Jvm.ClassFile.FieldType.object "NineGraves$Sum"))) (rmD (10 + (d + 1)) mc ms)).room = R at hR hRc ⊢
  obtain ⟨hRc, hRs⟩ := hRc
  have hcs : bOK R S 0 0 := ⟨by omega, by omega⟩
  clear hmc hms
  have hcs0 := hcs
  generalize ([.ref x0] : List Value).toArray = args at hts hF ⊢
  generalize hQ : vz_MQ below _ _ _ _ _ _ _ = Q
  have L12 : ∀ (x0 : Nat) (x1 : Nat), ∀ (n12 : Nat) (S : St) (H : Heap) (locs : List Loc) (ls : Array Slot) (cells slots : Nat), (sI D dA wX ad A s.heap S H locs ∧ bOK R S cells slots) → lv_has ls 3 [(0, .ref x0), (1, .ref x1)] → l_X3_product_12 W0 x0 x1 K n12 S → W p l e R s m args below meth c H locs cells slots Q (F0 m 12 ls []) := by
    intro x0 x1 n12
    induction n12 with
    | zero => intro S H locs ls cells slots hI hl h; exact False.elim h
    | succ n12 ih12 =>
      intro S H locs ls cells slots hI hl h
      obtain ⟨hI, hcs⟩ := hI
      have J30 : ∀ (S : St) (H : Heap) (locs : List Loc) (ls : Array Slot) (cells slots : Nat), (sI D dA wX ad A s.heap S H locs ∧ bOK R S cells slots) → lv_has ls 3 [(0, .ref x0), (1, .ref x1)] → j_X3_product_30 W0 x0 x1 S K (l_X3_product_12 W0 x0 x1 K n12) → W p l e R s m args below meth c H locs cells slots Q (F0 m 30 ls []) := by
        intro S H locs ls cells slots hI hl h
        obtain ⟨hI, hcs⟩ := hI
        unfold j_X3_product_30 at h
        refine lv_aload_n hx hb dX3_product_30 rfl (lv_at hl 0 rfl) ?_
        obtain ⟨fs1, v4, hg2, hv3, h⟩ := h
        refine gPX3_25 hF hK hI hg2 hv3 dX3_product_31 (fun f5 => ?_)
        replace h := h f5
        refine lv_istore_n (lv' := [(2, iV v4), (0, .ref x0), (1, .ref x1)]) hx hb dX3_product_34 rfl hl (by decide) rfl (fun ls hl => ?_)
        refine lv_aload_n hx hb dX3_product_35 rfl (lv_at hl 1 rfl) ?_
        have hr9 := h.1; replace h := h.2
        obtain ⟨a6, b7, f8, h⟩ := h
        refine p_callVv (As := []) (rest := []) hF (t_X3_next l hlt D dA ad (bset S a6 b7) _ x0 _ a6.toNat b7.toNat (bC_bset _ _ _).symm (bL_bset _ _ _).symm h) (by obtain ⟨fs, hg⟩ := hr9; exact s_recvP hK hI hg rfl) (cwV 0 hts (lw_V q417 q419 qs5 q110 q420) rfl rfl rfl (by decide +kernel) ⟨by have h1 := hR.1; have h2 : (rmD 7 a6.toNat b7.toNat).frames = 7 + 1 := rfl; omega, by have h1 := hR.2; have h2 : (rmD 7 a6.toNat b7.toNat).locals = 64 * 7 + 64 := rfl; omega⟩) hK hI hZ hcs f8 rfl hl.1 rfl (Nat.le_of_ble_eq_true rfl) dX3_product_36 (fun S11 S12 H locs cells slots h eS12 hI hcs => ?_)
        replace h := h S12 eS12
        refine lv_aload_n hx hb dX3_product_39 rfl (lv_at hl 2 rfl) ?_
        refine lv_iload_n hx hb dX3_product_40 rfl (lv_at hl 0 rfl) ?_
        refine lv_aload_n hx hb dX3_product_41 rfl (lv_at hl 1 rfl) ?_
        have hr17 := h.1; replace h := h.2
        obtain ⟨a14, b15, f16, h⟩ := h
        refine x_callVq (As := []) (rest := [iV v4, .ref x1]) hF (ps_0 (ihd (bset S12 a14 b15) _ 0 x0 _ a14.toNat b15.toNat (bC_bset _ _ _).symm (bL_bset _ _ _).symm h)) (by obtain ⟨fs, hg⟩ := hr17; exact s_recvP hK hI hg rfl) (cwV 0 hts (lw_V q568 q570 qs12 q110 q571) rfl rfl rfl (by decide +kernel) ⟨by have h1 := hR.1; have h2 : (rmD (10 + d) a14.toNat b15.toNat).frames = (10 + d) + 1 := rfl; omega, by have h1 := hR.2; have h2 : (rmD (10 + d) a14.toNat b15.toNat).locals = 64 * (10 + d) + 64 := rfl; omega⟩) hK hI hZ hcs f16 rfl hl.1 rfl (Nat.le_of_ble_eq_true rfl) dX3_product_42 (fun q S19 S20 H locs cells slots h eS20 hg hI hcs => ?_) (fun r18 S19 S20 H locs cells slots h eS20 hI hcs => ?_)
        · replace h := (h S20 eS20).1 q rfl
          rw [← hQ]; exact x_out hout hlocks hK hI ⟨by have h1 := hcs.1; omega, by have h1 := hcs.2; omega⟩ hg h
        replace h := (h S20 eS20).2 rfl
        obtain ⟨q22, e23, h⟩ := h
        rw [e23]
        show W p l e R s m args below meth c _ _ _ _ Q (F0 m _ ls [.ref q22, iV v4, .ref x1])
        have hr27 := h.1; replace h := h.2
        obtain ⟨a24, b25, f26, h⟩ := h
        refine p_callVv (As := [iV v4, .ref q22]) (rest := []) hF (t_X6_add l hlt D dA ad (bset S20 a24 b25) _ x1 v4 q22 _ f5 a24.toNat b25.toNat (bC_bset _ _ _).symm (bL_bset _ _ _).symm h) (by obtain ⟨fs, hg⟩ := hr27; exact s_recvP hK hI hg rfl) (cwV 2 hts (lw_V q633 q634 q635 q123 q636) rfl rfl rfl (by decide +kernel) ⟨by have h1 := hR.1; have h2 : (rmD 7 a24.toNat b25.toNat).frames = 7 + 1 := rfl; omega, by have h1 := hR.2; have h2 : (rmD 7 a24.toNat b25.toNat).locals = 64 * 7 + 64 := rfl; omega⟩) hK hI hZ hcs f26 rfl hl.1 rfl (Nat.le_of_ble_eq_true rfl) dX3_product_45 (fun S29 S30 H locs cells slots h eS30 hI hcs => ?_)
        replace h := h S30 eS30
        refine lv_goto (tgt := 12) hx hb dX3_product_48 (by decide) ?_
        exact ih12 S30 _ _ _ _ _ ⟨hI, hcs⟩ (lv_sub hl [1, 2] rfl) h
      unfold l_X3_product_12 at h
      refine lv_aload_n hx hb dX3_product_12 rfl (lv_at hl 0 rfl) ?_
      obtain ⟨fs32, v35, hg33, hv34, h⟩ := h
      refine gPX3_25 hF hK hI hg33 hv34 dX3_product_13 (fun f36 => ?_)
      replace h := h f36
      refine nr_bipush hx hb dX3_product_16 (by decide) ?_
      refine nr_icmp_eq hx hb f36 (by decide) dX3_product_18 (tgt := 30) (by decide) (fun c37 => ?_) (fun c37 => ?_)
      · replace h := h.1 c37
        exact J30 S _ _ _ _ _ ⟨hI, hcs⟩ (lv_sub hl [0, 1] rfl) h
      · replace h := h.2 c37
        refine lv_aload_n hx hb dX3_product_21 rfl (lv_at hl 0 rfl) ?_
        obtain ⟨fs38, v41, hg39, hv40, h⟩ := h
        refine gPX3_25 hF hK hI hg39 hv40 dX3_product_22 (fun f42 => ?_)
        replace h := h f42
        refine nr_bipush hx hb dX3_product_25 (by decide) ?_
        refine nr_icmp_ne hx hb f42 (by decide) dX3_product_27 (tgt := 51) (by decide) (fun c43 => ?_) (fun c43 => ?_)
        · replace h := h.1 c43
          refine lv_aload_n hx hb dX3_product_51 rfl (lv_at hl 1 rfl) ?_
          have hr47 := h.1; replace h := h.2
          obtain ⟨a44, b45, f46, h⟩ := h
          refine p_callVq (As := []) (rest := []) hF (t_X6_itself l hlt D dA ad (bset S a44 b45) _ x1 _ a44.toNat b45.toNat (bC_bset _ _ _).symm (bL_bset _ _ _).symm h) (by obtain ⟨fs, hg⟩ := hr47; exact s_recvP hK hI hg rfl) (cwV 0 hts (lw_V q716 q717 q718 q123 q719) rfl rfl rfl (by decide +kernel) ⟨by have h1 := hR.1; have h2 : (rmD 1 a44.toNat b45.toNat).frames = 1 + 1 := rfl; omega, by have h1 := hR.2; have h2 : (rmD 1 a44.toNat b45.toNat).locals = 64 * 1 + 64 := rfl; omega⟩) hK hI hZ hcs f46 rfl hl.1 rfl (Nat.le_of_ble_eq_true rfl) dX3_product_52 (fun r48 S49 S50 H locs cells slots h eS50 hI hcs => ?_)
          replace h := h S50 eS50
          obtain ⟨q52, e53, h⟩ := h
          rw [e53]
          show W p l e R s m args below meth c _ _ _ _ Q (F0 m _ ls [.ref q52])
          rw [← hQ]; refine vz_ret ?_; refine W.widen (k := mc) (n := ms) (by have h1 := hcs.1; omega) (by have h1 := hcs.2; omega) ?_; exact s_qret (v := (some q52)) (K := (K none)) hx hb hr (Or.inl ⟨_, rfl⟩) hlocks hI h dX3_product_55
        · replace h := h.2 c43
          exact J30 S _ _ _ _ _ ⟨hI, hcs⟩ (lv_sub hl [0, 1] rfl) h
  unfold b_X3_product at h
  have f56 := h.1; replace h := h.2
  refine t_new (C := RX6) (T := TX6) (ci := 6) hx hb tyX6 tyX6_ok hts hown hK hI hcs rfl in_X6 q562 q563 q123 ([.inr (.inr none), .inr (.inr none), .inr (.inr none)] : List PV) (by intro j hj; have hj2 : j = 0 ∨ j = 1 ∨ j = 2 := (by omega); rcases hj2 with rfl | rfl | rfl <;> rfl) (by intro v hv; simp only [List.mem_cons, List.not_mem_nil, or_false] at hv; rcases hv with rfl | rfl | rfl <;> first | exact ni_r0 | exact trivial) f56 dX3_product_0 (fun q54 S55 H cells slots hqq54 eS55 _ hI hcs => ?_)
  replace h := h q54 S55 hqq54 eS55
  refine lv_dup hx hb dX3_product_3 rfl ?_
  refine lv_aload_n hx hb dX3_product_4 rfl (lv_at hl 0 rfl) ?_
  have hr60 := h.1; replace h := h.2
  obtain ⟨a57, b58, f59, h⟩ := h
  refine x_callVq (As := []) (rest := [.ref q54, .ref q54]) hF (ps_0 (ihd (bset S55 a57 b58) _ 0 x0 _ a57.toNat b58.toNat (bC_bset _ _ _).symm (bL_bset _ _ _).symm h)) (by obtain ⟨fs, hg⟩ := hr60; exact s_recvP hK hI hg rfl) (cwV 0 hts (lw_V q568 q570 qs12 q110 q571) rfl rfl rfl (by decide +kernel) ⟨by have h1 := hR.1; have h2 : (rmD (10 + d) a57.toNat b58.toNat).frames = (10 + d) + 1 := rfl; omega, by have h1 := hR.2; have h2 : (rmD (10 + d) a57.toNat b58.toNat).locals = 64 * (10 + d) + 64 := rfl; omega⟩) hK hI hZ hcs f59 rfl hl.1 rfl (Nat.le_of_ble_eq_true rfl) dX3_product_5 (fun q S62 S63 H locs cells slots h eS63 hg hI hcs => ?_) (fun r61 S62 S63 H locs cells slots h eS63 hI hcs => ?_)
  · replace h := (h S63 eS63).1 q rfl
    rw [← hQ]; exact x_out hout hlocks hK hI ⟨by have h1 := hcs.1; omega, by have h1 := hcs.2; omega⟩ hg h
  replace h := (h S63 eS63).2 rfl
  obtain ⟨q65, e66, h⟩ := h
  rw [e66]
  show W p l e R s m args below meth c _ _ _ _ Q (F0 m _ ls [.ref q65, .ref q54, .ref q54])
  obtain ⟨a67, b68, f69, h⟩ := h
  refine p_callIv (As := [.ref q65]) (rest := [.ref q54]) hF (t_X6_init l hlt D dA ad (bset S63 a67 b68) _ q54 q65 _ a67.toNat b68.toNat (bC_bset _ _ _).symm (bL_bset _ _ _).symm h) (cwI 1 hts (lw_meth q619) rfl rfl rfl (hts _ q123) (hts _ q617) (hts _ q618) rfl (by decide +kernel) ⟨by have h1 := hR.1; have h2 : (rmD 4 a67.toNat b68.toNat).frames = 4 + 1 := rfl; omega, by have h1 := hR.2; have h2 : (rmD 4 a67.toNat b68.toNat).locals = 64 * 4 + 64 := rfl; omega⟩) hK hI hZ hcs f69 rfl hl.1 rfl (Nat.le_of_ble_eq_true rfl) dX3_product_8 (fun S71 S72 H locs cells slots h eS72 hI hcs => ?_)
  replace h := h S72 eS72
  refine lv_astore_n (lv' := [(1, .ref q54), (0, .ref x0)]) hx hb dX3_product_11 rfl hl (by decide) rfl (fun ls hl => ?_)
  obtain ⟨n0, h⟩ := h
  exact L12 x0 q54 n0 S72 _ _ _ _ _ ⟨hI, hcs⟩ (lv_sub hl [1, 0] rfl) h
set_option maxHeartbeats 4000000 in
theorem t_X3_sum (l : Launch) (hlt : l.stackTraces = false) (D : va_G) (dA : Nat → ClassId) (ad : Nat → Nat) (d : Nat) (W0 : Nat → Nat → St → (Option Nat → Option Nat → St → Prop) → Prop) (ihd : ∀ (S : St) (sz : Nat) (i q : Nat) (K : Option Nat → Option Nat → St → Prop) (mc ms : Nat), mc = bC S → ms = bL S → W0 i q S K → PsM l D dA ad (10 + d) S sz i q K mc ms) (S : St) (sz : Nat) (x0 : Nat) (K : Option Nat → Option Nat → St → Prop) (mc ms : Nat) (hmc : mc = bC S) (hms : ms = bL S) (h : b_X3_sum W0 x0 S K) : vz_Met l yX3_sum (ws_ yX3_sum cX3_sum 3 (Option.some (Jvm.ClassFile.FieldType.object "NineGraves$Sum"))) (rmD (10 + (d + 1)) mc ms) (va_Pc [.ref x0] (tPre D dA ad S sz)) (va_Qq (fun r S' => K none r S') (sPost D dA wX ad (wA wX ad S sz)) (wA wX ad S sz)) (vz_X (fun _ : St => True) (xB D dA ad (wA wX ad S sz) (fun q S' => K (some q) none S')) (wA wX ad S sz)) mc ms (wA wX ad S sz) := by
  refine vz_ofW (cc := cX3_sum) (maxL := 3) (ret := (Option.some (Jvm.ClassFile.FieldType.object "NineGraves$Sum"))) (by decide) rfl ?_
  intro p e s m args below meth c s₁ B hml hout hv
  obtain ⟨rfl, ⟨hsz, hK, hC⟩, hZ⟩ := hv
  have hx := B.exec
  have hb := B.bytes
  have hr := B.returns
  have hlocks := B.notSynchronized
  have hts := atoms_spec (ws := (ws_ yX3_sum cX3_sum 3 (Option.some (Jvm.ClassFile.FieldType.object "NineGraves$Sum")))) B.pre
  have hts : ∀ w ∈ lw_all, w.before _ s = true := fun w h => hts w (List.mem_cons_of_mem _ h)
  have hown : s.vm.findClass RX3 = some m.cls := findClass_of_methodNamed B.named
  clear B
  subst hsz
  have hI : sI D dA wX ad (wA wX ad S s.heap.size) s.heap S s.heap [] := hC.start
  clear hC
  generalize wA wX ad S s.heap.size = A at hI hZ ⊢
  have hl := lv_entry ([.ref x0] : List Value) (n := 3) (Nat.le_of_ble_eq_true rfl)
  rw [lg_entry_eq]
  generalize (lg_sl ([.ref x0] : List Value) ++ List.replicate (3 - (lg_sl ([.ref x0] : List Value)).length) Slot.unset).toArray = ls at hl ⊢
  have hl : lv_has ls 3 [(0, .ref x0)] := hl
  have hF : CallFix p m c cX3_sum 3 s _ lw_all RX3 := ⟨hx, hb, hml, hown, hts⟩
  have hR : (headSpec (ws_ yX3_sum cX3_sum 3 (Option.some (Jvm.ClassFile.FieldType.object "NineGraves$Sum"))) (rmD (10 + (d + 1)) mc ms)).room.frames = (10 + (d + 1)) + 1 ∧ (headSpec (ws_ yX3_sum cX3_sum 3 (Option.some (Jvm.ClassFile.FieldType.object "NineGraves$Sum"))) (rmD (10 + (d + 1)) mc ms)).room.locals = 64 * (10 + (d + 1)) + 64 := ⟨rfl, rfl⟩
  have hRc : (headSpec (ws_ yX3_sum cX3_sum 3 (Option.some (Jvm.ClassFile.FieldType.object "NineGraves$Sum"))) (rmD (10 + (d + 1)) mc ms)).room.cells = mc ∧ (headSpec (ws_ yX3_sum cX3_sum 3 (Option.some (Jvm.ClassFile.FieldType.object "NineGraves$Sum"))) (rmD (10 + (d + 1)) mc ms)).room.slots = ms := ⟨rfl, rfl⟩
  generalize (headSpec (ws_ yX3_sum cX3_sum 3 (Option.some (Jvm.ClassFile.FieldType.object "NineGraves$Sum"))) (rmD (10 + (d + 1)) mc ms)).room = R at hR hRc ⊢
  obtain ⟨hRc, hRs⟩ := hRc
  have hcs : bOK R S 0 0 := ⟨by omega, by omega⟩
  clear hmc hms
  have hcs0 := hcs
  generalize ([.ref x0] : List Value).toArray = args at hts hF ⊢
  generalize hQ : vz_MQ below _ _ _ _ _ _ _ = Q
  have L12 : ∀ (x0 : Nat) (x1 : Nat), ∀ (n12 : Nat) (S : St) (H : Heap) (locs : List Loc) (ls : Array Slot) (cells slots : Nat), (sI D dA wX ad A s.heap S H locs ∧ bOK R S cells slots) → lv_has ls 3 [(0, .ref x0), (1, .ref x1)] → l_X3_sum_12 W0 x0 x1 K n12 S → W p l e R s m args below meth c H locs cells slots Q (F0 m 12 ls []) := by
    intro x0 x1 n12
    induction n12 with
    | zero => intro S H locs ls cells slots hI hl h; exact False.elim h
    | succ n12 ih12 =>
      intro S H locs ls cells slots hI hl h
      obtain ⟨hI, hcs⟩ := hI
      have J30 : ∀ (S : St) (H : Heap) (locs : List Loc) (ls : Array Slot) (cells slots : Nat), (sI D dA wX ad A s.heap S H locs ∧ bOK R S cells slots) → lv_has ls 3 [(0, .ref x0), (1, .ref x1)] → j_X3_sum_30 W0 x0 x1 S K (l_X3_sum_12 W0 x0 x1 K n12) → W p l e R s m args below meth c H locs cells slots Q (F0 m 30 ls []) := by
        intro S H locs ls cells slots hI hl h
        obtain ⟨hI, hcs⟩ := hI
        unfold j_X3_sum_30 at h
        refine lv_aload_n hx hb dX3_sum_30 rfl (lv_at hl 0 rfl) ?_
        obtain ⟨fs1, v4, hg2, hv3, h⟩ := h
        refine gPX3_25 hF hK hI hg2 hv3 dX3_sum_31 (fun f5 => ?_)
        replace h := h f5
        refine lv_istore_n (lv' := [(2, iV v4), (0, .ref x0), (1, .ref x1)]) hx hb dX3_sum_34 rfl hl (by decide) rfl (fun ls hl => ?_)
        refine lv_aload_n hx hb dX3_sum_35 rfl (lv_at hl 1 rfl) ?_
        have hr9 := h.1; replace h := h.2
        obtain ⟨a6, b7, f8, h⟩ := h
        refine p_callVv (As := []) (rest := []) hF (t_X3_next l hlt D dA ad (bset S a6 b7) _ x0 _ a6.toNat b7.toNat (bC_bset _ _ _).symm (bL_bset _ _ _).symm h) (by obtain ⟨fs, hg⟩ := hr9; exact s_recvP hK hI hg rfl) (cwV 0 hts (lw_V q417 q419 qs5 q110 q420) rfl rfl rfl (by decide +kernel) ⟨by have h1 := hR.1; have h2 : (rmD 7 a6.toNat b7.toNat).frames = 7 + 1 := rfl; omega, by have h1 := hR.2; have h2 : (rmD 7 a6.toNat b7.toNat).locals = 64 * 7 + 64 := rfl; omega⟩) hK hI hZ hcs f8 rfl hl.1 rfl (Nat.le_of_ble_eq_true rfl) dX3_sum_36 (fun S11 S12 H locs cells slots h eS12 hI hcs => ?_)
        replace h := h S12 eS12
        refine lv_aload_n hx hb dX3_sum_39 rfl (lv_at hl 2 rfl) ?_
        refine lv_iload_n hx hb dX3_sum_40 rfl (lv_at hl 0 rfl) ?_
        refine lv_aload_n hx hb dX3_sum_41 rfl (lv_at hl 1 rfl) ?_
        have hr17 := h.1; replace h := h.2
        obtain ⟨a14, b15, f16, h⟩ := h
        refine x_callVq (As := []) (rest := [iV v4, .ref x1]) hF (ps_1 (ihd (bset S12 a14 b15) _ 1 x0 _ a14.toNat b15.toNat (bC_bset _ _ _).symm (bL_bset _ _ _).symm h)) (by obtain ⟨fs, hg⟩ := hr17; exact s_recvP hK hI hg rfl) (cwV 0 hts (lw_V q564 q566 qs11 q110 q567) rfl rfl rfl (by decide +kernel) ⟨by have h1 := hR.1; have h2 : (rmD (10 + d) a14.toNat b15.toNat).frames = (10 + d) + 1 := rfl; omega, by have h1 := hR.2; have h2 : (rmD (10 + d) a14.toNat b15.toNat).locals = 64 * (10 + d) + 64 := rfl; omega⟩) hK hI hZ hcs f16 rfl hl.1 rfl (Nat.le_of_ble_eq_true rfl) dX3_sum_42 (fun q S19 S20 H locs cells slots h eS20 hg hI hcs => ?_) (fun r18 S19 S20 H locs cells slots h eS20 hI hcs => ?_)
        · replace h := (h S20 eS20).1 q rfl
          rw [← hQ]; exact x_out hout hlocks hK hI ⟨by have h1 := hcs.1; omega, by have h1 := hcs.2; omega⟩ hg h
        replace h := (h S20 eS20).2 rfl
        obtain ⟨q22, e23, h⟩ := h
        rw [e23]
        show W p l e R s m args below meth c _ _ _ _ Q (F0 m _ ls [.ref q22, iV v4, .ref x1])
        have hr27 := h.1; replace h := h.2
        obtain ⟨a24, b25, f26, h⟩ := h
        refine p_callVv (As := [iV v4, .ref q22]) (rest := []) hF (t_X6_add l hlt D dA ad (bset S20 a24 b25) _ x1 v4 q22 _ f5 a24.toNat b25.toNat (bC_bset _ _ _).symm (bL_bset _ _ _).symm h) (by obtain ⟨fs, hg⟩ := hr27; exact s_recvP hK hI hg rfl) (cwV 2 hts (lw_V q633 q634 q635 q123 q636) rfl rfl rfl (by decide +kernel) ⟨by have h1 := hR.1; have h2 : (rmD 7 a24.toNat b25.toNat).frames = 7 + 1 := rfl; omega, by have h1 := hR.2; have h2 : (rmD 7 a24.toNat b25.toNat).locals = 64 * 7 + 64 := rfl; omega⟩) hK hI hZ hcs f26 rfl hl.1 rfl (Nat.le_of_ble_eq_true rfl) dX3_sum_45 (fun S29 S30 H locs cells slots h eS30 hI hcs => ?_)
        replace h := h S30 eS30
        refine lv_goto (tgt := 12) hx hb dX3_sum_48 (by decide) ?_
        exact ih12 S30 _ _ _ _ _ ⟨hI, hcs⟩ (lv_sub hl [1, 2] rfl) h
      unfold l_X3_sum_12 at h
      refine lv_aload_n hx hb dX3_sum_12 rfl (lv_at hl 0 rfl) ?_
      obtain ⟨fs32, v35, hg33, hv34, h⟩ := h
      refine gPX3_25 hF hK hI hg33 hv34 dX3_sum_13 (fun f36 => ?_)
      replace h := h f36
      refine nr_bipush hx hb dX3_sum_16 (by decide) ?_
      refine nr_icmp_eq hx hb f36 (by decide) dX3_sum_18 (tgt := 30) (by decide) (fun c37 => ?_) (fun c37 => ?_)
      · replace h := h.1 c37
        exact J30 S _ _ _ _ _ ⟨hI, hcs⟩ (lv_sub hl [0, 1] rfl) h
      · replace h := h.2 c37
        refine lv_aload_n hx hb dX3_sum_21 rfl (lv_at hl 0 rfl) ?_
        obtain ⟨fs38, v41, hg39, hv40, h⟩ := h
        refine gPX3_25 hF hK hI hg39 hv40 dX3_sum_22 (fun f42 => ?_)
        replace h := h f42
        refine nr_bipush hx hb dX3_sum_25 (by decide) ?_
        refine nr_icmp_ne hx hb f42 (by decide) dX3_sum_27 (tgt := 51) (by decide) (fun c43 => ?_) (fun c43 => ?_)
        · replace h := h.1 c43
          refine lv_aload_n hx hb dX3_sum_51 rfl (lv_at hl 1 rfl) ?_
          have hr47 := h.1; replace h := h.2
          obtain ⟨a44, b45, f46, h⟩ := h
          refine p_callVq (As := []) (rest := []) hF (t_X6_itself l hlt D dA ad (bset S a44 b45) _ x1 _ a44.toNat b45.toNat (bC_bset _ _ _).symm (bL_bset _ _ _).symm h) (by obtain ⟨fs, hg⟩ := hr47; exact s_recvP hK hI hg rfl) (cwV 0 hts (lw_V q716 q717 q718 q123 q719) rfl rfl rfl (by decide +kernel) ⟨by have h1 := hR.1; have h2 : (rmD 1 a44.toNat b45.toNat).frames = 1 + 1 := rfl; omega, by have h1 := hR.2; have h2 : (rmD 1 a44.toNat b45.toNat).locals = 64 * 1 + 64 := rfl; omega⟩) hK hI hZ hcs f46 rfl hl.1 rfl (Nat.le_of_ble_eq_true rfl) dX3_sum_52 (fun r48 S49 S50 H locs cells slots h eS50 hI hcs => ?_)
          replace h := h S50 eS50
          obtain ⟨q52, e53, h⟩ := h
          rw [e53]
          show W p l e R s m args below meth c _ _ _ _ Q (F0 m _ ls [.ref q52])
          rw [← hQ]; refine vz_ret ?_; refine W.widen (k := mc) (n := ms) (by have h1 := hcs.1; omega) (by have h1 := hcs.2; omega) ?_; exact s_qret (v := (some q52)) (K := (K none)) hx hb hr (Or.inl ⟨_, rfl⟩) hlocks hI h dX3_sum_55
        · replace h := h.2 c43
          exact J30 S _ _ _ _ _ ⟨hI, hcs⟩ (lv_sub hl [0, 1] rfl) h
  unfold b_X3_sum at h
  have f56 := h.1; replace h := h.2
  refine t_new (C := RX6) (T := TX6) (ci := 6) hx hb tyX6 tyX6_ok hts hown hK hI hcs rfl in_X6 q562 q563 q123 ([.inr (.inr none), .inr (.inr none), .inr (.inr none)] : List PV) (by intro j hj; have hj2 : j = 0 ∨ j = 1 ∨ j = 2 := (by omega); rcases hj2 with rfl | rfl | rfl <;> rfl) (by intro v hv; simp only [List.mem_cons, List.not_mem_nil, or_false] at hv; rcases hv with rfl | rfl | rfl <;> first | exact ni_r0 | exact trivial) f56 dX3_sum_0 (fun q54 S55 H cells slots hqq54 eS55 _ hI hcs => ?_)
  replace h := h q54 S55 hqq54 eS55
  refine lv_dup hx hb dX3_sum_3 rfl ?_
  refine lv_aload_n hx hb dX3_sum_4 rfl (lv_at hl 0 rfl) ?_
  have hr60 := h.1; replace h := h.2
  obtain ⟨a57, b58, f59, h⟩ := h
  refine x_callVq (As := []) (rest := [.ref q54, .ref q54]) hF (ps_1 (ihd (bset S55 a57 b58) _ 1 x0 _ a57.toNat b58.toNat (bC_bset _ _ _).symm (bL_bset _ _ _).symm h)) (by obtain ⟨fs, hg⟩ := hr60; exact s_recvP hK hI hg rfl) (cwV 0 hts (lw_V q564 q566 qs11 q110 q567) rfl rfl rfl (by decide +kernel) ⟨by have h1 := hR.1; have h2 : (rmD (10 + d) a57.toNat b58.toNat).frames = (10 + d) + 1 := rfl; omega, by have h1 := hR.2; have h2 : (rmD (10 + d) a57.toNat b58.toNat).locals = 64 * (10 + d) + 64 := rfl; omega⟩) hK hI hZ hcs f59 rfl hl.1 rfl (Nat.le_of_ble_eq_true rfl) dX3_sum_5 (fun q S62 S63 H locs cells slots h eS63 hg hI hcs => ?_) (fun r61 S62 S63 H locs cells slots h eS63 hI hcs => ?_)
  · replace h := (h S63 eS63).1 q rfl
    rw [← hQ]; exact x_out hout hlocks hK hI ⟨by have h1 := hcs.1; omega, by have h1 := hcs.2; omega⟩ hg h
  replace h := (h S63 eS63).2 rfl
  obtain ⟨q65, e66, h⟩ := h
  rw [e66]
  show W p l e R s m args below meth c _ _ _ _ Q (F0 m _ ls [.ref q65, .ref q54, .ref q54])
  obtain ⟨a67, b68, f69, h⟩ := h
  refine p_callIv (As := [.ref q65]) (rest := [.ref q54]) hF (t_X6_init l hlt D dA ad (bset S63 a67 b68) _ q54 q65 _ a67.toNat b68.toNat (bC_bset _ _ _).symm (bL_bset _ _ _).symm h) (cwI 1 hts (lw_meth q619) rfl rfl rfl (hts _ q123) (hts _ q617) (hts _ q618) rfl (by decide +kernel) ⟨by have h1 := hR.1; have h2 : (rmD 4 a67.toNat b68.toNat).frames = 4 + 1 := rfl; omega, by have h1 := hR.2; have h2 : (rmD 4 a67.toNat b68.toNat).locals = 64 * 4 + 64 := rfl; omega⟩) hK hI hZ hcs f69 rfl hl.1 rfl (Nat.le_of_ble_eq_true rfl) dX3_sum_8 (fun S71 S72 H locs cells slots h eS72 hI hcs => ?_)
  replace h := h S72 eS72
  refine lv_astore_n (lv' := [(1, .ref q54), (0, .ref x0)]) hx hb dX3_sum_11 rfl hl (by decide) rfl (fun ls hl => ?_)
  obtain ⟨n0, h⟩ := h
  exact L12 x0 q54 n0 S72 _ _ _ _ _ ⟨hI, hcs⟩ (lv_sub hl [1, 0] rfl) h
theorem t_ps (l : Launch) (hlt : l.stackTraces = false) (D : va_G) (dA : Nat → ClassId) (ad : Nat → Nat) : ∀ (d : Nat) (S : St) (sz i q : Nat) (K : Option Nat → Option Nat → St → Prop) (mc ms : Nat), mc = bC S → ms = bL S → w_ps d i q S K → PsM l D dA ad (10 + d) S sz i q K mc ms := by
  intro d
  induction d with
  | zero => intro S sz i q K mc ms _ _ h; exact False.elim h
  | succ d ih =>
    intro S sz i q K mc ms hmc hms h
    rcases h with ⟨rfl, h⟩ | ⟨rfl, h⟩ | ⟨rfl, h⟩
    · exact Or.inl ⟨rfl, t_X3_one l hlt D dA ad d (w_ps d) ih S sz q K mc ms hmc hms h⟩
    · exact Or.inr (Or.inl ⟨rfl, t_X3_product l hlt D dA ad d (w_ps d) ih S sz q K mc ms hmc hms h⟩)
    · exact Or.inr (Or.inr ⟨rfl, t_X3_sum l hlt D dA ad d (w_ps d) ih S sz q K mc ms hmc hms h⟩)

set_option maxHeartbeats 4000000 in
theorem t_X3_ask (l : Launch) (hlt : l.stackTraces = false) : ∀ (d : Nat) (D : va_G) (dA : Nat → ClassId) (ad : Nat → Nat) (S : St) (sz : Nat) (x0 : Nat) (K : Option Nat → Option Nat → St → Prop) (mc ms : Nat) (hmc : mc = bC S) (hms : ms = bL S) (h : w_X3_ask d x0 S K), vz_Met l yX3_ask (ws_ yX3_ask cX3_ask 3 (Option.some (Jvm.ClassFile.FieldType.object "NineGraves$Asked"))) (rmD (52 + d) mc ms) (va_Pc [.ref x0] (tPre D dA ad S sz)) (va_Qq (fun r S' => K none r S') (sPost D dA wX ad (wA wX ad S sz)) (wA wX ad S sz)) (vz_X (fun _ : St => True) (xB D dA ad (wA wX ad S sz) (fun q S' => K (some q) none S')) (wA wX ad S sz)) mc ms (wA wX ad S sz) := by
  intro d
  induction d with
  | zero => intro D dA ad S sz x0 K mc ms hmc hms h; exact False.elim h
  | succ d ihd0 =>
  intro D dA ad S sz x0 K mc ms hmc hms h
  have h : b_X3_ask (w_X3_ask d) x0 S K := h
  have ihd := ihd0 D dA ad
  clear ihd0
  generalize w_X3_ask d = W0 at h ihd
  refine vz_ofW (cc := cX3_ask) (maxL := 3) (ret := (Option.some (Jvm.ClassFile.FieldType.object "NineGraves$Asked"))) (by decide) rfl ?_
  intro p e s m args below meth c s₁ B hml hout hv
  obtain ⟨rfl, ⟨hsz, hK, hC⟩, hZ⟩ := hv
  have hx := B.exec
  have hb := B.bytes
  have hr := B.returns
  have hlocks := B.notSynchronized
  have hts := atoms_spec (ws := (ws_ yX3_ask cX3_ask 3 (Option.some (Jvm.ClassFile.FieldType.object "NineGraves$Asked")))) B.pre
  have hts : ∀ w ∈ lw_all, w.before _ s = true := fun w h => hts w (List.mem_cons_of_mem _ h)
  have hown : s.vm.findClass RX3 = some m.cls := findClass_of_methodNamed B.named
  clear B
  subst hsz
  have hI : sI D dA wX ad (wA wX ad S s.heap.size) s.heap S s.heap [] := hC.start
  clear hC
  generalize wA wX ad S s.heap.size = A at hI hZ ⊢
  have hl := lv_entry ([.ref x0] : List Value) (n := 3) (Nat.le_of_ble_eq_true rfl)
  rw [lg_entry_eq]
  generalize (lg_sl ([.ref x0] : List Value) ++ List.replicate (3 - (lg_sl ([.ref x0] : List Value)).length) Slot.unset).toArray = ls at hl ⊢
  have hl : lv_has ls 3 [(0, .ref x0)] := hl
  have hF : CallFix p m c cX3_ask 3 s _ lw_all RX3 := ⟨hx, hb, hml, hown, hts⟩
  have hR : (headSpec (ws_ yX3_ask cX3_ask 3 (Option.some (Jvm.ClassFile.FieldType.object "NineGraves$Asked"))) (rmD (52 + (d + 1)) mc ms)).room.frames = (52 + (d + 1)) + 1 ∧ (headSpec (ws_ yX3_ask cX3_ask 3 (Option.some (Jvm.ClassFile.FieldType.object "NineGraves$Asked"))) (rmD (52 + (d + 1)) mc ms)).room.locals = 64 * (52 + (d + 1)) + 64 := ⟨rfl, rfl⟩
  have hRc : (headSpec (ws_ yX3_ask cX3_ask 3 (Option.some (Jvm.ClassFile.FieldType.object "NineGraves$Asked"))) (rmD (52 + (d + 1)) mc ms)).room.cells = mc ∧ (headSpec (ws_ yX3_ask cX3_ask 3 (Option.some (Jvm.ClassFile.FieldType.object "NineGraves$Asked"))) (rmD (52 + (d + 1)) mc ms)).room.slots = ms := ⟨rfl, rfl⟩
  generalize (headSpec (ws_ yX3_ask cX3_ask 3 (Option.some (Jvm.ClassFile.FieldType.object "NineGraves$Asked"))) (rmD (52 + (d + 1)) mc ms)).room = R at hR hRc ⊢
  obtain ⟨hRc, hRs⟩ := hRc
  have hcs : bOK R S 0 0 := ⟨by omega, by omega⟩
  clear hmc hms
  have hcs0 := hcs
  generalize ([.ref x0] : List Value).toArray = args at hts hF ⊢
  generalize hQ : vz_MQ below _ _ _ _ _ _ _ = Q
  have J92 : ∀ (x0 : Nat) (x1 : Nat) (x2 : Int) (S : St) (H : Heap) (locs : List Loc) (ls : Array Slot) (cells slots : Nat), InR x2 → (sI D dA wX ad A s.heap S H locs ∧ bOK R S cells slots) → lv_has ls 3 [(0, .ref x0), (1, .ref x1), (2, iV x2)] → j_X3_ask_92 W0 x0 x1 x2 S K → W p l e R s m args below meth c H locs cells slots Q (F0 m 92 ls []) := by
    intro x0 x1 x2 S H locs ls cells slots rx2 hI hl h
    obtain ⟨hI, hcs⟩ := hI
    unfold j_X3_ask_92 at h
    refine lv_aload_n hx hb dX3_ask_92 rfl (lv_at hl 0 rfl) ?_
    have hr4 := h.1; replace h := h.2
    obtain ⟨a1, b2, f3, h⟩ := h
    refine p_callVv (As := []) (rest := []) hF (t_X3_next l hlt D dA ad (bset S a1 b2) _ x0 _ a1.toNat b2.toNat (bC_bset _ _ _).symm (bL_bset _ _ _).symm h) (by obtain ⟨fs, hg⟩ := hr4; exact s_recvP hK hI hg rfl) (cwV 0 hts (lw_V q417 q419 qs5 q110 q420) rfl rfl rfl (by decide +kernel) ⟨by have h1 := hR.1; have h2 : (rmD 7 a1.toNat b2.toNat).frames = 7 + 1 := rfl; omega, by have h1 := hR.2; have h2 : (rmD 7 a1.toNat b2.toNat).locals = 64 * 7 + 64 := rfl; omega⟩) hK hI hZ hcs f3 rfl hl.1 rfl (Nat.le_of_ble_eq_true rfl) dX3_ask_93 (fun S6 S7 H locs cells slots h eS7 hI hcs => ?_)
    replace h := h S7 eS7
    have f11 := h.1; replace h := h.2
    refine t_new (C := RX11) (T := TX11) (ci := 11) hx hb tyX11 tyX11_ok hts hown hK hI hcs rfl in_X11 q748 q749 q134 ([.inl 0, .inr (.inr none), .inr (.inr none)] : List PV) (by intro j hj; have hj2 : j = 0 ∨ j = 1 ∨ j = 2 := (by omega); rcases hj2 with rfl | rfl | rfl <;> rfl) (by intro v hv; simp only [List.mem_cons, List.not_mem_nil, or_false] at hv; rcases hv with rfl | rfl | rfl <;> first | exact ni_r0 | exact trivial) f11 dX3_ask_96 (fun q9 S10 H cells slots hqq9 eS10 _ hI hcs => ?_)
    replace h := h q9 S10 hqq9 eS10
    refine lv_dup hx hb dX3_ask_99 rfl ?_
    refine lv_iload_n hx hb dX3_ask_100 rfl (lv_at hl 2 rfl) ?_
    refine lv_aload_n hx hb dX3_ask_101 rfl (lv_at hl 1 rfl) ?_
    refine lv_aload_n hx hb dX3_ask_102 rfl (lv_at hl 0 rfl) ?_
    have hr16 := h.1; replace h := h.2
    obtain ⟨a12, b13, f14, h⟩ := h
    obtain ⟨d15, hd15, h⟩ := h
    refine x_callVq (As := []) (rest := [.ref x1, iV x2, .ref q9, .ref q9]) hF (ps_2 (t_ps l hlt D dA ad d15 (bset S10 a12 b13) _ 2 x0 _ a12.toNat b13.toNat (bC_bset _ _ _).symm (bL_bset _ _ _).symm h)) (by obtain ⟨fs, hg⟩ := hr16; exact s_recvP hK hI hg rfl) (cwV 0 hts (lw_V q558 q560 qs10 q110 q561) rfl rfl rfl (by decide +kernel) ⟨by have h1 := hR.1; have h2 : (rmD (10 + d15) a12.toNat b13.toNat).frames = (10 + d15) + 1 := rfl; omega, by have h1 := hR.2; have h2 : (rmD (10 + d15) a12.toNat b13.toNat).locals = 64 * (10 + d15) + 64 := rfl; omega⟩) hK hI hZ hcs f14 rfl hl.1 rfl (Nat.le_of_ble_eq_true rfl) dX3_ask_103 (fun q S18 S19 H locs cells slots h eS19 hg hI hcs => ?_) (fun r17 S18 S19 H locs cells slots h eS19 hI hcs => ?_)
    · replace h := (h S19 eS19).1 q rfl
      rw [← hQ]; exact x_out hout hlocks hK hI ⟨by have h1 := hcs.1; omega, by have h1 := hcs.2; omega⟩ hg h
    replace h := (h S19 eS19).2 rfl
    obtain ⟨q21, e22, h⟩ := h
    rw [e22]
    show W p l e R s m args below meth c _ _ _ _ Q (F0 m _ ls [.ref q21, .ref x1, iV x2, .ref q9, .ref q9])
    obtain ⟨a23, b24, f25, h⟩ := h
    refine p_callINv (As := [iV x2, .ref x1, .ref q21]) (rest := [.ref q9]) hF (t_X11_init l hlt D dA ad (bset S19 a23 b24) _ q9 x2 x1 q21 _ rx2 a23.toNat b24.toNat (bC_bset _ _ _).symm (bL_bset _ _ _).symm h) ⟨va_cnB 3 hts (lw_meth q752) rfl rfl rfl (nMl_6 hK.2) (hts _ q134) (by decide +kernel) ⟨by have h1 := hR.1; have h2 : (rmD 2 a23.toNat b24.toNat).frames = 2 + 1 := rfl; omega, by have h1 := hR.2; have h2 : (rmD 2 a23.toNat b24.toNat).locals = 64 * 2 + 64 := rfl; omega⟩, rfl, hts _ q751⟩ hK hI hZ hcs f25 rfl hl.1 rfl (Nat.le_of_ble_eq_true rfl) dX3_ask_106 (fun S27 S28 H locs cells slots h eS28 hI hcs => ?_)
    replace h := h S28 eS28
    rw [← hQ]; refine vz_ret ?_; refine W.widen (k := mc) (n := ms) (by have h1 := hcs.1; omega) (by have h1 := hcs.2; omega) ?_; exact s_qret (v := (some q9)) (K := (K none)) hx hb hr (Or.inl ⟨_, rfl⟩) hlocks hI h dX3_ask_109
  unfold b_X3_ask at h
  refine lv_aload_n hx hb dX3_ask_0 rfl (lv_at hl 0 rfl) ?_
  obtain ⟨fs30, v33, hg31, hv32, h⟩ := h
  refine gPX3_25 hF hK hI hg31 hv32 dX3_ask_1 (fun f34 => ?_)
  replace h := h f34
  refine nr_sipush hx hb dX3_ask_4 (by decide) ?_
  refine nr_icmp_ne hx hb f34 (by decide) dX3_ask_7 (tgt := 38) (by decide) (fun c35 => ?_) (fun c35 => ?_)
  · replace h := h.1 c35
    refine lv_aload_n hx hb dX3_ask_38 rfl (lv_at hl 0 rfl) ?_
    have hr40 := h.1; replace h := h.2
    obtain ⟨a36, b37, f38, h⟩ := h
    obtain ⟨d39, hd39, h⟩ := h
    refine x_callVq (As := []) (rest := []) hF (ps_2 (t_ps l hlt D dA ad d39 (bset S a36 b37) _ 2 x0 _ a36.toNat b37.toNat (bC_bset _ _ _).symm (bL_bset _ _ _).symm h)) (by obtain ⟨fs, hg⟩ := hr40; exact s_recvP hK hI hg rfl) (cwV 0 hts (lw_V q558 q560 qs10 q110 q561) rfl rfl rfl (by decide +kernel) ⟨by have h1 := hR.1; have h2 : (rmD (10 + d39) a36.toNat b37.toNat).frames = (10 + d39) + 1 := rfl; omega, by have h1 := hR.2; have h2 : (rmD (10 + d39) a36.toNat b37.toNat).locals = 64 * (10 + d39) + 64 := rfl; omega⟩) hK hI hZ hcs f38 rfl hl.1 rfl (Nat.le_of_ble_eq_true rfl) dX3_ask_39 (fun q S42 S43 H locs cells slots h eS43 hg hI hcs => ?_) (fun r41 S42 S43 H locs cells slots h eS43 hI hcs => ?_)
    · replace h := (h S43 eS43).1 q rfl
      rw [← hQ]; exact x_out hout hlocks hK hI ⟨by have h1 := hcs.1; omega, by have h1 := hcs.2; omega⟩ hg h
    replace h := (h S43 eS43).2 rfl
    obtain ⟨q45, e46, h⟩ := h
    rw [e46]
    show W p l e R s m args below meth c _ _ _ _ Q (F0 m _ ls [.ref q45])
    refine lv_astore_n (lv' := [(1, .ref q45), (0, .ref x0)]) hx hb dX3_ask_42 rfl hl (by decide) rfl (fun ls hl => ?_)
    refine lv_aload_n hx hb dX3_ask_43 rfl (lv_at hl 1 rfl) ?_
    obtain ⟨fs47, v50, hg48, hv49, h⟩ := h
    refine gPX3_25 hF hK hI hg48 hv49 dX3_ask_44 (fun f51 => ?_)
    replace h := h f51
    refine lv_istore_n (lv' := [(2, iV v50), (1, .ref q45), (0, .ref x0)]) hx hb dX3_ask_47 rfl hl (by decide) rfl (fun ls hl => ?_)
    refine lv_iload_n hx hb dX3_ask_48 rfl (lv_at hl 0 rfl) ?_
    refine nr_bipush hx hb dX3_ask_49 (by decide) ?_
    refine nr_icmp_eq hx hb f51 (by decide) dX3_ask_51 (tgt := 92) (by decide) (fun c52 => ?_) (fun c52 => ?_)
    · replace h := h.1 c52
      exact J92 x0 q45 v50 S43 _ _ _ _ _ f51 ⟨hI, hcs⟩ (lv_sub hl [2, 1, 0] rfl) h
    · replace h := h.2 c52
      refine lv_iload_n hx hb dX3_ask_54 rfl (lv_at hl 0 rfl) ?_
      refine nr_bipush hx hb dX3_ask_55 (by decide) ?_
      refine nr_icmp_eq hx hb f51 (by decide) dX3_ask_57 (tgt := 92) (by decide) (fun c53 => ?_) (fun c53 => ?_)
      · replace h := h.1 c53
        exact J92 x0 q45 v50 S43 _ _ _ _ _ f51 ⟨hI, hcs⟩ (lv_sub hl [2, 1, 0] rfl) h
      · replace h := h.2 c53
        refine lv_iload_n hx hb dX3_ask_60 rfl (lv_at hl 0 rfl) ?_
        refine nr_bipush hx hb dX3_ask_61 (by decide) ?_
        refine nr_icmp_eq hx hb f51 (by decide) dX3_ask_63 (tgt := 92) (by decide) (fun c54 => ?_) (fun c54 => ?_)
        · replace h := h.1 c54
          exact J92 x0 q45 v50 S43 _ _ _ _ _ f51 ⟨hI, hcs⟩ (lv_sub hl [2, 1, 0] rfl) h
        · replace h := h.2 c54
          refine lv_iload_n hx hb dX3_ask_66 rfl (lv_at hl 0 rfl) ?_
          refine nr_bipush hx hb dX3_ask_67 (by decide) ?_
          refine nr_icmp_eq hx hb f51 (by decide) dX3_ask_69 (tgt := 92) (by decide) (fun c55 => ?_) (fun c55 => ?_)
          · replace h := h.1 c55
            exact J92 x0 q45 v50 S43 _ _ _ _ _ f51 ⟨hI, hcs⟩ (lv_sub hl [2, 1, 0] rfl) h
          · replace h := h.2 c55
            refine lv_iload_n hx hb dX3_ask_72 rfl (lv_at hl 0 rfl) ?_
            refine nr_sipush hx hb dX3_ask_73 (by decide) ?_
            refine nr_icmp_eq hx hb f51 (by decide) dX3_ask_76 (tgt := 92) (by decide) (fun c56 => ?_) (fun c56 => ?_)
            · replace h := h.1 c56
              exact J92 x0 q45 v50 S43 _ _ _ _ _ f51 ⟨hI, hcs⟩ (lv_sub hl [2, 1, 0] rfl) h
            · replace h := h.2 c56
              refine lv_iload_n hx hb dX3_ask_79 rfl (lv_at hl 0 rfl) ?_
              refine nr_sipush hx hb dX3_ask_80 (by decide) ?_
              refine nr_icmp_eq hx hb f51 (by decide) dX3_ask_83 (tgt := 92) (by decide) (fun c57 => ?_) (fun c57 => ?_)
              · replace h := h.1 c57
                exact J92 x0 q45 v50 S43 _ _ _ _ _ f51 ⟨hI, hcs⟩ (lv_sub hl [2, 1, 0] rfl) h
              · replace h := h.2 c57
                refine lv_aload_n hx hb dX3_ask_86 rfl (lv_at hl 2 rfl) ?_
                refine nr_iconst hx hb dX3_ask_87 ?_
                have hr61 := h.1; replace h := h.2
                obtain ⟨a58, b59, f60, h⟩ := h
                refine p_callVq (As := [iV 1]) (rest := []) hF (t_X3_wrong l hlt D dA ad (bset S43 a58 b59) _ x0 1 _ (by decide) a58.toNat b59.toNat (bC_bset _ _ _).symm (bL_bset _ _ _).symm h) (by obtain ⟨fs, hg⟩ := hr61; exact s_recvP hK hI hg rfl) (cwV 1 hts (lw_V q486 q488 qs7 q110 q489) rfl rfl rfl (by decide +kernel) ⟨by have h1 := hR.1; have h2 : (rmD 8 a58.toNat b59.toNat).frames = 8 + 1 := rfl; omega, by have h1 := hR.2; have h2 : (rmD 8 a58.toNat b59.toNat).locals = 64 * 8 + 64 := rfl; omega⟩) hK hI hZ hcs f60 rfl hl.1 rfl (Nat.le_of_ble_eq_true rfl) dX3_ask_88 (fun r62 S63 S64 H locs cells slots h eS64 hI hcs => ?_)
                replace h := h S64 eS64
                obtain ⟨q66, e67, h⟩ := h
                rw [e67]
                show W p l e R s m args below meth c _ _ _ _ Q (F0 m _ ls [.ref q66])
                refine vz_athrow hx hb dX3_ask_91 ?_
                rw [← hQ]; exact x_out hout hlocks hK hI ⟨by have h1 := hcs.1; omega, by have h1 := hcs.2; omega⟩ h.1 h.2
  · replace h := h.2 c35
    refine lv_aload_n hx hb dX3_ask_10 rfl (lv_at hl 0 rfl) ?_
    have hr72 := h.1; replace h := h.2
    obtain ⟨a69, b70, f71, h⟩ := h
    refine x_callVv (As := []) (rest := []) hF (t_X3_opens l hlt D dA ad (bset S a69 b70) _ x0 _ a69.toNat b70.toNat (bC_bset _ _ _).symm (bL_bset _ _ _).symm h) (by obtain ⟨fs, hg⟩ := hr72; exact s_recvP hK hI hg rfl) (cwV 0 hts (lw_V q599 q601 qs14 q110 q602) rfl rfl rfl (by decide +kernel) ⟨by have h1 := hR.1; have h2 : (rmD 9 a69.toNat b70.toNat).frames = 9 + 1 := rfl; omega, by have h1 := hR.2; have h2 : (rmD 9 a69.toNat b70.toNat).locals = 64 * 9 + 64 := rfl; omega⟩) hK hI hZ hcs f71 rfl hl.1 rfl (Nat.le_of_ble_eq_true rfl) dX3_ask_11 (fun q S74 S75 H locs cells slots h eS75 hg hI hcs => ?_) (fun S74 S75 H locs cells slots h eS75 hI hcs => ?_)
    · replace h := (h S75 eS75).1 q rfl
      rw [← hQ]; exact x_out hout hlocks hK hI ⟨by have h1 := hcs.1; omega, by have h1 := hcs.2; omega⟩ hg h
    replace h := (h S75 eS75).2 rfl
    have f79 := h.1; replace h := h.2
    refine t_new (C := RX10) (T := TX10) (ci := 10) hx hb tyX10 tyX10_ok hts hown hK hI hcs rfl in_X10 q738 q739 q133 ([.inr (.inr none)] : List PV) (by intro j hj; have hj2 : j = 0 := (by omega); subst hj2; rfl) (by intro v hv; simp only [List.mem_cons, List.not_mem_nil, or_false] at hv; subst hv; first | exact ni_r0 | exact trivial) f79 dX3_ask_14 (fun q77 S78 H cells slots hqq77 eS78 _ hI hcs => ?_)
    replace h := h q77 S78 hqq77 eS78
    refine lv_dup hx hb dX3_ask_17 rfl ?_
    refine lv_aload_n hx hb dX3_ask_18 rfl (lv_at hl 0 rfl) ?_
    have hr83 := h.1; replace h := h.2
    obtain ⟨a80, b81, f82, h⟩ := h
    refine x_callVq (As := []) (rest := [.ref q77, .ref q77]) hF (ihd (bset S78 a80 b81) _ x0 _ a80.toNat b81.toNat (bC_bset _ _ _).symm (bL_bset _ _ _).symm h) (by obtain ⟨fs, hg⟩ := hr83; exact s_recvP hK hI hg rfl) (cwV 0 hts (lw_V q734 q736 qs21 q110 q737) rfl rfl rfl (by decide +kernel) ⟨by have h1 := hR.1; have h2 : (rmD (52 + d) a80.toNat b81.toNat).frames = (52 + d) + 1 := rfl; omega, by have h1 := hR.2; have h2 : (rmD (52 + d) a80.toNat b81.toNat).locals = 64 * (52 + d) + 64 := rfl; omega⟩) hK hI hZ hcs f82 rfl hl.1 rfl (Nat.le_of_ble_eq_true rfl) dX3_ask_19 (fun q S85 S86 H locs cells slots h eS86 hg hI hcs => ?_) (fun r84 S85 S86 H locs cells slots h eS86 hI hcs => ?_)
    · replace h := (h S86 eS86).1 q rfl
      rw [← hQ]; exact x_out hout hlocks hK hI ⟨by have h1 := hcs.1; omega, by have h1 := hcs.2; omega⟩ hg h
    replace h := (h S86 eS86).2 rfl
    obtain ⟨q88, e89, h⟩ := h
    rw [e89]
    show W p l e R s m args below meth c _ _ _ _ Q (F0 m _ ls [.ref q88, .ref q77, .ref q77])
    obtain ⟨a90, b91, f92, h⟩ := h
    refine p_callINv (As := [.ref q88]) (rest := [.ref q77]) hF (t_X10_init l hlt D dA ad (bset S86 a90 b91) _ q77 q88 _ a90.toNat b91.toNat (bC_bset _ _ _).symm (bL_bset _ _ _).symm h) ⟨va_cnB 1 hts (lw_meth q742) rfl rfl rfl (nMl_5 hK.2) (hts _ q133) (by decide +kernel) ⟨by have h1 := hR.1; have h2 : (rmD 2 a90.toNat b91.toNat).frames = 2 + 1 := rfl; omega, by have h1 := hR.2; have h2 : (rmD 2 a90.toNat b91.toNat).locals = 64 * 2 + 64 := rfl; omega⟩, rfl, hts _ q741⟩ hK hI hZ hcs f92 rfl hl.1 rfl (Nat.le_of_ble_eq_true rfl) dX3_ask_22 (fun S94 S95 H locs cells slots h eS95 hI hcs => ?_)
    replace h := h S95 eS95
    refine lv_astore_n (lv' := [(1, .ref q77), (0, .ref x0)]) hx hb dX3_ask_25 rfl hl (by decide) rfl (fun ls hl => ?_)
    refine lv_aload_n hx hb dX3_ask_26 rfl (lv_at hl 1 rfl) ?_
    refine lv_dup hx hb dX3_ask_27 rfl ?_
    obtain ⟨fs97, v100, hg98, hv99, h⟩ := h
    refine gPX3_77 hF hK hI hg98 hv99 dX3_ask_28 (fun f101 => ?_)
    replace h := h f101
    refine nr_iconst hx hb dX3_ask_31 ?_
    have f102 := h.1; replace h := h.2
    refine nr_isub hx hb dX3_ask_32 ?_
    obtain ⟨fs103, hg104, hn105, h⟩ := h
    refine uPX3_77 hF hK hI hg104 hn105 f102 dX3_ask_33 (fun S106 H locs eS106 hI => ?_)
    replace h := h S106 eS106
    have hcs := bOK.to (S' := S106) hcs (by rw [eS106]; exact ⟨rfl, rfl⟩)
    refine lv_aload_n hx hb dX3_ask_36 rfl (lv_at hl 0 rfl) ?_
    rw [← hQ]; refine vz_ret ?_; refine W.widen (k := mc) (n := ms) (by have h1 := hcs.1; omega) (by have h1 := hcs.2; omega) ?_; exact s_qret (v := (some q77)) (K := (K none)) hx hb hr (Or.inl ⟨_, rfl⟩) hlocks hI h dX3_ask_37
