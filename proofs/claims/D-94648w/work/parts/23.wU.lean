set_option maxRecDepth 100000

theorem t_J5_checkIndex_q (l : Launch) (x0 : Int) (x1 : Int) (x2 : Nat) (K : Int → Prop) (rx0 : InR x0) (rx1 : InR x1) (h : w_J5_checkIndex_q x0 x1 x2 K) : Met l yJ5_checkIndex (ws_ yJ5_checkIndex cJ5_checkIndex 3 (Option.some Jvm.ClassFile.FieldType.int)) (rmD 0 0 0) (va_Pc [iV x0, iV x1, .ref x2] (fun _ => True)) (va_Qi (fun r (_ : Unit) => K r.toInt) (fun _ _ => True) (fun _ => False)) 0 0 (fun _ => False) := by
  refine Met.ofW (cc := cJ5_checkIndex) (maxL := 3) (ret := (Option.some Jvm.ClassFile.FieldType.int)) (by decide) rfl ?_
  intro p e s m args below meth c s₁ B hml hv
  obtain ⟨rfl, -⟩ := hv
  have hx := B.exec
  have hb := B.bytes
  have hr := B.returns
  have hlocks := B.notSynchronized
  have hts := atoms_spec (ws := (ws_ yJ5_checkIndex cJ5_checkIndex 3 (Option.some Jvm.ClassFile.FieldType.int))) B.pre
  have hts : ∀ w ∈ lw_all, w.before _ s = true := fun w h => hts w (List.mem_cons_of_mem _ h)
  have hown : s.vm.findClass RJ5 = some m.cls := findClass_of_methodNamed B.named
  clear B
  have hI : va_S (fun _ => False) s.heap s.heap [] := va_S.rf
  have hl := lv_entry ([iV x0, iV x1, .ref x2] : List Value) (n := 3) (Nat.le_of_ble_eq_true rfl)
  rw [lg_entry_eq]
  generalize (lg_sl ([iV x0, iV x1, .ref x2] : List Value) ++ List.replicate (3 - (lg_sl ([iV x0, iV x1, .ref x2] : List Value)).length) Slot.unset).toArray = ls at hl ⊢
  have hl : lv_has ls 3 [(0, iV x0), (1, iV x1), (2, .ref x2)] := hl
  have hF : CallFix p m c cJ5_checkIndex 3 s _ lw_all RJ5 := ⟨hx, hb, hml, hown, hts⟩
  have hR : (headSpec (ws_ yJ5_checkIndex cJ5_checkIndex 3 (Option.some Jvm.ClassFile.FieldType.int)) (rmD 0 0 0)).room.frames = 0 + 1 ∧ (headSpec (ws_ yJ5_checkIndex cJ5_checkIndex 3 (Option.some Jvm.ClassFile.FieldType.int)) (rmD 0 0 0)).room.locals = 64 * 0 + 64 := ⟨rfl, rfl⟩
  generalize (headSpec (ws_ yJ5_checkIndex cJ5_checkIndex 3 (Option.some Jvm.ClassFile.FieldType.int)) (rmD 0 0 0)).room = R at hR ⊢
  generalize ([iV x0, iV x1, .ref x2] : List Value).toArray = args at hts hF ⊢
  generalize hQ : MQ below _ _ _ _ _ _ = Q
  unfold w_J5_checkIndex_q at h
  refine lv_iload_n hx hb dJ5_checkIndex_0 rfl (lv_at hl 0 rfl) ?_
  refine nr_if_lt hx hb rx0 dJ5_checkIndex_1 (tgt := 9) (by decide) (fun c1 => ?_) (fun c1 => ?_)
  · replace h := h.1 c1
    exact h.elim
  · replace h := h.2 c1
    refine lv_iload_n hx hb dJ5_checkIndex_4 rfl (lv_at hl 0 rfl) ?_
    refine lv_iload_n hx hb dJ5_checkIndex_5 rfl (lv_at hl 1 rfl) ?_
    refine nr_icmp_lt hx hb rx0 rx1 dJ5_checkIndex_6 (tgt := 16) (by decide) (fun c2 => ?_) (fun c2 => ?_)
    · replace h := h.1 c2
      refine lv_iload_n hx hb dJ5_checkIndex_16 rfl (lv_at hl 0 rfl) ?_
      rw [← hQ]; exact p_iret (K := K) hx hb hr hlocks hI rx0 h dJ5_checkIndex_17
    · replace h := h.2 c2
      exact h.elim
