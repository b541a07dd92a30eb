set_option maxRecDepth 100000
/-! HAND-WALKED: methods of the constant texts; wrong(f) -/
theorem va_S.none {A : Nat → Prop} {H0 H : Heap} {locs : List Loc} (h : va_S (fun _ => False) H0 H locs) : va_S A H0 H locs := ⟨h.1, fun q h1 _ => h.2.1 q h1 (fun z => z), fun l hl => (h.2.2 l hl).elim⟩
theorem wb_ok : ∀ i, i < 25 → ∀ j, j < 11 → ((((wByt.getD i []).getD j 0 &&& 255).toUInt32 % 65536).toInt32 = (wByt.getD i []).getD j 0) := by decide +kernel
theorem wb_nc : ∀ i, i < 25 → ∀ j, j < 11 → narrow .char (.int ((wByt.getD i []).getD j 0)) = .int ((wByt.getD i []).getD j 0) := by
  have h : ∀ i, i < 25 → ∀ j, j < 11 → (((wByt.getD i []).getD j 0).toUInt32 % 65536).toInt32 = (wByt.getD i []).getD j 0 := by decide +kernel
  intro i hi j hj
  have h1 := h i hi j hj
  have h2 := pk_nc ((wByt.getD i []).getD j 0)
  rw [h1] at h2
  exact h2
theorem wl_11 : ∀ i, i < 25 → wLen.getD i 0 ≤ 11 := by decide
section KSTR
variable {p : Program} {l : Launch} {e : Env} {R : Room} {s : State} {m : MethodId} {args : Array Value} {below : List Frame} {meth : Method} {c : Code} {H : Heap} {locs : List Loc} {cells slots : Nat} {Q : State → Prop}
variable {cc : ByteArray} {pc : Nat} {ls : Array Slot} {rest : List Value} {D : va_G} {dA : Nat → ClassId} {ad : Nat → Nat} {A : Nat → Prop} {H0 : Heap} {S : St}

theorem k_blind {av : List Value} : FrameBlind (va_Pc av (fun U => kZ ad A U U.heap)) := by
  intro a U g mk q
  obtain ⟨q0, qZ⟩ := q
  exact ⟨q0, kZ.warm (s := U) (U := U.calling g mk a) (State.WarmedH.refl U) qZ⟩
theorem k_pre {av : List Value} (hZ : kZ ad A s s.heap) (hk : ∀ q : Nat, q < s.heap.size → ¬ A q → H[q]? = s.heap[q]?) : ∀ U : State, U.heap = H → s.WarmedH U.vm → va_Pc av (fun U => kZ ad A U U.heap) av.toArray U := fun U hU hW => ⟨rfl, by show kZ ad A U U.heap; rw [hU]; exact (hZ.kept hk).warm hW⟩
theorem k_callVi {y : MethodName} {ycc : ByteArray} {yL nL n index : Nat} {ws : List Cond} {rm : Room} {own : String} {As : List Value} {st0 : List Value} {A0 : Nat → Prop} {C : String} {b : Addr} {rt : FieldType} {P : Int32 → Prop} (hF : CallFix p m c cc nL s args lw_all own) (hM : Met l y ws rm (va_Pc (.ref b :: As) (fun U => kZ ad A U U.heap)) (va_Qi (fun r (_ : Unit) => P r) (fun _ _ => True) (fun _ => False)) 0 0 (fun _ => False)) (hC : ∃ cell : Cell, H[b]? = some cell ∧ cell.vm.isStatics = false ∧ s.vm.findClass C = some cell.cls) (cw : CallW R s args own C index y ycc yL (some rt) ws rm 0 0 n) (hZ : kZ ad A s s.heap) (hk : ∀ q : Nat, q < s.heap.size → ¬ A q → H[q]? = s.heap[q]?) (hS : va_S A0 s.heap H locs) (hn : As.length = n) (hls : ls.size = nL) (hst : st0 = As.reverse ++ .ref b :: rest) (hW : (rest.map fun v => v.category).sum ≤ 8) (hf : cells + 0 ≤ R.cells ∧ slots + 0 ≤ R.slots) (hdg : decode cc pc = .ok (.invokevirtual index, 3)) (kk : ∀ (r : Int32) (H1 : Heap) (locs1 : List Loc), P r → (∀ q : Nat, q < H.size → H1[q]? = H[q]?) → va_S A0 s.heap H1 locs1 → W p l e R s m args below meth c H1 locs1 cells slots Q (F0 m (pc + 3) ls (.int r :: rest))) : W p l e R s m args below meth c H locs cells slots Q (F0 m (pc) ls (st0)) := by
  refine va_calli (va_runV (As := As) (rest := rest) hF hM cw ⟨k_blind, hC, k_pre hZ hk⟩ rfl hn hls hst (lv_room hW) hdg hf) hS (fun q _ h => h.elim) (fun q h => h.elim) (fun r u t H1 locs1 ht hvm hp hB hz hk1 hS1 => ?_)
  exact kk r H1 locs1 hp (fun q h => hk1 q h (fun z => z)) hS1
theorem k_callSi {y : MethodName} {ycc : ByteArray} {yL nL n index : Nat} {ws : List Cond} {rm : Room} {own : String} {As : List Value} {st0 : List Value} {A0 : Nat → Prop} {rt : FieldType} {P : Int32 → Prop} (hF : CallFix p m c cc nL s args lw_all own) (hM : Met l y ws rm (va_Pc As (fun U => kZ ad A U U.heap)) (va_Qi (fun r (_ : Unit) => P r) (fun _ _ => True) (fun _ => False)) 0 0 (fun _ => False)) (cw : CallB R s args own index y ycc yL (some rt) ws rm 0 0 n ∧ (Cond.static y).before args s = true) (hZ : kZ ad A s s.heap) (hk : ∀ q : Nat, q < s.heap.size → ¬ A q → H[q]? = s.heap[q]?) (hS : va_S A0 s.heap H locs) (hn : As.length = n) (hls : ls.size = nL) (hst : st0 = As.reverse ++ rest) (hW : (rest.map fun v => v.category).sum ≤ 8) (hf : cells + 0 ≤ R.cells ∧ slots + 0 ≤ R.slots) (hdg : decode cc pc = .ok (.invokestatic index, 3)) (kk : ∀ (r : Int32) (H1 : Heap) (locs1 : List Loc), P r → (∀ q : Nat, q < H.size → H1[q]? = H[q]?) → va_S A0 s.heap H1 locs1 → W p l e R s m args below meth c H1 locs1 cells slots Q (F0 m (pc + 3) ls (.int r :: rest))) : W p l e R s m args below meth c H locs cells slots Q (F0 m (pc) ls (st0)) := by
  refine va_calli (va_runS (As := As) (rest := rest) hF hM cw ⟨k_blind, k_pre hZ hk⟩ rfl hn hls hst (lv_room hW) hdg hf) hS (fun q _ h => h.elim) (fun q h => h.elim) (fun r u t H1 locs1 ht hvm hp hB hz hk1 hS1 => ?_)
  exact kk r H1 locs1 hp (fun q h => hk1 q h (fun z => z)) hS1
theorem k_callSv {y : MethodName} {ycc : ByteArray} {yL nL n index : Nat} {ws : List Cond} {rm : Room} {own : String} {As : List Value} {st0 : List Value} {A0 : Nat → Prop} (hF : CallFix p m c cc nL s args lw_all own) (hM : Met l y ws rm (va_Pc As (fun U => kZ ad A U U.heap)) (va_Qv (fun (_ : Unit) => True) (fun _ _ => True) (fun _ => False)) 0 0 (fun _ => False)) (cw : CallB R s args own index y ycc yL none ws rm 0 0 n ∧ (Cond.static y).before args s = true) (hZ : kZ ad A s s.heap) (hk : ∀ q : Nat, q < s.heap.size → ¬ A q → H[q]? = s.heap[q]?) (hS : va_S A0 s.heap H locs) (hn : As.length = n) (hls : ls.size = nL) (hst : st0 = As.reverse ++ rest) (hW : (rest.map fun v => v.category).sum ≤ 8) (hf : cells + 0 ≤ R.cells ∧ slots + 0 ≤ R.slots) (hdg : decode cc pc = .ok (.invokestatic index, 3)) (kk : ∀ (H1 : Heap) (locs1 : List Loc), (∀ q : Nat, q < H.size → H1[q]? = H[q]?) → va_S A0 s.heap H1 locs1 → W p l e R s m args below meth c H1 locs1 cells slots Q (F0 m (pc + 3) ls (rest))) : W p l e R s m args below meth c H locs cells slots Q (F0 m (pc) ls (st0)) := by
  refine va_callv (va_runS (As := As) (rest := rest) hF hM cw ⟨k_blind, k_pre hZ hk⟩ rfl hn hls hst (lv_room hW) hdg hf) hS (fun q _ h => h.elim) (fun q h => h.elim) (fun u t H1 locs1 ht hvm hp hB hz hk1 hS1 => ?_)
  exact kk H1 locs1 (fun q h => hk1 q h (fun z => z)) hS1
end KSTR
theorem t_J3_coder (l : Launch) (ad : Nat → Nat) (A : Nat → Prop) (i : Nat) (hi : i < 25) : Met l yJ3_coder (ws_ yJ3_coder cJ3_coder 1 (some .byte)) (rmD 0 0 0) (va_Pc [.ref (ad (2001 + i))] (fun U => kZ ad A U U.heap)) (va_Qi (fun r (_ : Unit) => r = 0) (fun _ _ => True) (fun _ => False)) 0 0 (fun _ => False) := by
  refine Met.ofW (cc := cJ3_coder) (maxL := 1) (ret := (some .byte)) (by decide) rfl ?_
  intro p e s m args below meth c s₁ B hml hv
  obtain ⟨rfl, hZ⟩ := hv
  have hx := B.exec
  have hb := B.bytes
  have hr := B.returns
  have hlocks := B.notSynchronized
  have hts := atoms_spec (ws := (ws_ yJ3_coder cJ3_coder 1 (some .byte))) B.pre
  have hts : ∀ w ∈ lw_all, w.before _ s = true := fun w h => hts w (List.mem_cons_of_mem _ h)
  have hown : s.vm.findClass RJ3 = some m.cls := findClass_of_methodNamed B.named
  clear B
  have hS : va_S (fun _ => False) s.heap s.heap [] := va_S.rf
  have hl := lv_entry ([.ref (ad (2001 + i))] : List Value) (n := 1) (Nat.le_of_ble_eq_true rfl)
  rw [lg_entry_eq]
  generalize (lg_sl ([.ref (ad (2001 + i))] : List Value) ++ List.replicate (1 - (lg_sl ([.ref (ad (2001 + i))] : List Value)).length) Slot.unset).toArray = ls at hl ⊢
  have hl : lv_has ls 1 [(0, .ref (ad (2001 + i)))] := hl
  have hF : CallFix p m c cJ3_coder 1 s _ lw_all RJ3 := ⟨hx, hb, hml, hown, hts⟩
  have hR : (headSpec (ws_ yJ3_coder cJ3_coder 1 (some .byte)) (rmD 0 0 0)).room.frames = 0 + 1 ∧ (headSpec (ws_ yJ3_coder cJ3_coder 1 (some .byte)) (rmD 0 0 0)).room.locals = 64 * 0 + 64 := ⟨rfl, rfl⟩
  have hRc : (headSpec (ws_ yJ3_coder cJ3_coder 1 (some .byte)) (rmD 0 0 0)).room.cells = 0 ∧ (headSpec (ws_ yJ3_coder cJ3_coder 1 (some .byte)) (rmD 0 0 0)).room.slots = 0 := ⟨rfl, rfl⟩
  generalize (headSpec (ws_ yJ3_coder cJ3_coder 1 (some .byte)) (rmD 0 0 0)).room = R at hR hRc ⊢
  generalize ([.ref (ad (2001 + i))] : List Value).toArray = args at hts hF ⊢
  have hZ0 := hZ
  obtain ⟨hStr, hW, hWT, hCo, hHi, hCa, hCT, hEm, hSI, hUn, hSu, hV⟩ := hZ
  refine va_gets hx hb hCo hS.none hown (hts _ q438) (fun x hx => hx) dJ3_coder_0 ?_
  show W p l e _ s m _ below meth c _ _ _ _ _ (F0 m _ ls [iV 1])
  refine nr_if_eq hx hb (by decide) dJ3_coder_3 (tgt := 13) (by decide) (fun z => absurd z (by decide)) (fun _ => ?_)
  refine lv_aload_n hx hb dJ3_coder_6 rfl (lv_at hl 0 rfl) ?_
  refine vk_getf hx hb (hStr.1 i hi).2.1 hS.none hown (hts _ q1712) (fun x hx => hx) dJ3_coder_7 ?_
  refine lv_goto hx hb dJ3_coder_10 (tgt := 14) (by decide) ?_
  exact W.zret (v := 0) hx hb hr rfl (fun t ht _ => ⟨⟨0, (), rfl, rfl, trivial⟩, hS.F ht⟩) hS.2.2 dJ3_coder_14 hlocks
theorem t_J3_isLatin1 (l : Launch) (ad : Nat → Nat) (A : Nat → Prop) (i : Nat) (hi : i < 25) : Met l yJ3_isLatin1 (ws_ yJ3_isLatin1 cJ3_isLatin1 1 (some .boolean)) (rmD 0 0 0) (va_Pc [.ref (ad (2001 + i))] (fun U => kZ ad A U U.heap)) (va_Qi (fun r (_ : Unit) => r = 1) (fun _ _ => True) (fun _ => False)) 0 0 (fun _ => False) := by
  refine Met.ofW (cc := cJ3_isLatin1) (maxL := 1) (ret := (some .boolean)) (by decide) rfl ?_
  intro p e s m args below meth c s₁ B hml hv
  obtain ⟨rfl, hZ⟩ := hv
  have hx := B.exec
  have hb := B.bytes
  have hr := B.returns
  have hlocks := B.notSynchronized
  have hts := atoms_spec (ws := (ws_ yJ3_isLatin1 cJ3_isLatin1 1 (some .boolean))) B.pre
  have hts : ∀ w ∈ lw_all, w.before _ s = true := fun w h => hts w (List.mem_cons_of_mem _ h)
  have hown : s.vm.findClass RJ3 = some m.cls := findClass_of_methodNamed B.named
  clear B
  have hS : va_S (fun _ => False) s.heap s.heap [] := va_S.rf
  have hl := lv_entry ([.ref (ad (2001 + i))] : List Value) (n := 1) (Nat.le_of_ble_eq_true rfl)
  rw [lg_entry_eq]
  generalize (lg_sl ([.ref (ad (2001 + i))] : List Value) ++ List.replicate (1 - (lg_sl ([.ref (ad (2001 + i))] : List Value)).length) Slot.unset).toArray = ls at hl ⊢
  have hl : lv_has ls 1 [(0, .ref (ad (2001 + i)))] := hl
  have hF : CallFix p m c cJ3_isLatin1 1 s _ lw_all RJ3 := ⟨hx, hb, hml, hown, hts⟩
  have hR : (headSpec (ws_ yJ3_isLatin1 cJ3_isLatin1 1 (some .boolean)) (rmD 0 0 0)).room.frames = 0 + 1 ∧ (headSpec (ws_ yJ3_isLatin1 cJ3_isLatin1 1 (some .boolean)) (rmD 0 0 0)).room.locals = 64 * 0 + 64 := ⟨rfl, rfl⟩
  have hRc : (headSpec (ws_ yJ3_isLatin1 cJ3_isLatin1 1 (some .boolean)) (rmD 0 0 0)).room.cells = 0 ∧ (headSpec (ws_ yJ3_isLatin1 cJ3_isLatin1 1 (some .boolean)) (rmD 0 0 0)).room.slots = 0 := ⟨rfl, rfl⟩
  generalize (headSpec (ws_ yJ3_isLatin1 cJ3_isLatin1 1 (some .boolean)) (rmD 0 0 0)).room = R at hR hRc ⊢
  generalize ([.ref (ad (2001 + i))] : List Value).toArray = args at hts hF ⊢
  have hZ0 := hZ
  obtain ⟨hStr, hW, hWT, hCo, hHi, hCa, hCT, hEm, hSI, hUn, hSu, hV⟩ := hZ
  refine va_gets hx hb hCo hS.none hown (hts _ q438) (fun x hx => hx) dJ3_isLatin1_0 ?_
  show W p l e _ s m _ below meth c _ _ _ _ _ (F0 m _ ls [iV 1])
  refine nr_if_eq hx hb (by decide) dJ3_isLatin1_3 (tgt := 17) (by decide) (fun z => absurd z (by decide)) (fun _ => ?_)
  refine lv_aload_n hx hb dJ3_isLatin1_6 rfl (lv_at hl 0 rfl) ?_
  refine vk_getf hx hb (hStr.1 i hi).2.1 hS.none hown (hts _ q1712) (fun x hx => hx) dJ3_isLatin1_7 ?_
  show W p l e _ s m _ below meth c _ _ _ _ _ (F0 m _ ls [iV 0])
  refine nr_if_ne hx hb (by decide) dJ3_isLatin1_10 (tgt := 17) (by decide) (fun z => absurd rfl z) (fun _ => ?_)
  refine nr_iconst hx hb dJ3_isLatin1_13 ?_
  refine lv_goto hx hb dJ3_isLatin1_14 (tgt := 18) (by decide) ?_
  exact W.zret (v := 1) hx hb hr rfl (fun t ht _ => ⟨⟨1, (), rfl, rfl, trivial⟩, hS.F ht⟩) hS.2.2 dJ3_isLatin1_18 hlocks
theorem t_J3_length (l : Launch) (ad : Nat → Nat) (A : Nat → Prop) (i : Nat) (hi : i < 25) : Met l yJ3_length (ws_ yJ3_length cJ3_length 1 (some .int)) (rmD 1 0 0) (va_Pc [.ref (ad (2001 + i))] (fun U => kZ ad A U U.heap)) (va_Qi (fun r (_ : Unit) => r = Int32.ofNat (wLen.getD i 0)) (fun _ _ => True) (fun _ => False)) 0 0 (fun _ => False) := by
  refine Met.ofW (cc := cJ3_length) (maxL := 1) (ret := (some .int)) (by decide) rfl ?_
  intro p e s m args below meth c s₁ B hml hv
  obtain ⟨rfl, hZ⟩ := hv
  have hx := B.exec
  have hb := B.bytes
  have hr := B.returns
  have hlocks := B.notSynchronized
  have hts := atoms_spec (ws := (ws_ yJ3_length cJ3_length 1 (some .int))) B.pre
  have hts : ∀ w ∈ lw_all, w.before _ s = true := fun w h => hts w (List.mem_cons_of_mem _ h)
  have hown : s.vm.findClass RJ3 = some m.cls := findClass_of_methodNamed B.named
  clear B
  have hS : va_S (fun _ => False) s.heap s.heap [] := va_S.rf
  have hl := lv_entry ([.ref (ad (2001 + i))] : List Value) (n := 1) (Nat.le_of_ble_eq_true rfl)
  rw [lg_entry_eq]
  generalize (lg_sl ([.ref (ad (2001 + i))] : List Value) ++ List.replicate (1 - (lg_sl ([.ref (ad (2001 + i))] : List Value)).length) Slot.unset).toArray = ls at hl ⊢
  have hl : lv_has ls 1 [(0, .ref (ad (2001 + i)))] := hl
  have hF : CallFix p m c cJ3_length 1 s _ lw_all RJ3 := ⟨hx, hb, hml, hown, hts⟩
  have hR : (headSpec (ws_ yJ3_length cJ3_length 1 (some .int)) (rmD 1 0 0)).room.frames = 1 + 1 ∧ (headSpec (ws_ yJ3_length cJ3_length 1 (some .int)) (rmD 1 0 0)).room.locals = 64 * 1 + 64 := ⟨rfl, rfl⟩
  have hRc : (headSpec (ws_ yJ3_length cJ3_length 1 (some .int)) (rmD 1 0 0)).room.cells = 0 ∧ (headSpec (ws_ yJ3_length cJ3_length 1 (some .int)) (rmD 1 0 0)).room.slots = 0 := ⟨rfl, rfl⟩
  generalize (headSpec (ws_ yJ3_length cJ3_length 1 (some .int)) (rmD 1 0 0)).room = R at hR hRc ⊢
  generalize ([.ref (ad (2001 + i))] : List Value).toArray = args at hts hF ⊢
  have hZ0 := hZ
  obtain ⟨hStr, hW, hWT, hCo, hHi, hCa, hCT, hEm, hSI, hUn, hSu, hV⟩ := hZ
  refine lv_aload_n hx hb dJ3_length_0 rfl (lv_at hl 0 rfl) ?_
  refine vk_getf hx hb (hStr.1 i hi).2.2.1 hS.none hown (hts _ q1711) (fun x hx => hx) dJ3_length_1 ?_
  refine va_tlen hx hb (hStr.1 i hi).2.2.2 hS.none rfl dJ3_length_4 ?_
  refine lv_aload_n hx hb dJ3_length_5 rfl (lv_at hl 0 rfl) ?_
  refine k_callVi (As := []) (rest := [.int (Int32.ofNat (wLen.getD i 0))]) hF (t_J3_coder l ad A i hi) (vk_recv (adK := fun i => ad (2001 + i)) (i := i) hStr hi (hS.none (A := A))) (cwV 0 hts (lw_V q434 q435 q436 q115 q437) rfl rfl rfl (by decide +kernel) ⟨by have h1 := hR.1; have h2 : (rmD 0 0 0).frames = 0 + 1 := rfl; omega, by have h1 := hR.2; have h2 : (rmD 0 0 0).locals = 64 * 0 + 64 := rfl; omega⟩) hZ0 (fun _ _ _ => rfl) hS rfl hl.1 rfl (Nat.le_of_ble_eq_true rfl) (by have h1 := hRc.1; have h2 := hRc.2; omega) dJ3_length_6 (fun r H1 locs1 hp hk1 hS1 => ?_)
  subst hp
  refine lv_ishr hx hb dJ3_length_9 ?_
  have e : Int32.ofNat (wLen.getD i 0) >>> ((0 : Int32) &&& 31) = Int32.ofNat (wLen.getD i 0) := sb_shr0 _
  rw [e]
  exact W.iret hx hb hr (fun t ht _ => ⟨⟨_, (), rfl, rfl, trivial⟩, hS1.F ht⟩) hS1.2.2 dJ3_length_10 hlocks
theorem t_J3_checkIndex (l : Launch) (ad : Nat → Nat) (A : Nat → Prop) (x0 x1 : Int) (r0 : InR x0) (r1 : InR x1) (h : 0 ≤ x0 ∧ x0 < x1) : Met l yJ3_checkIndex (ws_ yJ3_checkIndex cJ3_checkIndex 2 none) (rmD 1 0 0) (va_Pc [iV x0, iV x1] (fun U => kZ ad A U U.heap)) (va_Qv (fun (_ : Unit) => True) (fun _ _ => True) (fun _ => False)) 0 0 (fun _ => False) := by
  refine Met.ofW (cc := cJ3_checkIndex) (maxL := 2) (ret := none) (by decide) rfl ?_
  intro p e s m args below meth c s₁ B hml hv
  obtain ⟨rfl, hZ⟩ := hv
  have hx := B.exec
  have hb := B.bytes
  have hr := B.returns
  have hlocks := B.notSynchronized
  have hts := atoms_spec (ws := (ws_ yJ3_checkIndex cJ3_checkIndex 2 none)) B.pre
  have hts : ∀ w ∈ lw_all, w.before _ s = true := fun w h => hts w (List.mem_cons_of_mem _ h)
  have hown : s.vm.findClass RJ3 = some m.cls := findClass_of_methodNamed B.named
  clear B
  have hS : va_S (fun _ => False) s.heap s.heap [] := va_S.rf
  have hl := lv_entry ([iV x0, iV x1] : List Value) (n := 2) (Nat.le_of_ble_eq_true rfl)
  rw [lg_entry_eq]
  generalize (lg_sl ([iV x0, iV x1] : List Value) ++ List.replicate (2 - (lg_sl ([iV x0, iV x1] : List Value)).length) Slot.unset).toArray = ls at hl ⊢
  have hl : lv_has ls 2 [(0, iV x0), (1, iV x1)] := hl
  have hF : CallFix p m c cJ3_checkIndex 2 s _ lw_all RJ3 := ⟨hx, hb, hml, hown, hts⟩
  have hR : (headSpec (ws_ yJ3_checkIndex cJ3_checkIndex 2 none) (rmD 1 0 0)).room.frames = 1 + 1 ∧ (headSpec (ws_ yJ3_checkIndex cJ3_checkIndex 2 none) (rmD 1 0 0)).room.locals = 64 * 1 + 64 := ⟨rfl, rfl⟩
  have hRc : (headSpec (ws_ yJ3_checkIndex cJ3_checkIndex 2 none) (rmD 1 0 0)).room.cells = 0 ∧ (headSpec (ws_ yJ3_checkIndex cJ3_checkIndex 2 none) (rmD 1 0 0)).room.slots = 0 := ⟨rfl, rfl⟩
  generalize (headSpec (ws_ yJ3_checkIndex cJ3_checkIndex 2 none) (rmD 1 0 0)).room = R at hR hRc ⊢
  generalize ([iV x0, iV x1] : List Value).toArray = args at hts hF ⊢
  have hZ0 := hZ
  obtain ⟨hStr, hW, hWT, hCo, hHi, hCa, hCT, hEm, hSI, hUn, hSu, hV⟩ := hZ
  refine lv_iload_n hx hb dJ3_checkIndex_0 rfl (lv_at hl 0 rfl) ?_
  refine lv_iload_n hx hb dJ3_checkIndex_1 rfl (lv_at hl 1 rfl) ?_
  rcases hSI with hSI | ⟨t, hSI⟩
  · refine va_gets hx hb hSI hS.none hown (hts _ q454) (fun x hx => hx) dJ3_checkIndex_2 ?_
    refine p_callPi (As := [iV x0, iV x1, .null]) (rest := []) (K := fun _ => True) hF (t_J5_checkIndex_null l x0 x1 (fun _ => True) r0 r1 (by unfold w_J5_checkIndex_null; exact ⟨fun z => by omega, fun _ => ⟨fun _ => trivial, fun z => z h.2⟩⟩)) (va_cwS 3 hts (lw_S q456 q457 q117 q458) rfl rfl rfl (by decide +kernel) ⟨by have h1 := hR.1; have h2 : (rmD 0 0 0).frames = 0 + 1 := rfl; omega, by have h1 := hR.2; have h2 : (rmD 0 0 0).locals = 64 * 0 + 64 := rfl; omega⟩) hS rfl hl.1 rfl (Nat.le_of_ble_eq_true rfl) dJ3_checkIndex_5 (by have h1 := hRc.1; have h2 := hRc.2; omega) (fun r H1 locs1 _ _ hS1 => ?_)
    refine lv_pop hx hb dJ3_checkIndex_8 rfl ?_
    exact W.vret hx hb hr (fun t ht _ => ⟨⟨(), rfl, trivial, trivial⟩, hS1.F ht⟩) hS1.2.2 dJ3_checkIndex_9 hlocks
  · refine va_gets hx hb hSI hS.none hown (hts _ q454) (fun x hx => hx) dJ3_checkIndex_2 ?_
    refine p_callPi (As := [iV x0, iV x1, .ref t]) (rest := []) (K := fun _ => True) hF (t_J5_checkIndex_q l x0 x1 t (fun _ => True) r0 r1 (by unfold w_J5_checkIndex_q; exact ⟨fun z => by omega, fun _ => ⟨fun _ => trivial, fun z => z h.2⟩⟩)) (va_cwS 3 hts (lw_S q456 q457 q117 q458) rfl rfl rfl (by decide +kernel) ⟨by have h1 := hR.1; have h2 : (rmD 0 0 0).frames = 0 + 1 := rfl; omega, by have h1 := hR.2; have h2 : (rmD 0 0 0).locals = 64 * 0 + 64 := rfl; omega⟩) hS rfl hl.1 rfl (Nat.le_of_ble_eq_true rfl) dJ3_checkIndex_5 (by have h1 := hRc.1; have h2 := hRc.2; omega) (fun r H1 locs1 _ _ hS1 => ?_)
    refine lv_pop hx hb dJ3_checkIndex_8 rfl ?_
    exact W.vret hx hb hr (fun t ht _ => ⟨⟨(), rfl, trivial, trivial⟩, hS1.F ht⟩) hS1.2.2 dJ3_checkIndex_9 hlocks
theorem t_J4_charAt (l : Launch) (ad : Nat → Nat) (A : Nat → Prop) (i : Nat) (hi : i < 25) (k : Int) (rk : InR k) (hk : 0 ≤ k ∧ k < (wLen.getD i 0 : Nat)) : Met l yJ4_charAt (ws_ yJ4_charAt cJ4_charAt 2 (some .char)) (rmD 2 0 0) (va_Pc [.ref (ad (2100 + i)), iV k] (fun U => kZ ad A U U.heap)) (va_Qi (fun r (_ : Unit) => r = ((wByt.getD i []).getD k.toNat 0)) (fun _ _ => True) (fun _ => False)) 0 0 (fun _ => False) := by
  refine Met.ofW (cc := cJ4_charAt) (maxL := 2) (ret := (some .char)) (by decide) rfl ?_
  intro p e s m args below meth c s₁ B hml hv
  obtain ⟨rfl, hZ⟩ := hv
  have hx := B.exec
  have hb := B.bytes
  have hr := B.returns
  have hlocks := B.notSynchronized
  have hts := atoms_spec (ws := (ws_ yJ4_charAt cJ4_charAt 2 (some .char))) B.pre
  have hts : ∀ w ∈ lw_all, w.before _ s = true := fun w h => hts w (List.mem_cons_of_mem _ h)
  have hown : s.vm.findClass RJ4 = some m.cls := findClass_of_methodNamed B.named
  clear B
  have hS : va_S (fun _ => False) s.heap s.heap [] := va_S.rf
  have hl := lv_entry ([.ref (ad (2100 + i)), iV k] : List Value) (n := 2) (Nat.le_of_ble_eq_true rfl)
  rw [lg_entry_eq]
  generalize (lg_sl ([.ref (ad (2100 + i)), iV k] : List Value) ++ List.replicate (2 - (lg_sl ([.ref (ad (2100 + i)), iV k] : List Value)).length) Slot.unset).toArray = ls at hl ⊢
  have hl : lv_has ls 2 [(0, .ref (ad (2100 + i))), (1, iV k)] := hl
  have hF : CallFix p m c cJ4_charAt 2 s _ lw_all RJ4 := ⟨hx, hb, hml, hown, hts⟩
  have hR : (headSpec (ws_ yJ4_charAt cJ4_charAt 2 (some .char)) (rmD 2 0 0)).room.frames = 2 + 1 ∧ (headSpec (ws_ yJ4_charAt cJ4_charAt 2 (some .char)) (rmD 2 0 0)).room.locals = 64 * 2 + 64 := ⟨rfl, rfl⟩
  have hRc : (headSpec (ws_ yJ4_charAt cJ4_charAt 2 (some .char)) (rmD 2 0 0)).room.cells = 0 ∧ (headSpec (ws_ yJ4_charAt cJ4_charAt 2 (some .char)) (rmD 2 0 0)).room.slots = 0 := ⟨rfl, rfl⟩
  generalize (headSpec (ws_ yJ4_charAt cJ4_charAt 2 (some .char)) (rmD 2 0 0)).room = R at hR hRc ⊢
  generalize ([.ref (ad (2100 + i)), iV k] : List Value).toArray = args at hts hF ⊢
  have hZ0 := hZ
  obtain ⟨hStr, hW, hWT, hCo, hHi, hCa, hCT, hEm, hSI, hUn, hSu, hV⟩ := hZ
  have h11 := wl_11 i hi
  refine lv_iload_n hx hb dJ4_charAt_0 rfl (lv_at hl 1 rfl) ?_
  refine lv_aload_n hx hb dJ4_charAt_1 rfl (lv_at hl 0 rfl) ?_
  refine va_tlen hx hb (hStr.1 i hi).2.2.2 hS.none (v := Int32.ofInt ((wLen.getD i 0 : Nat) : Int)) Int32.ofInt_eq_ofNat.symm dJ4_charAt_2 ?_
  refine k_callSv (As := [iV k, iV ((wLen.getD i 0 : Nat) : Int)]) (rest := []) hF (t_J3_checkIndex l ad A k ((wLen.getD i 0 : Nat) : Int) rk ⟨by omega, by omega⟩ hk) (va_cwS 2 hts (lw_S q451 q452 q115 q453) rfl rfl rfl (by decide +kernel) ⟨by have h1 := hR.1; have h2 : (rmD 1 0 0).frames = 1 + 1 := rfl; omega, by have h1 := hR.2; have h2 : (rmD 1 0 0).locals = 64 * 1 + 64 := rfl; omega⟩) hZ0 (fun _ _ _ => rfl) hS rfl hl.1 rfl (Nat.le_of_ble_eq_true rfl) (by have h1 := hRc.1; have h2 := hRc.2; omega) dJ4_charAt_3 (fun H1 locs1 hk1 hS1 => ?_)
  refine lv_aload_n hx hb dJ4_charAt_6 rfl (lv_at hl 0 rfl) ?_
  refine lv_iload_n hx hb dJ4_charAt_7 rfl (lv_at hl 1 rfl) ?_
  refine va_tb hx hb (hStr.1 i hi).2.2.2 hS1.none (ni_in rk hk) (by rw [ni_N rk]) dJ4_charAt_8 ?_
  refine lv_sipush hx hb dJ4_charAt_9 (v := 255) (by decide) ?_
  refine lv_iand hx hb dJ4_charAt_12 ?_
  refine lv_i2c hx hb dJ4_charAt_13 (wb_ok i hi k.toNat (by omega)) ?_
  exact W.zret hx hb hr (wb_nc i hi k.toNat (by omega)) (fun t ht _ => ⟨⟨_, (), rfl, rfl, trivial⟩, hS1.F ht⟩) hS1.2.2 dJ4_charAt_14 hlocks
theorem t_J3_charAt (l : Launch) (ad : Nat → Nat) (A : Nat → Prop) (i : Nat) (hi : i < 25) (k : Int) (rk : InR k) (hk : 0 ≤ k ∧ k < (wLen.getD i 0 : Nat)) : Met l yJ3_charAt (ws_ yJ3_charAt cJ3_charAt 2 (some .char)) (rmD 3 0 0) (va_Pc [.ref (ad (2001 + i)), iV k] (fun U => kZ ad A U U.heap)) (va_Qi (fun r (_ : Unit) => r = ((wByt.getD i []).getD k.toNat 0)) (fun _ _ => True) (fun _ => False)) 0 0 (fun _ => False) := by
  refine Met.ofW (cc := cJ3_charAt) (maxL := 2) (ret := (some .char)) (by decide) rfl ?_
  intro p e s m args below meth c s₁ B hml hv
  obtain ⟨rfl, hZ⟩ := hv
  have hx := B.exec
  have hb := B.bytes
  have hr := B.returns
  have hlocks := B.notSynchronized
  have hts := atoms_spec (ws := (ws_ yJ3_charAt cJ3_charAt 2 (some .char))) B.pre
  have hts : ∀ w ∈ lw_all, w.before _ s = true := fun w h => hts w (List.mem_cons_of_mem _ h)
  have hown : s.vm.findClass RJ3 = some m.cls := findClass_of_methodNamed B.named
  clear B
  have hS : va_S (fun _ => False) s.heap s.heap [] := va_S.rf
  have hl := lv_entry ([.ref (ad (2001 + i)), iV k] : List Value) (n := 2) (Nat.le_of_ble_eq_true rfl)
  rw [lg_entry_eq]
  generalize (lg_sl ([.ref (ad (2001 + i)), iV k] : List Value) ++ List.replicate (2 - (lg_sl ([.ref (ad (2001 + i)), iV k] : List Value)).length) Slot.unset).toArray = ls at hl ⊢
  have hl : lv_has ls 2 [(0, .ref (ad (2001 + i))), (1, iV k)] := hl
  have hF : CallFix p m c cJ3_charAt 2 s _ lw_all RJ3 := ⟨hx, hb, hml, hown, hts⟩
  have hR : (headSpec (ws_ yJ3_charAt cJ3_charAt 2 (some .char)) (rmD 3 0 0)).room.frames = 3 + 1 ∧ (headSpec (ws_ yJ3_charAt cJ3_charAt 2 (some .char)) (rmD 3 0 0)).room.locals = 64 * 3 + 64 := ⟨rfl, rfl⟩
  have hRc : (headSpec (ws_ yJ3_charAt cJ3_charAt 2 (some .char)) (rmD 3 0 0)).room.cells = 0 ∧ (headSpec (ws_ yJ3_charAt cJ3_charAt 2 (some .char)) (rmD 3 0 0)).room.slots = 0 := ⟨rfl, rfl⟩
  generalize (headSpec (ws_ yJ3_charAt cJ3_charAt 2 (some .char)) (rmD 3 0 0)).room = R at hR hRc ⊢
  generalize ([.ref (ad (2001 + i)), iV k] : List Value).toArray = args at hts hF ⊢
  have hZ0 := hZ
  obtain ⟨hStr, hW, hWT, hCo, hHi, hCa, hCT, hEm, hSI, hUn, hSu, hV⟩ := hZ
  have h11 := wl_11 i hi
  refine lv_aload_n hx hb dJ3_charAt_0 rfl (lv_at hl 0 rfl) ?_
  refine k_callVi (As := []) (rest := []) hF (t_J3_isLatin1 l ad A i hi) (vk_recv (adK := fun i => ad (2001 + i)) (i := i) hStr hi (hS.none (A := A))) (cwV 0 hts (lw_V q444 q445 q446 q115 q447) rfl rfl rfl (by decide +kernel) ⟨by have h1 := hR.1; have h2 : (rmD 0 0 0).frames = 0 + 1 := rfl; omega, by have h1 := hR.2; have h2 : (rmD 0 0 0).locals = 64 * 0 + 64 := rfl; omega⟩) hZ0 (fun _ _ _ => rfl) hS rfl hl.1 rfl (Nat.le_of_ble_eq_true rfl) (by have h1 := hRc.1; have h2 := hRc.2; omega) dJ3_charAt_1 (fun r H1 locs1 hp hk1 hS1 => ?_)
  subst hp
  show W p l e _ s m _ below meth c _ _ _ _ _ (F0 m _ ls [iV 1])
  refine nr_if_eq hx hb (by decide) dJ3_charAt_4 (tgt := 16) (by decide) (fun z => absurd z (by decide)) (fun _ => ?_)
  refine lv_aload_n hx hb dJ3_charAt_7 rfl (lv_at hl 0 rfl) ?_
  refine vk_getf hx hb (hStr.1 i hi).2.2.1 hS1.none hown (hts _ q1711) (fun x hx => hx) dJ3_charAt_8 ?_
  refine lv_iload_n hx hb dJ3_charAt_11 rfl (lv_at hl 1 rfl) ?_
  refine k_callSi (As := [.ref (ad (2100 + i)), iV k]) (rest := []) hF (t_J4_charAt l ad A i hi k rk hk) (va_cwS 2 hts (lw_S q448 q449 q116 q450) rfl rfl rfl (by decide +kernel) ⟨by have h1 := hR.1; have h2 : (rmD 2 0 0).frames = 2 + 1 := rfl; omega, by have h1 := hR.2; have h2 : (rmD 2 0 0).locals = 64 * 2 + 64 := rfl; omega⟩) hZ0 (fun q h _ => hk1 q h) hS1 rfl hl.1 rfl (Nat.le_of_ble_eq_true rfl) (by have h1 := hRc.1; have h2 := hRc.2; omega) dJ3_charAt_12 (fun r H2 locs2 hp hk2 hS2 => ?_)
  subst hp
  exact W.zret hx hb hr (wb_nc i hi k.toNat (by omega)) (fun t ht _ => ⟨⟨_, (), rfl, rfl, trivial⟩, hS2.F ht⟩) hS2.2.2 dJ3_charAt_15 hlocks
section KSTR2
variable {p : Program} {l : Launch} {e : Env} {R : Room} {s : State} {m : MethodId} {args : Array Value} {below : List Frame} {meth : Method} {c : Code} {H : Heap} {locs : List Loc} {cells slots : Nat} {Q : State → Prop}
variable {cc : ByteArray} {pc : Nat} {ls : Array Slot} {rest : List Value} {D : va_G} {dA : Nat → ClassId} {ad : Nat → Nat} {A : Nat → Prop} {H0 : Heap} {S : St}

theorem k_slen {nL index dk : Nat} {own : String} {w : Int} (hF : CallFix p m c cc nL s args lw_all own) (ql : Cond.methodLink own index ⟨"java/lang/String", "length", "()I"⟩ ∈ lw_all) (hI : sI D dA wX ad A s.heap S H locs) (hZ : kZ ad A s s.heap) (hcs : bOK R S cells slots) (hls : ls.size = nL) (hR : R.frames = dk + 1 ∧ R.locals = 64 * dk + 64) (hd : 6 ≤ dk) (hw : 0 ≤ w ∧ w < 25) (hW : (rest.map fun v => v.category).sum ≤ 8) (hdg : decode cc pc = .ok (.invokevirtual index, 3)) (kk : ∀ (H1 : Heap) (locs1 : List Loc), sI D dA wX ad A s.heap S H1 locs1 → W p l e R s m args below meth c H1 locs1 cells slots Q (F0 m (pc + 3) ls (iV (wlen w) :: rest))) : W p l e R s m args below meth c H locs cells slots Q (F0 m (pc) ls (.ref (ad (2001 + Int.toNat w)) :: rest)) := by
  have hts := hF.2.2.2.2
  have hi : w.toNat < 25 := by omega
  have hf := cs0 hcs
  refine k_callVi (As := []) (rest := rest) hF (t_J3_length l ad A w.toNat hi) (vk_recv (adK := fun i => ad (2001 + i)) (i := w.toNat) hZ.1 hi hI.2.1) (cwV 0 hts (lw_V ql q431 q432 q115 q433) rfl rfl rfl (by decide +kernel) ⟨by have h1 := hR.1; have h2 : (rmD 1 0 0).frames = 1 + 1 := rfl; omega, by have h1 := hR.2; have h2 : (rmD 1 0 0).locals = 64 * 1 + 64 := rfl; omega⟩) hZ hI.2.1.2.1 hI.2.1 rfl hls rfl hW ⟨by omega, by omega⟩ hdg (fun r H1 locs1 hp hk1 hS1 => ?_)
  subst hp
  have e : Value.int (Int32.ofNat (wLen.getD w.toNat 0)) = iV (wlen w) := by unfold wlen; show _ = Value.int (Int32.ofInt _); rw [Int32.ofInt_eq_ofNat]
  rw [e]
  exact kk H1 locs1 (hI.keptF hS1 (fun q h _ => hk1 q h))
theorem k_scha {nL index dk : Nat} {own : String} {w k : Int} (hF : CallFix p m c cc nL s args lw_all own) (ql : Cond.methodLink own index ⟨"java/lang/String", "charAt", "(I)C"⟩ ∈ lw_all) (hI : sI D dA wX ad A s.heap S H locs) (hZ : kZ ad A s s.heap) (hcs : bOK R S cells slots) (hls : ls.size = nL) (hR : R.frames = dk + 1 ∧ R.locals = 64 * dk + 64) (hd : 6 ≤ dk) (hw : 0 ≤ w ∧ w < 25) (rk : InR k) (hk : 0 ≤ k ∧ k < wlen w) (hW : (rest.map fun v => v.category).sum ≤ 8) (hdg : decode cc pc = .ok (.invokevirtual index, 3)) (kk : ∀ (H1 : Heap) (locs1 : List Loc), sI D dA wX ad A s.heap S H1 locs1 → W p l e R s m args below meth c H1 locs1 cells slots Q (F0 m (pc + 3) ls (iV (wch w k) :: rest))) : W p l e R s m args below meth c H locs cells slots Q (F0 m (pc) ls (iV k :: .ref (ad (2001 + Int.toNat w)) :: rest)) := by
  have hts := hF.2.2.2.2
  have hi : w.toNat < 25 := by omega
  have hf := cs0 hcs
  refine k_callVi (As := [iV k]) (rest := rest) hF (t_J3_charAt l ad A w.toNat hi k rk hk) (vk_recv (adK := fun i => ad (2001 + i)) (i := w.toNat) hZ.1 hi hI.2.1) (cwV 1 hts (lw_V ql q441 q442 q115 q443) rfl rfl rfl (by decide +kernel) ⟨by have h1 := hR.1; have h2 : (rmD 3 0 0).frames = 3 + 1 := rfl; omega, by have h1 := hR.2; have h2 : (rmD 3 0 0).locals = 64 * 3 + 64 := rfl; omega⟩) hZ hI.2.1.2.1 hI.2.1 rfl hls rfl hW ⟨by omega, by omega⟩ hdg (fun r H1 locs1 hp hk1 hS1 => ?_)
  subst hp
  have e : Value.int ((wByt.getD w.toNat []).getD k.toNat 0) = iV (wch w k) := ni_V _
  rw [e]
  exact kk H1 locs1 (hI.keptF hS1 (fun q h _ => hk1 q h))
end KSTR2
