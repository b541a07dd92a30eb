set_option maxRecDepth 100000
section KW
variable {p : Program} {l : Launch} {e : Env} {R : Room} {s : State} {m : MethodId} {args : Array Value} {below : List Frame} {meth : Method} {c : Code} {H : Heap} {locs : List Loc} {cells slots : Nat} {Q : State → Prop}
variable {cc : ByteArray} {pc : Nat} {ls : Array Slot} {rest : List Value} {D : va_G} {dA : Nat → ClassId} {ad : Nat → Nat} {A : Nat → Prop} {H0 : Heap} {S : St}

theorem rv_q (u : RefV) : ∃ r : Option Nat, u.v = va_rf r := by
  obtain ⟨v, h⟩ := u
  cases v with
  | null => exact ⟨none, rfl⟩
  | ref a => exact ⟨some a, rfl⟩
  | _ => cases h
set_option maxHeartbeats 4000000 in
/-- Exception.<init>() within Wrong.<init> -/
theorem w_exc (hexec : p.tables.exec = Jvm.exec) (hb : c.code = cc) (hlt : l.stackTraces = false) (hts : ∀ w ∈ lw_all, w.before args s = true) (hown : s.vm.findClass RX5 = some m.cls) (hK : gK D dA s) (hZ : kZ ad A s s.heap) (hI : sI D dA wX ad A s.heap S s.heap []) {q : Nat} (hg : gI S q = some (.inr (.inl (5, [.inr (.inr none), .inr (.inr none), .inr (.inr none), .inr (.inr none), .inr (.inr none), .inl 0, .inl 0, .inl 0])))) {kX : Class} (hkX : s.vm.classes[D.1 5]? = some kX) (hcell : s.heap[q]? = some (blank (D.1 5) kX)) (hls : ls.size = c.maxLocals) (hR : 4 ≤ R.frames ∧ 120 ≤ R.locals) (hdg : decode cc pc = .ok (.invokespecial 1, 3))
    (kk : ∀ (u v : Option Nat) (S1 : St) (H1 : Heap) (locs1 : List Loc), S1 = gset S q (.inr (.inl (5, [.inr (.inr (some q)), .inr (.inr u), .inr (.inr v), .inr (.inr none), .inr (.inr none), .inl 0, .inl 0, .inl 0]))) → sI D dA wX ad A s.heap S1 H1 locs1 → W p l e R s m args below meth c H1 locs1 cells slots Q (F0 m (pc + 3) ls ([]))) : W p l e R s m args below meth c s.heap [] cells slots Q (F0 m (pc) ls ([.ref q])) := by
  intro U hU X
  have htr : e.platform.stackTraces = false := (show e.platform.stackTraces = l.stackTraces by rw [X.admits.platform]).trans hlt
  have howns : e.platform.frameOwnsMonitors = true := by rw [X.admits.platform]
  have hfin : e.platform.finalization = false := by rw [X.admits.platform]
  have hpl : e.platform.magicAccessors = ({} : Platform).magicAccessors := by rw [X.admits.platform]
  obtain ⟨hStr, hW, hWT, hCo, hHi, hCa, hCT, hEm, hSI, hUn, hSu, hV⟩ := hZ
  have hth : ∀ w ∈ Bundle.throwableAtoms, w.before args s = true := vz_c (hts _ q120) (vz_c (hts _ q510) (vz_c (hts _ q519) (vz_c (hts _ q521) (vz_c (hts _ q524) (vz_c (hts _ q526) (vz_c (hts _ q511) (vz_c (hts _ q512) (vz_c (hts _ q144) (vz_c (hts _ q145) (vz_c (hts _ q513) (vz_c (hts _ q518) (vz_c (hts _ q522) (vz_c (hts _ q539) (vz_c (hts _ q500) (vz_c (hts _ q540) (vz_c (hts _ q502) (vz_c (hts _ q541) (vz_c (hts _ q504) (vz_c (hts _ q514) (vz_c hUn.2.word (vz_c (hts _ q516) (vz_c hSu.2.word (vz_c (hts _ q506) (vz_n))))))))))))))))))))))))
  have hch : ∀ w ∈ Bundle.chain0Atoms "java/lang/Exception" [], w.before args s = true := vz_c (hts _ q531) (vz_c (hts _ q532) (vz_c (hts _ q533) (vz_c (hts _ q511) (vz_c (va_any rfl hV.2.2.2) (vz_n)))))
  obtain ⟨T0, Z, L, LZ, Y⟩ := ThrowableC.of_atoms (args := args) howns hfin hpl hth
  have hfit : Bundle.fit "java/lang/Exception" = true := by decide +kernel
  obtain ⟨P1, Ps, hlen, L1, hL, hP1m, hlink1, hlink⟩ := Bundle.chain0 (args := args) hpl Y.init0 [] "java/lang/Exception" hfit (fun _ h => nomatch h) hch
  obtain ⟨c1, kX', hc1, hk, hord, -, -, hn6⟩ := Cond.instantiable_spec (hts _ q491)
  have hfX : s.vm.findClass "NineGraves$Wrong" = some (D.1 5) := (hK.1.1 5 _ rfl).2.1
  cases Option.some.inj (hc1.symm.trans hfX)
  cases Option.some.inj (hkX.symm.trans hk)
  have hsel0 : selectMethod e.platform s.vm (D.1 5) T0.fill0 = .method T0.fill0 := by
    obtain ⟨c2, r2, m2, q1, q2, q3, q4, -⟩ := Cond.selects_spec (hts _ q497)
    cases Option.some.inj (q1.symm.trans hfX)
    cases Option.some.inj (q2.symm.trans (State.methodFound?_of_named Y.fill0 (by decide)))
    cases Option.some.inj (q3.symm.trans Y.fill0)
    rw [Launch.admits_selectMethod X.admits]; exact q4
  have hselF : selectMethod e.platform s.vm (D.1 5) T0.fill = .method T0.fill := by
    obtain ⟨c2, r2, m2, q1, q2, q3, q4, -⟩ := Cond.selects_spec (hts _ q498)
    cases Option.some.inj (q1.symm.trans hfX)
    cases Option.some.inj (q2.symm.trans (State.methodFound?_of_named Y.fill (by decide)))
    cases Option.some.inj (q3.symm.trans Y.fill)
    rw [Launch.admits_selectMethod X.admits]; exact q4
  obtain ⟨cellS0, hcS0, hiss⟩ := Y.statics
  obtain ⟨u0, hu0⟩ := Cond.staticRefV Y.unassigned L.unassignedStatic L.statics hcS0 hiss (vz_isRefq (args := args) hUn.1)
  obtain ⟨sen, hsen⟩ := Cond.staticRefV Y.sentinel L.sentinelStatic L.statics hcS0 hiss (vz_isRefq (args := args) hSu.1)
  obtain ⟨ci198, i198, fB, hk198, hg198, ha198, hsB, -, hnB, htB, hffB⟩ := Cond.ownField (t := .object "java/lang/Object") Y.found L.cls (by decide +kernel) (hts _ q509) (hts _ q508) e.platform hpl
  have hcellS : U.heap[T0.aS]? = some cellS0 := by rw [hU]; exact hcS0
  have hknownS : cellS0.vm ≠ .unknown := by
    intro hu
    rw [hu] at hiss
    cases hiss
  have hneS : T0.aS ≠ q := by
    intro h
    rw [h, hcell] at hcS0
    cases hcS0
    cases hiss
  obtain ⟨iM, hffM⟩ := Y.msg
  obtain ⟨tyC, dC, hdC, hdnC⟩ := Cond.laysAt hfX hk Y.cause (hts _ q499)
  obtain ⟨tyS, dS, hdS, hdnS⟩ := Cond.laysAt hfX hk Y.stack (hts _ q501)
  obtain ⟨tyP, dP, hdP, hdnP⟩ := Cond.laysAt hfX hk Y.supp (hts _ q503)
  obtain ⟨tyB, dB, hdB, hdnB⟩ := Cond.laysAt hfX hk hffB (hts _ q507)
  have bC := Cond.laysApart hdB hdC hdnB hdnC (by rw [hnB, Y.causeName]; decide)
  have bS := Cond.laysApart hdB hdS hdnB hdnS (by rw [hnB, Y.stackName]; decide)
  have bP := Cond.laysApart hdB hdP hdnB hdnP (by rw [hnB, Y.suppName]; decide)
  have hcell' : U.heap[q]? = some (freshCell (D.1 5) kX) := by rw [hU]; exact hcell
  have hskip : SkipFacts T0 e.platform s (fun u => u) u0 ((preparedCellV T0.toThrowableT (freshCell (D.1 5) kX) q u0 sen).withEntry U.cur) :=
    ⟨{ ci198 := ci198, i198 := i198, fBack := fB }, ⟨hk198, hg198, ha198, hsB⟩, by
      have := fresh_default (c := D.1 5) tyB
      rw [htB] at this
      simpa [preparedCellV, Cell.setSlot, Cell.withEntry, Array.getElem?_setIfInBounds, bC, bS, bP, bC.symm, bS.symm, bP.symm, defaultValue] using this, fun _ _ => rfl⟩
  obtain ⟨tm, methC, cdC, kC, vm₁, hnC, -, -, -, -, -, -, -, hW₁, st1⟩ := Steps.initCold (tb := p.tables) (e := e) (below := below) (s := s) (U := U) X.here hexec X.warmed hpl hown (t := Bundle.init0 "java/lang/Exception") rfl rfl (Bundle.fit_spec hfit).2
    (hts _ q530) (hts _ q531) (bytes := Bundle.five) (maxL := 1) (hts _ q532)
    (f := F0 m pc ls [.ref q]) rfl (a := q) (rest := []) rfl (by rw [hb]; exact hdg)
  cases Option.some.inj (hnC.symm.trans hP1m)
  have X₁ := X.noted hW₁
  obtain ⟨vm₂, X₂, st2⟩ := X₁.ctorPlainOffV hexec (g := F0 m pc ls []) rfl hls T0 L Z LZ (P1 :: Ps)
    (fun P hP => by rcases List.mem_cons.mp hP with rfl | hP; exact L1; exact hL P hP) ⟨hlink1, hlink⟩ (u0 := u0) (sen := sen) (self := q) (cell := freshCell (D.1 5) kX) (cellS := cellS0)
    hcell' (fun _ => by simp) (by simp) rfl rfl hsel0 hselF hcellS hneS hknownS hu0 hsen
    (Takes.of_laid hk hord tyC (by rw [Y.causeType]; rfl)) (Takes.of_laid hk hord tyS (by rw [Y.stackType]; exact fits_refV_array _ u0)) (Takes.of_laid hk hord tyP (by rw [Y.suppType]; exact fits_refV_object _ sen)) Y.objLocals hskip htr [] (by rw [hb]; exact hdg)
    (by simp only [List.length_cons, hlen, List.length_nil]; omega) (by simp only [List.length_cons, hlen, List.length_nil]; show 2 * 0 + 0 + (13 * (0 + 1) + 41) ≤ _; omega)
  obtain ⟨u, hu⟩ := rv_q u0
  obtain ⟨v, hv⟩ := rv_q sen
  have hq : q < s.heap.size := (Array.getElem?_eq_some_iff.mp hcell).1
  have hown5 := hI.ownO hg (by decide)
  have hap := va_apart (own := RX5) hts in_X5 tyX5 tyX5_ok nmX5 hK.1 (show vwCl[5]? = some (RX5, TX5, 8) from rfl)
  obtain ⟨hS1, -⟩ := hK.1.1 5 _ (show vwCl[5]? = some (RX5, TX5, 8) from rfl)
  have e0 : T0.fCause.slot = D.2 5 0 := by
    obtain ⟨cf, kf, fi, f, h1, h2⟩ := hS1 0 (by decide)
    have h3 := h1.symm.trans Y.cause
    cases h3
    exact h2
  have e1 : T0.fStack.slot = D.2 5 1 := by
    obtain ⟨cf, kf, fi, f, h1, h2⟩ := hS1 1 (by decide)
    have h3 := h1.symm.trans Y.stack
    cases h3
    exact h2
  have e2 : T0.fSupp.slot = D.2 5 2 := by
    obtain ⟨cf, kf, fi, f, h1, h2⟩ := hS1 2 (by decide)
    have h3 := h1.symm.trans Y.supp
    cases h3
    exact h2
  obtain ⟨r, h1, cell, q1, q2, q3, q4⟩ := s_pobj hI hg (by decide)
  have hr : r = (RX5, TX5, 8) := Option.some.inj (h1.symm.trans rfl)
  subst hr
  have hcl : cell = blank (D.1 5) kX := Option.some.inj (q1.symm.trans hcell)
  subst hcl
  have q5 := t_set (t_set (t_set (t_set q4 hap (k := 0) (by decide) (.ref q)) hap (k := 1) (by decide) u0.v) hap (k := 2) (by decide) sen.v) hap (k := 1) (by decide) u0.v
  obtain ⟨hC, hS, hA⟩ := hI
  have hz := hC.2.2.2.2.1 q _ hg
  have hheap : (((U.setVm vm₁).setVm vm₂).setCell q ((preparedCellV T0.toThrowableT (freshCell (D.1 5) kX) q u0 sen).setSlot T0.fStack.slot u0.v)).heap = s.heap.setIfInBounds q ((preparedCellV T0.toThrowableT (freshCell (D.1 5) kX) q u0 sen).setSlot T0.fStack.slot u0.v) := by rw [← hU]; rfl
  have hat : (s.heap.setIfInBounds q ((preparedCellV T0.toThrowableT (freshCell (D.1 5) kX) q u0 sen).setSlot T0.fStack.slot u0.v))[q]? = some ((preparedCellV T0.toThrowableT (freshCell (D.1 5) kX) q u0 sen).setSlot T0.fStack.slot u0.v) := by
    simp [Array.getElem?_setIfInBounds, hq]
  have oq : ∀ x : Nat, x ≠ q → (s.heap.setIfInBounds q ((preparedCellV T0.toThrowableT (freshCell (D.1 5) kX) q u0 sen).setSlot T0.fStack.slot u0.v))[x]? = s.heap[x]? := fun x hx => by simp [Array.getElem?_setIfInBounds, Ne.symm hx]
  have hIn : sI D dA wX ad A s.heap (gset S q (.inr (.inl (5, [.inr (.inr (some q)), .inr (.inr u), .inr (.inr v), .inr (.inr none), .inr (.inr none), .inl 0, .inl 0, .inl 0])))) (s.heap.setIfInBounds q ((preparedCellV T0.toThrowableT (freshCell (D.1 5) kX) q u0 sen).setSlot T0.fStack.slot u0.v)) ([] ++ [⟨q, T0.fCause.slot⟩, ⟨q, T0.fStack.slot⟩, ⟨q, T0.fSupp.slot⟩, ⟨q, T0.fStack.slot⟩]) := by
    refine ⟨hC.gset hA.2 q _ hown5 hz.2.2.1 ⟨(RX5, TX5, 8), rfl, _, hat, rfl, rfl, fun j hj => ?_⟩ ?_ (fun x _ hx => oq x hx), ⟨by simp, fun x h1 h2 => oq x (fun z => h2 (by rw [z]; exact hown5)), fun x hx => ?_⟩, hA⟩
    · rw [e1]
      have h5 := q5 j hj
      rw [← e0, ← e2] at h5
      have e3 : ((preparedCellV T0.toThrowableT (freshCell (D.1 5) kX) q u0 sen).setSlot (D.2 5 1) u0.v) = (((((blank (D.1 5) kX).setSlot T0.fCause.slot (.ref q)).setSlot (D.2 5 1) u0.v).setSlot T0.fSupp.slot sen.v).setSlot (D.2 5 1) u0.v) := by
        show ((((freshCell (D.1 5) kX).setSlot T0.fCause.slot (.ref q)).setSlot T0.fStack.slot u0.v).setSlot T0.fSupp.slot sen.v).setSlot (D.2 5 1) u0.v = _
        rw [e1]
        rfl
      rw [e3, h5]
      have hj : j < 8 := hj
      have hj2 : j = 0 ∨ j = 1 ∨ j = 2 ∨ j = 3 ∨ j = 4 ∨ j = 5 ∨ j = 6 ∨ j = 7 := by omega
      rw [hu, hv]
      rcases hj2 with rfl | rfl | rfl | rfl | rfl | rfl | rfl | rfl <;> rfl
    · intro x hx
      simp only [List.mem_cons, List.not_mem_nil, or_false] at hx
      rcases hx with rfl | rfl | rfl | rfl | rfl | rfl | rfl | rfl <;> first | exact ni_r0 | exact trivial
    · simp only [List.nil_append, List.mem_cons, List.not_mem_nil, or_false] at hx
      rcases hx with rfl | rfl | rfl | rfl <;> exact hown5
  obtain ⟨t, a1, b1⟩ := kk u v _ _ _ rfl hIn _ hheap X₂
  refine ⟨t, st1 _ (fun acts => ?_), b1⟩
  rw [doInvoke_state]
  exact st2 _ a1
end KW
def wPre (D : va_G) (dA : Nat → ClassId) (ad : Nat → Nat) (S : St) (sz x0 : Nat) : State → Prop := fun U => sPre D dA wX ad S sz U ∧ kZ ad (wA wX ad S sz) U U.heap ∧ ∃ kX : Class, U.vm.classes[D.1 5]? = some kX ∧ U.heap[x0]? = some (blank (D.1 5) kX)
theorem wPre_blind {D : va_G} {dA : Nat → ClassId} {ad : Nat → Nat} {S : St} {sz x0 : Nat} {av : List Value} : FrameBlind (va_Pc av (wPre D dA ad S sz x0)) := by
  intro a U g mk q
  obtain ⟨q0, ⟨q1, qK, qC⟩, qZ, qX⟩ := q
  exact ⟨q0, ⟨q1, gK.calling qK, qC⟩, kZ.warm (s := U) (U := U.calling g mk a) (State.WarmedH.refl U) qZ, qX⟩
theorem t_X5_init (l : Launch) (hlt : l.stackTraces = false) (D : va_G) (dA : Nat → ClassId) (ad : Nat → Nat) (S : St) (sz : Nat) (x0 : Nat) (x1 x2 : Int) (K : St → Prop) (rx1 : InR x1) (rx2 : InR x2) (hg : gI S x0 = some (.inr (.inl (5, [.inr (.inr none), .inr (.inr none), .inr (.inr none), .inr (.inr none), .inr (.inr none), .inl 0, .inl 0, .inl 0])))) (h : ∀ u v : Option Nat, K (gset S x0 (.inr (.inl (5, [.inr (.inr (some x0)), .inr (.inr u), .inr (.inr v), .inr (.inr none), .inr (.inr none), .inl 0, .inl x1, .inl x2]))))) : Met l yX5_init (ws_ yX5_init cX5_init 3 none) (rmD 7 0 0) (va_Pc [.ref x0, iV x1, iV x2] (wPre D dA ad S sz x0)) (va_Qv (fun S' => K S') (sPost D dA wX ad (wA wX ad S sz)) (wA wX ad S sz)) 0 0 (wA wX ad S sz) := by
  refine Met.ofW (cc := cX5_init) (maxL := 3) (ret := none) (by decide) rfl ?_
  intro p e s m args below meth c s₁ B hml hv
  obtain ⟨rfl, ⟨hsz, hK, hC⟩, hZ, ⟨kX, hkX, hcell⟩⟩ := hv
  have hx := B.exec
  have hb := B.bytes
  have hr := B.returns
  have hlocks := B.notSynchronized
  have hinit := (name_of_methodNamed B.named B.method).1
  have hts := atoms_spec (ws := (ws_ yX5_init cX5_init 3 none)) B.pre
  have hts : ∀ w ∈ lw_all, w.before _ s = true := fun w h => hts w (List.mem_cons_of_mem _ h)
  have hown : s.vm.findClass RX5 = some m.cls := findClass_of_methodNamed B.named
  clear B
  subst hsz
  have hI : sI D dA wX ad (wA wX ad S s.heap.size) s.heap S s.heap [] := hC.start
  clear hC
  generalize wA wX ad S s.heap.size = A at hI hZ ⊢
  have hl := lv_entry ([.ref x0, iV x1, iV x2] : List Value) (n := 3) (Nat.le_of_ble_eq_true rfl)
  rw [lg_entry_eq]
  generalize (lg_sl ([.ref x0, iV x1, iV x2] : List Value) ++ List.replicate (3 - (lg_sl ([.ref x0, iV x1, iV x2] : List Value)).length) Slot.unset).toArray = ls at hl ⊢
  have hl : lv_has ls 3 [(0, .ref x0), (1, iV x1), (2, iV x2)] := hl
  have hF : CallFix p m c cX5_init 3 s _ lw_all RX5 := ⟨hx, hb, hml, hown, hts⟩
  have hR : (headSpec (ws_ yX5_init cX5_init 3 none) (rmD 7 0 0)).room.frames = 7 + 1 ∧ (headSpec (ws_ yX5_init cX5_init 3 none) (rmD 7 0 0)).room.locals = 64 * 7 + 64 := ⟨rfl, rfl⟩
  have hRc : (headSpec (ws_ yX5_init cX5_init 3 none) (rmD 7 0 0)).room.cells = 0 ∧ (headSpec (ws_ yX5_init cX5_init 3 none) (rmD 7 0 0)).room.slots = 0 := ⟨rfl, rfl⟩
  generalize (headSpec (ws_ yX5_init cX5_init 3 none) (rmD 7 0 0)).room = R at hR hRc ⊢
  obtain ⟨hRc, hRs⟩ := hRc
  generalize ([.ref x0, iV x1, iV x2] : List Value).toArray = args at hts hF ⊢
  generalize hQ : MQ below _ _ _ _ _ _ = Q
  refine lv_aload_n hx hb dX5_init_0 rfl (lv_at hl 0 rfl) ?_
  refine w_exc hx hb hlt hts hown hK hZ hI hg hkX hcell (hl.1.trans hml.symm) ⟨by omega, by omega⟩ dX5_init_1 (fun u v S1 H1 locs1 e1 hI => ?_)
  have hg1 : gI S1 x0 = some (.inr (.inl (5, [.inr (.inr (some x0)), .inr (.inr u), .inr (.inr v), .inr (.inr none), .inr (.inr none), .inl 0, .inl 0, .inl 0]))) := by rw [e1, gI_gset, if_pos rfl]
  refine lv_aload_n hx hb dX5_init_4 rfl (lv_at hl 0 rfl) ?_
  refine lv_iload_n hx hb dX5_init_5 rfl (lv_at hl 1 rfl) ?_
  refine s_pputF (v := .inl x1) hx hb tyX5 tyX5_ok nmX5 hts hown hK hI (by decide) hg1 rfl (show vwCl[5]? = some (RX5, TX5, 8) from rfl) in_X5 6 (by decide) q534 rfl rx1 rfl hinit rfl rfl rfl dX5_init_6 (fun S2 H2 locs2 e2 hI => ?_)
  have hg2 : gI S2 x0 = some (.inr (.inl (5, [.inr (.inr (some x0)), .inr (.inr u), .inr (.inr v), .inr (.inr none), .inr (.inr none), .inl 0, .inl x1, .inl 0]))) := by rw [e2, gI_gset, if_pos rfl]; rfl
  refine lv_aload_n hx hb dX5_init_9 rfl (lv_at hl 0 rfl) ?_
  refine lv_iload_n hx hb dX5_init_10 rfl (lv_at hl 2 rfl) ?_
  refine s_pputF (v := .inl x2) hx hb tyX5 tyX5_ok nmX5 hts hown hK hI (by decide) hg2 rfl (show vwCl[5]? = some (RX5, TX5, 8) from rfl) in_X5 7 (by decide) q536 rfl rx2 rfl hinit rfl rfl rfl dX5_init_11 (fun S3 H3 locs3 e3 hI => ?_)
  have e4 : S3 = gset S x0 (.inr (.inl (5, [.inr (.inr (some x0)), .inr (.inr u), .inr (.inr v), .inr (.inr none), .inr (.inr none), .inl 0, .inl x1, .inl x2]))) := by
    rw [e3, e2, e1]
    unfold gset
    refine Prod.ext rfl (Prod.ext rfl (Prod.ext rfl ?_))
    funext z
    by_cases hz : z = x0
    · simp [hz]
    · simp [hz]
  have h := h u v
  rw [← e4] at h
  rw [← hQ]
  exact s_vret (K := fun S' => K S') hx hb hr hlocks hI h dX5_init_14
theorem t_X3_wrong (l : Launch) (hlt : l.stackTraces = false) (D : va_G) (dA : Nat → ClassId) (ad : Nat → Nat) (S : St) (sz : Nat) (x0 : Nat) (x1 : Int) (K : Option Nat → St → Prop) (rx1 : InR x1) (mc ms : Nat) (hmc : mc = bC S) (hms : ms = bL S) (h : w_X3_wrong x0 x1 S K) : Met l yX3_wrong (ws_ yX3_wrong cX3_wrong 2 (some (Jvm.ClassFile.FieldType.object "NineGraves$Wrong"))) (rmD 8 mc ms) (va_Pc [.ref x0, iV x1] (tPre D dA ad S sz)) (va_Qq (fun r S' => K r S') (sPost D dA wX ad (wA wX ad S sz)) (wA wX ad S sz)) mc ms (wA wX ad S sz) := by
  refine Met.ofW (cc := cX3_wrong) (maxL := 2) (ret := (some (Jvm.ClassFile.FieldType.object "NineGraves$Wrong"))) (by decide) rfl ?_
  intro p e s m args below meth c s₁ B hml hv
  obtain ⟨rfl, ⟨hsz, hK, hC⟩, hZ⟩ := hv
  have hx := B.exec
  have hb := B.bytes
  have hr := B.returns
  have hlocks := B.notSynchronized
  have hinit := (name_of_methodNamed B.named B.method).1
  have hts := atoms_spec (ws := (ws_ yX3_wrong cX3_wrong 2 (some (Jvm.ClassFile.FieldType.object "NineGraves$Wrong")))) B.pre
  have hts : ∀ w ∈ lw_all, w.before _ s = true := fun w h => hts w (List.mem_cons_of_mem _ h)
  have hown : s.vm.findClass RX3 = some m.cls := findClass_of_methodNamed B.named
  clear B
  subst hsz
  have hI : sI D dA wX ad (wA wX ad S s.heap.size) s.heap S s.heap [] := hC.start
  clear hC
  generalize wA wX ad S s.heap.size = A at hI hZ ⊢
  have hl := lv_entry ([.ref x0, iV x1] : List Value) (n := 2) (Nat.le_of_ble_eq_true rfl)
  rw [lg_entry_eq]
  generalize (lg_sl ([.ref x0, iV x1] : List Value) ++ List.replicate (2 - (lg_sl ([.ref x0, iV x1] : List Value)).length) Slot.unset).toArray = ls at hl ⊢
  have hl : lv_has ls 2 [(0, .ref x0), (1, iV x1)] := hl
  have hF : CallFix p m c cX3_wrong 2 s _ lw_all RX3 := ⟨hx, hb, hml, hown, hts⟩
  have hR : (headSpec (ws_ yX3_wrong cX3_wrong 2 (some (Jvm.ClassFile.FieldType.object "NineGraves$Wrong"))) (rmD 8 mc ms)).room.frames = 8 + 1 ∧ (headSpec (ws_ yX3_wrong cX3_wrong 2 (some (Jvm.ClassFile.FieldType.object "NineGraves$Wrong"))) (rmD 8 mc ms)).room.locals = 64 * 8 + 64 := ⟨rfl, rfl⟩
  have hRc : (headSpec (ws_ yX3_wrong cX3_wrong 2 (some (Jvm.ClassFile.FieldType.object "NineGraves$Wrong"))) (rmD 8 mc ms)).room.cells = mc ∧ (headSpec (ws_ yX3_wrong cX3_wrong 2 (some (Jvm.ClassFile.FieldType.object "NineGraves$Wrong"))) (rmD 8 mc ms)).room.slots = ms := ⟨rfl, rfl⟩
  generalize (headSpec (ws_ yX3_wrong cX3_wrong 2 (some (Jvm.ClassFile.FieldType.object "NineGraves$Wrong"))) (rmD 8 mc ms)).room = R at hR hRc ⊢
  obtain ⟨hRc, hRs⟩ := hRc
  generalize ([.ref x0, iV x1] : List Value).toArray = args at hts hF ⊢
  have hcs : bOK R S 0 0 := ⟨by omega, by omega⟩
  generalize hQ : MQ below _ _ _ _ _ _ = Q
  obtain ⟨fs, tok, hg, hv, hbd, h⟩ := h
  refine t_new (C := RX5) (T := TX5) (ci := 5) hx hb tyX5 tyX5_ok hts hown hK hI hcs rfl in_X5 q490 q491 q122 ([.inr (.inr none), .inr (.inr none), .inr (.inr none), .inr (.inr none), .inr (.inr none), .inl 0, .inl 0, .inl 0] : List PV) (by
    intro j hj
    have hj2 : j = 0 ∨ j = 1 ∨ j = 2 ∨ j = 3 ∨ j = 4 ∨ j = 5 ∨ j = 6 ∨ j = 7 := by omega
    rcases hj2 with rfl | rfl | rfl | rfl | rfl | rfl | rfl | rfl <;> rfl) (by
    intro x hx
    simp only [List.mem_cons, List.not_mem_nil, or_false] at hx
    rcases hx with rfl | rfl | rfl | rfl | rfl | rfl | rfl | rfl <;> first | exact ni_r0 | exact trivial) hbd dX3_wrong_0 (fun q S1 H1 c1 s1 hq e1 hbl hI hcs => ?_)
  obtain ⟨kX, hkX, hcell⟩ := hbl
  have hne : x0 ≠ q := by
    intro z
    rw [z, hq] at hg
    cases hg
  have hg1 : gI S1 x0 = some (.inr (.inl (3, fs))) := by rw [e1, gI_bset, gI_gset, if_neg hne]; exact hg
  have hgq : gI S1 q = some (.inr (.inl (5, [.inr (.inr none), .inr (.inr none), .inr (.inr none), .inr (.inr none), .inr (.inr none), .inl 0, .inl 0, .inl 0]))) := by rw [e1, gI_bset, gI_gset, if_pos rfl]
  refine lv_dup hx hb dX3_wrong_3 rfl ?_
  refine lv_iload_n hx hb dX3_wrong_4 rfl (lv_at hl 1 rfl) ?_
  refine lv_aload_n hx hb dX3_wrong_5 rfl (lv_at hl 0 rfl) ?_
  refine s_pgi hx hb hts hown hK hI hg1 (show vwCl[3]? = some (RX3, TX3, 8) from rfl) in_X3 3 (by decide) q333 rfl hv dX3_wrong_6 (fun rtok => ?_)
  have hcs0 := cs0 hcs
  have hkeep := hI.2.1.2.1
  refine va_callv (va_runI (As := [iV x1, iV tok]) (rest := [.ref q]) hF (t_X5_init l hlt D dA ad S1 H1.size q x1 tok (fun S' => ∃ u v : Option Nat, S' = gset S1 q (.inr (.inl (5, [.inr (.inr (some q)), .inr (.inr u), .inr (.inr v), .inr (.inr none), .inr (.inr none), .inl 0, .inl x1, .inl tok])))) rx1 rtok hgq (fun u v => ⟨u, v, rfl⟩)) (cwI 2 hts (lw_meth q529) rfl rfl rfl (hts _ q122) (hts _ q527) (hts _ q528) rfl (by decide +kernel) ⟨by have h1 := hR.1; have h2 : (rmD 7 0 0).frames = 8 := rfl; omega, by have h1 := hR.2; have h2 : (rmD 7 0 0).locals = 512 := rfl; omega⟩) ⟨wPre_blind, fun U hU hW => ⟨rfl, ⟨by rw [hU], hK.warm hW, by rw [hU]; exact hI.1.self⟩, by rw [hU]; exact ((hZ.kept hkeep).warm hW).narrow hI.sub, (by
    obtain ⟨k9, h9, h8⟩ := hW.alike.2.2 _ _ hkX
    refine ⟨k9, h9, ?_⟩
    rw [hU, hcell]
    exact congrArg some (by unfold blank; rw [h8]))⟩⟩ rfl rfl hl.1 rfl (lv_room (Nat.le_of_ble_eq_true rfl)) dX3_wrong_9 ⟨by omega, by omega⟩) hI.2.1 (fun q _ h => hI.sub q h) (fun q h => hI.sub q h) (fun S2 t H2 locs2 ht hvm hp hB hz hk1 hS2 => ?_)
  have hB' : sC D dA wX ad (wA wX ad S1 H1.size) S2 t.heap := hB
  rw [ht] at hB'
  have hI2 := hI.after hS2 hB'
  obtain ⟨u, v, e2⟩ := hp
  have e4 : S2 = bset (gset S q (.inr (.inl (5, [.inr (.inr (some q)), .inr (.inr u), .inr (.inr v), .inr (.inr none), .inr (.inr none), .inl 0, .inl x1, .inl tok])))) (fI S 200 - 1) (fI S 201 - 8) := by
    rw [e2, e1]
    unfold gset bset fset
    refine Prod.ext rfl (Prod.ext rfl (Prod.ext rfl ?_))
    funext z
    by_cases hz : z = q
    · simp [hz]
    · simp [hz]
  have h := h q u v S2 hq e4
  have hc9 := hcs.1
  have hs9 := hcs.2
  rw [← hQ]
  exact W.widen (k := mc) (n := ms) (by omega) (by omega) (s_qret (v := some q) (K := fun r S' => K r S') hx hb hr (Or.inl ⟨_, rfl⟩) hlocks hI2 h dX3_wrong_12)
