section SROWS6
variable {p : Program} {l : Launch} {e : Env} {R : Room} {s : State} {m : MethodId} {args : Array Value} {below : List Frame} {meth : Method} {c : Code} {H : Heap} {locs : List Loc} {cells slots : Nat} {Q : State → Prop}
variable {cc : ByteArray} {pc : Nat} {ls : Array Slot} {rest : List Value} {D : va_G} {dA : Nat → ClassId} {w : Wd} {ad : Nat → Nat} {A : Nat → Prop} {H0 : Heap} {S : St}
theorem s_pputS (hexec : p.tables.exec = Jvm.exec) (hb : c.code = cc) {own ref C : String} {T : u_T} {n ci index q : Nat} {fs : List PV} (ty0 : Nat → FieldType) (hty : ∀ k, k < n → parseFieldDescriptor (T k).2.2.1 = some (ty0 k)) (hnm : ∀ a, a < n → ∀ b, b < n → a ≠ b → (T a).2.1 ≠ (T b).2.1) (hts : ∀ w ∈ lw_all, w.before args s = true) (hown : s.vm.findClass own = some m.cls) (hK : gK D dA s) (hI : sI D dA w ad A H0 S H locs) (h15 : ci ≠ 15) (hg : gI S q = some (.inr (.inl (ci, fs)))) (hlen : fs.length = n) (hc : vwCl[ci]? = some (C, T, n)) (hin : ∀ x ∈ u_ws C T n, x ∈ lw_all) (i : Nat) (hi : i < n) (hlink : Cond.fieldLink own index ref (T i).2.1 (T i).2.2.1 ∈ lw_all) (hsame : ∀ x, s.fieldFound? (T i).1 (T i).2.1 (T i).2.2.1 = some x → s.fieldFound? ref (T i).2.1 (T i).2.2.1 = some x) {v : PV} (hv : pvP v) (hfin : (T i).2.2.2 = false) (hn : narrow (ty0 i) (pV v) = pV v) (hfit : fits (ty0 i) (pV v) = true) (hdg : decode cc pc = .ok (.putfield index, 3))
    (kk : ∀ (S1 : St) (H1 : Heap) (locs1 : List Loc), S1 = gset S q (.inr (.inl (ci, fs.set i v))) → sI D dA w ad A H0 S1 H1 locs1 → W p l e R s m args below meth c H1 locs1 cells slots Q (F0 m (pc + 3) ls (rest))) : W p l e R s m args below meth c H locs cells slots Q (F0 m (pc) ls (pV v :: .ref q :: rest)) := by
  have hq1 := hI.ownO hg h15
  obtain ⟨hC, hS, hA⟩ := hI
  have hobj : va_at D vwCl (q, .inr (ci, fs.map pV)) H := s_pobj ⟨hC, hS, hA⟩ hg h15
  obtain ⟨hq0, -, hq2, hq3⟩ := hC.2.2.2.2.1 q _ hg
  obtain ⟨r, h1, cell, q1, q2, q3, q4⟩ := hobj
  have hr : r = (C, T, n) := Option.some.inj (h1.symm.trans hc)
  subst hr
  have hap := va_apart (own := own) hts hin ty0 hty hnm hK.1 hc
  obtain ⟨hS1, hfc, kC, hkC, hkind⟩ := hK.1.1 ci _ hc
  obtain ⟨cf, kf, fi, f, hi2, hsl⟩ := hS1 i hi
  have hlay := hts _ (hin _ (u_in_lay hi))
  unfold u_lay at hlay
  rw [if_neg (by rw [hfin]; decide)] at hlay
  have hst := (u_facts hfc hkC (u_lays hts hin hi) hi2).1
  have h6 := u_store hfc hkC hkind hlay hi2 (hty i hi) hn hfit
  refine W.putK hexec hb (f := f) ⟨hown, hts _ hlink, ⟨_, _, _, hsame _ hi2⟩, hst⟩ (by rw [q2]; exact h6) q1 q3 (by rw [hsl]; exact k2_hasslot (q4 i hi)) rfl rfl hdg fun H' e1 e2 e3 => ?_
  rw [hsl] at e1 ⊢
  refine kk _ H' _ rfl ⟨?_, hS.put e2 e3 hq1, hA⟩
  refine hC.gset hA.2 q _ hq1 hq2 ?_ ?_ (fun a _ ha => e3 a ha)
  · show va_at D vwCl (q, .inr (ci, (fs.set i v).map pV)) H'
    refine ⟨_, hc, t_OB.to (V := updV (vp_V (fs.map pV)) i (pV v)) ⟨_, e1, q2, q3, t_set q4 hap hi _⟩ (fun j hj => ?_)⟩
    unfold updV vp_V
    rw [List.getD_eq_getElem?_getD, List.getD_eq_getElem?_getD, List.getElem?_map, List.getElem?_map, List.getElem?_set]
    by_cases hji : j = i
    · rw [if_pos hji, if_pos hji.symm, if_pos (by omega)]
      rfl
    · rw [if_neg hji, if_neg (fun z => hji z.symm)]
  · show ∀ x ∈ fs.set i v, pvP x
    intro x hx
    rcases List.mem_or_eq_of_mem_set hx with h | h
    · exact hq3 x h
    · rw [h]; exact hv
theorem s_pgiS (hexec : p.tables.exec = Jvm.exec) (hb : c.code = cc) {own ref C : String} {T : u_T} {n ci index : Nat} {fs : List PV} (hts : ∀ w ∈ lw_all, w.before args s = true) (hown : s.vm.findClass own = some m.cls) (hK : gK D dA s) (hI : sI D dA w ad A H0 S H locs) {q : Nat} (hg : gI S q = some (.inr (.inl (ci, fs)))) (hc : vwCl[ci]? = some (C, T, n)) (hin : ∀ x ∈ u_ws C T n, x ∈ lw_all) (i : Nat) (hi : i < n) (hlink : Cond.fieldLink own index ref (T i).2.1 (T i).2.2.1 ∈ lw_all) (hsame : ∀ x, s.fieldFound? (T i).1 (T i).2.1 (T i).2.2.1 = some x → s.fieldFound? ref (T i).2.1 (T i).2.2.1 = some x) {v : Int} (hv : fs[i]? = some (.inl v)) (hdg : decode cc pc = .ok (.getfield index, 3)) (kk : InR v → W p l e R s m args below meth c H locs cells slots Q (F0 m (pc + 3) ls (iV v :: rest))) : W p l e R s m args below meth c H locs cells slots Q (F0 m (pc) ls (.ref q :: rest)) :=
  k_get hexec hb hts hown hK (s_pkat hI hg) hc hin i hi (hts _ hlink) hsame (s_pfld hv) hdg (kk (s_pnrm hI hg hv))
theorem bOK.to {R : Room} {S S' : St} {cells slots : Nat} (h : bOK R S cells slots) (e : bC S' = bC S ∧ bL S' = bL S) : bOK R S' cells slots := by
  unfold bOK
  rw [e.1, e.2]
  exact h
theorem g_catch {q : Nat} (hown : s.vm.findClass RX0 = some m.cls) (hts : ∀ w ∈ lw_all, w.before args s = true) (hK : gK D dA s) (hI : sI D dA wX ad A H0 S H locs) (hT : c.exceptionTable.toList = tableOf [(30, 62, 70, 140), (30, 62, 96, 0), (70, 89, 96, 0), (96, 98, 96, 0)]) (hg : ∃ fs : List PV, gI S q = some (.inr (.inl (5, fs)))) (kk : W p l e R s m args below meth c H locs cells slots Q (F0 m 70 ls [.ref q])) : vz_W p l e R s m args below meth c H locs cells slots Q (F0 m 58 ls rest) q := by
  obtain ⟨fs, hg⟩ := hg
  obtain ⟨r, h1, cell, q1, q2, q3, q4⟩ := s_pobj hI hg (by decide)
  exact vz_catch (E := RX5) (ce := cell) (name := RX5) (own := RX0) hown [] ⟨30, 62, 70, 140⟩ [⟨30, 62, 96, 0⟩, ⟨70, 89, 96, 0⟩, ⟨96, 98, 96, 0⟩] (by rw [hT]; rfl) (fun z hz => nomatch hz) (by decide) (by decide) (hts _ q323) (va_Nw.use rfl (nCs_16 hK.2)) q1 q3 (by rw [q2]; exact (hK.1.1 5 _ rfl).2.1) kk
end SROWS6
