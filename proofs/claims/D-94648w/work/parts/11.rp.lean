/-! ROWS: objects of the pool: a field written -/
section SROWS5
variable {p : Program} {l : Launch} {e : Env} {R : Room} {s : State} {m : MethodId} {args : Array Value} {below : List Frame} {meth : Method} {c : Code} {H : Heap} {locs : List Loc} {cells slots : Nat} {Q : State → Prop}
variable {cc : ByteArray} {pc : Nat} {ls : Array Slot} {rest : List Value} {D : va_G} {dA : Nat → ClassId} {w : Wd} {ad : Nat → Nat} {A : Nat → Prop} {H0 : Heap} {S : St}

theorem s_pput (hexec : p.tables.exec = Jvm.exec) (hb : c.code = cc) {own ref C : String} {T : u_T} {n ci index q : Nat} {fs : List PV} (ty0 : Nat → FieldType) (hty : ∀ k, k < n → parseFieldDescriptor (T k).2.2.1 = some (ty0 k)) (hnm : ∀ a, a < n → ∀ b, b < n → a ≠ b → (T a).2.1 ≠ (T b).2.1) (hts : ∀ w ∈ lw_all, w.before args s = true) (hown : s.vm.findClass own = some m.cls) (hK : gK D dA s) (hI : sI D dA w ad A H0 S H locs) (h15 : ci ≠ 15) (hg : gI S q = some (.inr (.inl (ci, fs)))) (hlen : fs.length = n) (hc : vwCl[ci]? = some (C, T, n)) (hin : ∀ x ∈ u_ws C T n, x ∈ lw_all) (i : Nat) (hi : i < n) (hlink : Cond.fieldLink own index ref (T i).2.1 (T i).2.2.1 ∈ lw_all) (href : ref = (T i).1) {v : PV} (hv : pvP v) (hfin : (T i).2.2.2 = false) (hn : narrow (ty0 i) (pV v) = pV v) (hfit : fits (ty0 i) (pV v) = true) (hdg : decode cc pc = .ok (.putfield index, 3))
    (kk : ∀ (S1 : St) (H1 : Heap) (locs1 : List Loc), S1 = gset S q (.inr (.inl (ci, fs.set i v))) → sI D dA w ad A H0 S1 H1 locs1 → W p l e R s m args below meth c H1 locs1 cells slots Q (F0 m (pc + 3) ls (rest))) : W p l e R s m args below meth c H locs cells slots Q (F0 m (pc) ls (pV v :: .ref q :: rest)) := by
  subst href
  have hq1 := hI.ownO hg h15
  obtain ⟨hC, hS, hA⟩ := hI
  have hobj : va_at D vwCl (q, .inr (ci, fs.map pV)) H := s_pobj ⟨hC, hS, hA⟩ hg h15
  obtain ⟨hq0, -, hq2, hq3⟩ := hC.2.2.2.2.1 q _ hg
  obtain ⟨r, h1, cell, q1, q2, q3, q4⟩ := hobj
  have hr : r = (C, T, n) := Option.some.inj (h1.symm.trans hc)
  subst hr
  have hap := va_apart (own := own) hts hin ty0 hty hnm hK.1 hc
  obtain ⟨hS1, hfc, kC, hkC, hkind⟩ := hK.1.1 ci _ hc
  obtain ⟨cf, kf, fi, f, hi2, hsl⟩ := hS1 i hi
  have hlay := hts _ (hin _ (u_in_lay hi))
  unfold u_lay at hlay
  rw [if_neg (by rw [hfin]; decide)] at hlay
  have hst := (u_facts hfc hkC (u_lays hts hin hi) hi2).1
  have h6 := u_store hfc hkC hkind hlay hi2 (hty i hi) hn hfit
  refine W.putK hexec hb (f := f) ⟨hown, hts _ hlink, ⟨_, _, _, hi2⟩, hst⟩ (by rw [q2]; exact h6) q1 q3 (by rw [hsl]; exact k2_hasslot (q4 i hi)) rfl rfl hdg fun H' e1 e2 e3 => ?_
  rw [hsl] at e1 ⊢
  refine kk _ H' _ rfl ⟨?_, hS.put e2 e3 hq1, hA⟩
  refine hC.gset hA.2 q _ hq1 hq2 ?_ ?_ (fun a _ ha => e3 a ha)
  · show va_at D vwCl (q, .inr (ci, (fs.set i v).map pV)) H'
    refine ⟨_, hc, t_OB.to (V := updV (vp_V (fs.map pV)) i (pV v)) ⟨_, e1, q2, q3, t_set q4 hap hi _⟩ (fun j hj => ?_)⟩
    unfold updV vp_V
    rw [List.getD_eq_getElem?_getD, List.getD_eq_getElem?_getD, List.getElem?_map, List.getElem?_map, List.getElem?_set]
    by_cases hji : j = i
    · rw [if_pos hji, if_pos hji.symm, if_pos (by omega)]
      rfl
    · rw [if_neg hji, if_neg (fun z => hji z.symm)]
  · show ∀ x ∈ fs.set i v, pvP x
    intro x hx
    rcases List.mem_or_eq_of_mem_set hx with h | h
    · exact hq3 x h
    · rw [h]; exact hv
theorem s_pputF (hexec : p.tables.exec = Jvm.exec) (hb : c.code = cc) {own ref C : String} {T : u_T} {n ci index q : Nat} {fs : List PV} (ty0 : Nat → FieldType) (hty : ∀ k, k < n → parseFieldDescriptor (T k).2.2.1 = some (ty0 k)) (hnm : ∀ a, a < n → ∀ b, b < n → a ≠ b → (T a).2.1 ≠ (T b).2.1) (hts : ∀ w ∈ lw_all, w.before args s = true) (hown : s.vm.findClass own = some m.cls) (hK : gK D dA s) (hI : sI D dA w ad A H0 S H locs) (h15 : ci ≠ 15) (hg : gI S q = some (.inr (.inl (ci, fs)))) (hlen : fs.length = n) (hc : vwCl[ci]? = some (C, T, n)) (hin : ∀ x ∈ u_ws C T n, x ∈ lw_all) (i : Nat) (hi : i < n) (hlink : Cond.fieldLink own index ref (T i).2.1 (T i).2.2.1 ∈ lw_all) (href : ref = (T i).1) {v : PV} (hv : pvP v) (hfin : (T i).2.2.2 = true) (hin2 : meth.name = "<init>") (hdecl : (T i).1 = own) (hn : narrow (ty0 i) (pV v) = pV v) (hfit : fits (ty0 i) (pV v) = true) (hdg : decode cc pc = .ok (.putfield index, 3))
    (kk : ∀ (S1 : St) (H1 : Heap) (locs1 : List Loc), S1 = gset S q (.inr (.inl (ci, fs.set i v))) → sI D dA w ad A H0 S1 H1 locs1 → W p l e R s m args below meth c H1 locs1 cells slots Q (F0 m (pc + 3) ls (rest))) : W p l e R s m args below meth c H locs cells slots Q (F0 m (pc) ls (pV v :: .ref q :: rest)) := by
  subst href
  have hq1 := hI.ownO hg h15
  obtain ⟨hC, hS, hA⟩ := hI
  have hobj : va_at D vwCl (q, .inr (ci, fs.map pV)) H := s_pobj ⟨hC, hS, hA⟩ hg h15
  obtain ⟨hq0, -, hq2, hq3⟩ := hC.2.2.2.2.1 q _ hg
  obtain ⟨r, h1, cell, q1, q2, q3, q4⟩ := hobj
  have hr : r = (C, T, n) := Option.some.inj (h1.symm.trans hc)
  subst hr
  have hap := va_apart (own := own) hts hin ty0 hty hnm hK.1 hc
  obtain ⟨hS1, hfc, kC, hkC, hkind⟩ := hK.1.1 ci _ hc
  obtain ⟨cf, kf, fi, f, hi2, hsl⟩ := hS1 i hi
  have hlay := hts _ (hin _ (u_in_lay hi))
  unfold u_lay at hlay
  rw [if_pos hfin] at hlay
  have hst := (u_facts hfc hkC (u_lays hts hin hi) hi2).1
  have hcf : m.cls = cf := by
    obtain ⟨_, _, c', _, _, _, -, -, hf', -, -, -, hown2, -⟩ := Cond.laysFinal_spec hlay
    have e1 : c' = cf := by have := hi2.symm.trans hf'; simp at this; exact this.1.symm
    rw [hdecl] at hown2
    rw [← e1]; exact Option.some.inj (hown.symm.trans hown2)
  have h6 := u_fits hfc hkC hkind (Or.inr hlay) hi2 (hty i hi) hn hfit
  refine W.putFinK hexec hb hown (hts _ hlink) hi2 hst hcf hin2 (by rw [q2]; exact h6) q1 q3 (by rw [hsl]; exact k2_hasslot (q4 i hi)) rfl rfl hdg fun H' e1 e2 e3 => ?_
  rw [hsl] at e1 ⊢
  refine kk _ H' _ rfl ⟨?_, hS.put e2 e3 hq1, hA⟩
  refine hC.gset hA.2 q _ hq1 hq2 ?_ ?_ (fun a _ ha => e3 a ha)
  · show va_at D vwCl (q, .inr (ci, (fs.set i v).map pV)) H'
    refine ⟨_, hc, t_OB.to (V := updV (vp_V (fs.map pV)) i (pV v)) ⟨_, e1, q2, q3, t_set q4 hap hi _⟩ (fun j hj => ?_)⟩
    unfold updV vp_V
    rw [List.getD_eq_getElem?_getD, List.getD_eq_getElem?_getD, List.getElem?_map, List.getElem?_map, List.getElem?_set]
    by_cases hji : j = i
    · rw [if_pos hji, if_pos hji.symm, if_pos (by omega)]
      rfl
    · rw [if_neg hji, if_neg (fun z => hji z.symm)]
  · show ∀ x ∈ fs.set i v, pvP x
    intro x hx
    rcases List.mem_or_eq_of_mem_set hx with h | h
    · exact hq3 x h
    · rw [h]; exact hv
theorem s_pputN (hexec : p.tables.exec = Jvm.exec) (hb : c.code = cc) {own ref C host : String} {T : u_T} {n ci index q : Nat} {fs : List PV} (ty0 : Nat → FieldType) (hty : ∀ k, k < n → parseFieldDescriptor (T k).2.2.1 = some (ty0 k)) (hnm : ∀ a, a < n → ∀ b, b < n → a ≠ b → (T a).2.1 ≠ (T b).2.1) (hts : ∀ w ∈ lw_all, w.before args s = true) (hown : s.vm.findClass own = some m.cls) (hK : gK D dA s) (hI : sI D dA w ad A H0 S H locs) (h15 : ci ≠ 15) (hg : gI S q = some (.inr (.inl (ci, fs)))) (hlen : fs.length = n) (hc : vwCl[ci]? = some (C, T, n)) (hin : ∀ x ∈ u_ws C T n, x ∈ lw_all) (i : Nat) (hi : i < n) (hlink : va_Nw (Cond.fieldLinkNest own index ref (T i).2.1 (T i).2.2.1 host) s) (href : ref = (T i).1) {v : PV} (hv : pvP v) (hfin : (T i).2.2.2 = false) (hn : narrow (ty0 i) (pV v) = pV v) (hfit : fits (ty0 i) (pV v) = true) (hdg : decode cc pc = .ok (.putfield index, 3))
    (kk : ∀ (S1 : St) (H1 : Heap) (locs1 : List Loc), S1 = gset S q (.inr (.inl (ci, fs.set i v))) → sI D dA w ad A H0 S1 H1 locs1 → W p l e R s m args below meth c H1 locs1 cells slots Q (F0 m (pc + 3) ls (rest))) : W p l e R s m args below meth c H locs cells slots Q (F0 m (pc) ls (pV v :: .ref q :: rest)) := by
  subst href
  have hq1 := hI.ownO hg h15
  obtain ⟨hC, hS, hA⟩ := hI
  have hobj : va_at D vwCl (q, .inr (ci, fs.map pV)) H := s_pobj ⟨hC, hS, hA⟩ hg h15
  obtain ⟨hq0, -, hq2, hq3⟩ := hC.2.2.2.2.1 q _ hg
  obtain ⟨r, h1, cell, q1, q2, q3, q4⟩ := hobj
  have hr : r = (C, T, n) := Option.some.inj (h1.symm.trans hc)
  subst hr
  have hap := va_apart (own := own) hts hin ty0 hty hnm hK.1 hc
  obtain ⟨hS1, hfc, kC, hkC, hkind⟩ := hK.1.1 ci _ hc
  obtain ⟨cf, kf, fi, f, hi2, hsl⟩ := hS1 i hi
  have hlay := hts _ (hin _ (u_in_lay hi))
  unfold u_lay at hlay
  rw [if_neg (by rw [hfin]; decide)] at hlay
  have hst := (u_facts hfc hkC (u_lays hts hin hi) hi2).1
  have h6 := u_store hfc hkC hkind hlay hi2 (hty i hi) hn hfit
  refine va_WputK hexec hb (f := f) hown (va_Nw.use rfl hlink) hi2 hst (by rw [q2]; exact h6) q1 q3 (by rw [hsl]; exact k2_hasslot (q4 i hi)) rfl rfl hdg fun H' e1 e2 e3 => ?_
  rw [hsl] at e1 ⊢
  refine kk _ H' _ rfl ⟨?_, hS.put e2 e3 hq1, hA⟩
  refine hC.gset hA.2 q _ hq1 hq2 ?_ ?_ (fun a _ ha => e3 a ha)
  · show va_at D vwCl (q, .inr (ci, (fs.set i v).map pV)) H'
    refine ⟨_, hc, t_OB.to (V := updV (vp_V (fs.map pV)) i (pV v)) ⟨_, e1, q2, q3, t_set q4 hap hi _⟩ (fun j hj => ?_)⟩
    unfold updV vp_V
    rw [List.getD_eq_getElem?_getD, List.getD_eq_getElem?_getD, List.getElem?_map, List.getElem?_map, List.getElem?_set]
    by_cases hji : j = i
    · rw [if_pos hji, if_pos hji.symm, if_pos (by omega)]
      rfl
    · rw [if_neg hji, if_neg (fun z => hji z.symm)]
  · show ∀ x ∈ fs.set i v, pvP x
    intro x hx
    rcases List.mem_or_eq_of_mem_set hx with h | h
    · exact hq3 x h
    · rw [h]; exact hv
end SROWS5
