section SROWS3
variable {p : Program} {l : Launch} {e : Env} {R : Room} {s : State} {m : MethodId} {args : Array Value} {below : List Frame} {meth : Method} {c : Code} {H : Heap} {locs : List Loc} {cells slots : Nat} {Q : State → Prop}
variable {cc : ByteArray} {pc : Nat} {ls : Array Slot} {rest : List Value} {D : va_G} {dA : Nat → ClassId} {w : Wd} {ad : Nat → Nat} {A : Nat → Prop} {H0 : Heap} {S : St}
theorem lw_F {own : String} {idx : Nat} {C : String} {x y : MethodName} {b : ByteArray} {L : Nat} {r : Option FieldType} (h1 : Cond.methodLink own idx x ∈ lw_all) (h2 : Cond.selects C x y ∈ lw_all) (h3 : Cond.instanceMethod y ∈ lw_all) (h4 : Cond.initialized y.cls ∈ lw_all) (h5 : Cond.code y b L r ∈ lw_all) : GoodIn lw_all (va_wsF own idx C x y (ws_ y b L r)) := by
  refine lw_app ?_ (lw_meth h5)
  intro w hw
  simp only [List.mem_cons, List.not_mem_nil, or_false] at hw
  rcases hw with e | e | e | e
  · rw [e]; exact h1
  · rw [e]; exact h2
  · rw [e]; exact h3
  · rw [e]; exact h4
def isSum (S : St) (q : Nat) : Prop := (∃ fs : List PV, gI S q = some (.inr (.inl (7, fs)))) ∨ (∃ fs : List PV, gI S q = some (.inr (.inl (8, fs)))) ∨ (∃ fs : List PV, gI S q = some (.inr (.inl (9, fs)))) ∨ ∃ fs : List PV, gI S q = some (.inr (.inl (6, fs)))
def isAsked (S : St) (q : Nat) : Prop := (∃ fs : List PV, gI S q = some (.inr (.inl (11, fs)))) ∨ (∃ fs : List PV, gI S q = some (.inr (.inl (10, fs)))) ∨ ∃ fs : List PV, gI S q = some (.inr (.inl (12, fs)))
theorem k_get (hexec : p.tables.exec = Jvm.exec) (hb : c.code = cc) {own ref C : String} {T : u_T} {n ci index q : Nat} {fs : List Value} (hts : ∀ w ∈ lw_all, w.before args s = true) (hown : s.vm.findClass own = some m.cls) (hK : gK D dA s) (h : kat D (q, .inr (ci, fs)) H) (hc : vwCl[ci]? = some (C, T, n)) (hin : ∀ x ∈ u_ws C T n, x ∈ lw_all) (i : Nat) (hi : i < n) (hlink : (Cond.fieldLink own index ref (T i).2.1 (T i).2.2.1).before args s = true) (hsame : ∀ x, s.fieldFound? (T i).1 (T i).2.1 (T i).2.2.1 = some x → s.fieldFound? ref (T i).2.1 (T i).2.2.1 = some x) {v : Value} (hv : fs[i]? = some v) (hdg : decode cc pc = .ok (.getfield index, 3)) (kk : W p l e R s m args below meth c H locs cells slots Q (F0 m (pc + 3) ls (v :: rest))) : W p l e R s m args below meth c H locs cells slots Q (F0 m pc ls (.ref q :: rest)) := by
  obtain ⟨cell, q1, q3, -, r, h1, q2, q4⟩ := h
  have hr : r = (C, T, n) := Option.some.inj (h1.symm.trans hc)
  subst hr
  obtain ⟨hS, hfc, kC, hkC, hkind⟩ := hK.1.1 ci _ hc
  obtain ⟨cf, kf, fi, f, hi2, hsl⟩ := hS i hi
  refine W.getf hexec hb hown hlink (hsame _ hi2) (u_facts hfc hkC (u_lays hts hin hi) hi2).1 q1 q3 (v := v) ?_ rfl rfl hdg kk
  rw [hsl, q4 i hi]
  simp [vp_V, hv]
theorem k_getN (hexec : p.tables.exec = Jvm.exec) (hb : c.code = cc) {own ref C host : String} {T : u_T} {n ci index q : Nat} {fs : List Value} (hts : ∀ w ∈ lw_all, w.before args s = true) (hown : s.vm.findClass own = some m.cls) (hK : gK D dA s) (h : kat D (q, .inr (ci, fs)) H) (hc : vwCl[ci]? = some (C, T, n)) (hin : ∀ x ∈ u_ws C T n, x ∈ lw_all) (i : Nat) (hi : i < n) (hlink : (Cond.fieldLinkNest own index ref (T i).2.1 (T i).2.2.1 host).before args s = true) (hsame : ∀ x, s.fieldFound? (T i).1 (T i).2.1 (T i).2.2.1 = some x → s.fieldFound? ref (T i).2.1 (T i).2.2.1 = some x) {v : Value} (hv : fs[i]? = some v) (hdg : decode cc pc = .ok (.getfield index, 3)) (kk : W p l e R s m args below meth c H locs cells slots Q (F0 m (pc + 3) ls (v :: rest))) : W p l e R s m args below meth c H locs cells slots Q (F0 m pc ls (.ref q :: rest)) := by
  obtain ⟨cell, q1, q3, -, r, h1, q2, q4⟩ := h
  have hr : r = (C, T, n) := Option.some.inj (h1.symm.trans hc)
  subst hr
  obtain ⟨hS, hfc, kC, hkC, hkind⟩ := hK.1.1 ci _ hc
  obtain ⟨cf, kf, fi, f, hi2, hsl⟩ := hS i hi
  refine va_Wgetf hexec hb hown hlink (hsame _ hi2) (u_facts hfc hkC (u_lays hts hin hi) hi2).1 q1 q3 (v := v) ?_ rfl rfl hdg kk
  rw [hsl, q4 i hi]
  simp [vp_V, hv]
theorem s_pkat {ci q : Nat} {fs : List PV} (hI : sI D dA w ad A H0 S H locs) (hg : gI S q = some (.inr (.inl (ci, fs)))) : kat D (q, .inr (ci, fs.map pV)) H := s_poolK hI hg
theorem s_pobj {ci q : Nat} {fs : List PV} (hI : sI D dA w ad A H0 S H locs) (hg : gI S q = some (.inr (.inl (ci, fs)))) (h15 : ci ≠ 15) : va_at D vwCl (q, .inr (ci, fs.map pV)) H := s_poolO hI hg h15
theorem s_pfld {fs : List PV} {i : Nat} {v : PV} (h : fs[i]? = some v) : (fs.map pV)[i]? = some (pV v) := by rw [List.getElem?_map, h]; rfl
theorem s_pnrm {ci q : Nat} {fs : List PV} (hI : sI D dA w ad A H0 S H locs) (hg : gI S q = some (.inr (.inl (ci, fs)))) {i : Nat} {v : PV} (h : fs[i]? = some v) : pvP v := (hI.1.2.2.2.2.1 q _ hg).2.2.2 v (List.mem_of_getElem? h)
theorem s_recvP {ci n q : Nat} {fs : List PV} {C : String} {T : u_T} (hK : gK D dA s) (hI : sI D dA w ad A H0 S H locs) (hg : gI S q = some (.inr (.inl (ci, fs)))) (hc : vwCl[ci]? = some (C, T, n)) : ∃ cell : Cell, H[q]? = some cell ∧ cell.vm.isStatics = false ∧ s.vm.findClass C = some cell.cls := by
  obtain ⟨cell, q1, -, q3, r, h1, q2, -⟩ := s_pkat hI hg
  exact ⟨cell, q1, q3, by rw [q2]; exact (hK.1.1 ci _ hc).2.1⟩
theorem s_pgi (hexec : p.tables.exec = Jvm.exec) (hb : c.code = cc) {own ref C : String} {T : u_T} {n ci index : Nat} {fs : List PV} (hts : ∀ w ∈ lw_all, w.before args s = true) (hown : s.vm.findClass own = some m.cls) (hK : gK D dA s) (hI : sI D dA w ad A H0 S H locs) {q : Nat} (hg : gI S q = some (.inr (.inl (ci, fs)))) (hc : vwCl[ci]? = some (C, T, n)) (hin : ∀ x ∈ u_ws C T n, x ∈ lw_all) (i : Nat) (hi : i < n) (hlink : Cond.fieldLink own index ref (T i).2.1 (T i).2.2.1 ∈ lw_all) (href : ref = (T i).1) {v : Int} (hv : fs[i]? = some (.inl v)) (hdg : decode cc pc = .ok (.getfield index, 3)) (kk : InR v → W p l e R s m args below meth c H locs cells slots Q (F0 m (pc + 3) ls (iV v :: rest))) : W p l e R s m args below meth c H locs cells slots Q (F0 m (pc) ls (.ref q :: rest)) := by
  subst href
  exact k_get hexec hb hts hown hK (s_pkat hI hg) hc hin i hi (hts _ hlink) (fun x hx => hx) (s_pfld hv) hdg (kk (s_pnrm hI hg hv))
theorem s_pgr (hexec : p.tables.exec = Jvm.exec) (hb : c.code = cc) {own ref C : String} {T : u_T} {n ci index : Nat} {fs : List PV} (hts : ∀ w ∈ lw_all, w.before args s = true) (hown : s.vm.findClass own = some m.cls) (hK : gK D dA s) (hI : sI D dA w ad A H0 S H locs) {q : Nat} (hg : gI S q = some (.inr (.inl (ci, fs)))) (hc : vwCl[ci]? = some (C, T, n)) (hin : ∀ x ∈ u_ws C T n, x ∈ lw_all) (i : Nat) (hi : i < n) (hlink : Cond.fieldLink own index ref (T i).2.1 (T i).2.2.1 ∈ lw_all) (href : ref = (T i).1) {v : Option Nat} (hv : fs[i]? = some (.inr (.inr v))) (hdg : decode cc pc = .ok (.getfield index, 3)) (kk : W p l e R s m args below meth c H locs cells slots Q (F0 m (pc + 3) ls (va_rf v :: rest))) : W p l e R s m args below meth c H locs cells slots Q (F0 m (pc) ls (.ref q :: rest)) := by
  subst href
  exact k_get hexec hb hts hown hK (s_pkat hI hg) hc hin i hi (hts _ hlink) (fun x hx => hx) (s_pfld hv) hdg kk
theorem s_pgiN (hexec : p.tables.exec = Jvm.exec) (hb : c.code = cc) {own ref C host : String} {T : u_T} {n ci index : Nat} {fs : List PV} (hts : ∀ w ∈ lw_all, w.before args s = true) (hown : s.vm.findClass own = some m.cls) (hK : gK D dA s) (hI : sI D dA w ad A H0 S H locs) {q : Nat} (hg : gI S q = some (.inr (.inl (ci, fs)))) (hc : vwCl[ci]? = some (C, T, n)) (hin : ∀ x ∈ u_ws C T n, x ∈ lw_all) (i : Nat) (hi : i < n) (hlink : va_Nw (Cond.fieldLinkNest own index ref (T i).2.1 (T i).2.2.1 host) s) (href : ref = (T i).1) {v : Int} (hv : fs[i]? = some (.inl v)) (hdg : decode cc pc = .ok (.getfield index, 3)) (kk : InR v → W p l e R s m args below meth c H locs cells slots Q (F0 m (pc + 3) ls (iV v :: rest))) : W p l e R s m args below meth c H locs cells slots Q (F0 m (pc) ls (.ref q :: rest)) := by
  subst href
  exact k_getN hexec hb hts hown hK (s_pkat hI hg) hc hin i hi (va_Nw.use rfl hlink) (fun x hx => hx) (s_pfld hv) hdg (kk (s_pnrm hI hg hv))
theorem s_pgrN (hexec : p.tables.exec = Jvm.exec) (hb : c.code = cc) {own ref C host : String} {T : u_T} {n ci index : Nat} {fs : List PV} (hts : ∀ w ∈ lw_all, w.before args s = true) (hown : s.vm.findClass own = some m.cls) (hK : gK D dA s) (hI : sI D dA w ad A H0 S H locs) {q : Nat} (hg : gI S q = some (.inr (.inl (ci, fs)))) (hc : vwCl[ci]? = some (C, T, n)) (hin : ∀ x ∈ u_ws C T n, x ∈ lw_all) (i : Nat) (hi : i < n) (hlink : va_Nw (Cond.fieldLinkNest own index ref (T i).2.1 (T i).2.2.1 host) s) (href : ref = (T i).1) {v : Option Nat} (hv : fs[i]? = some (.inr (.inr v))) (hdg : decode cc pc = .ok (.getfield index, 3)) (kk : W p l e R s m args below meth c H locs cells slots Q (F0 m (pc + 3) ls (va_rf v :: rest))) : W p l e R s m args below meth c H locs cells slots Q (F0 m (pc) ls (.ref q :: rest)) := by
  subst href
  exact k_getN hexec hb hts hown hK (s_pkat hI hg) hc hin i hi (va_Nw.use rfl hlink) (fun x hx => hx) (s_pfld hv) hdg kk
theorem s_aaldP (hexec : p.tables.exec = Jvm.exec) (hb : c.code = cc) (hK : gK D dA s) (hI : sI D dA w ad A H0 S H locs) {q n : Nat} {f : Int → Option Nat} (hg : gI S q = some (.inr (.inr (8, n, f)))) {i : Int} (hr : InR i) (hin : (0 : Int) ≤ i ∧ i < (n : Int)) (hdg : decode cc pc = .ok (.aaload, 1)) (kk : W p l e R s m args below meth c H locs cells slots Q (F0 m (pc + 1) ls (va_rf (f i) :: rest))) : W p l e R s m args below meth c H locs cells slots Q (F0 m (pc) ls (iV i :: .ref q :: rest)) := by
  have h : va_at D vwCl (q, .inl (dA 8, n, .inr (.inr (.inr (.inr (fun i : Nat => f i)))))) H := s_poolA hI hg (by omega)
  refine va_aldq (C := "java/lang/Object") hexec hb hK.1 (va_P1 h) 0 8 rfl rfl (ni_in hr hin) hdg ?_
  have e : ((i.toNat : Nat) : Int) = i := Int.toNat_of_nonneg hin.1
  rw [ni_N hr, e]
  exact kk
theorem s_rald (hexec : p.tables.exec = Jvm.exec) (hb : c.code = cc) (hK : gK D dA s) (hI : sI D dA w ad A H0 S H locs) (k : Nat) (hk : k < w.1) {len : Nat} (hd : w.2.1 k = .inr (.inr (.inr (7, len)))) {i : Int} (hr : InR i) (hin : (0 : Int) ≤ i ∧ i < (len : Int)) (hdg : decode cc pc = .ok (.aaload, 1)) (kk : W p l e R s m args below meth c H locs cells slots Q (F0 m (pc + 1) ls (va_rf (rI S k i) :: rest))) : W p l e R s m args below meth c H locs cells slots Q (F0 m (pc) ls (iV i :: .ref (ad k) :: rest)) := by
  have h : va_at D vwCl (ad k, .inl (dA 7, len, .inr (.inr (.inr (.inr (fun i : Nat => rI S k i)))))) H := by
    have h := hI.1.1 k hk
    rw [hd] at h
    exact h
  refine va_aldq (C := "NineGraves$Text") hexec hb hK.1 (va_P1 h) 0 7 rfl rfl (ni_in hr hin) hdg ?_
  have e : ((i.toNat : Nat) : Int) = i := Int.toNat_of_nonneg hin.1
  rw [ni_N hr, e]
  exact kk
theorem nr_aloadO_n (hexec : p.tables.exec = Jvm.exec) (hb : c.code = cc) {k : Fin 4} {i : Nat} {r : Option Nat} (hdg : decode cc pc = .ok (.aload_n k, 1)) (hi : (k : Nat) = i) (hl : ls[i]? = some (.val (va_rf r))) (kk : W p l e R s m args below meth c H locs cells slots Q (F0 m (pc + 1) ls (va_rf r :: rest))) : W p l e R s m args below meth c H locs cells slots Q (F0 m (pc) ls (rest)) := by
  cases r with
  | none => exact lv_aload_nN hexec hb hdg hi hl kk
  | some q => exact lv_aload_n hexec hb hdg hi hl kk
theorem nr_astoreO_n (hexec : p.tables.exec = Jvm.exec) (hb : c.code = cc) {k : Fin 4} {i nL : Nat} {r : Option Nat} {lv lv' : List (Nat × Value)} (hdg : decode cc pc = .ok (.astore_n k, 1)) (hi : (k : Nat) = i) (h : lv_has ls nL lv) (hn : i < nL) (hl : (i, va_rf r) :: lv.filter (fun q => !(q.1 == i) && !(q.1 + 1 == i && q.2.category == 2)) = lv') (kk : ∀ ls' : Array Slot, lv_has ls' nL lv' → W p l e R s m args below meth c H locs cells slots Q (F0 m (pc + 1) ls' (rest))) : W p l e R s m args below meth c H locs cells slots Q (F0 m (pc) ls (va_rf r :: rest)) := by
  cases r with
  | none => exact lv_astore_nN hexec hb hdg hi h hn hl kk
  | some q => exact lv_astore_n hexec hb hdg hi h hn hl kk
theorem nr_ifnullO (hexec : p.tables.exec = Jvm.exec) (hb : c.code = cc) {r : Option Nat} {off : Int} {tgt : Nat} (hdg : decode cc pc = .ok (.ifnull off, 3)) (ht : (pc : Int) + off = (tgt : Int)) (kn : r = none → W p l e R s m args below meth c H locs cells slots Q (F0 m (tgt) ls (rest))) (ks : ∀ q, r = some q → W p l e R s m args below meth c H locs cells slots Q (F0 m (pc + 3) ls (rest))) : W p l e R s m args below meth c H locs cells slots Q (F0 m (pc) ls (va_rf r :: rest)) := by
  cases r with
  | none => exact lv_ifnullN hexec hb hdg ht (kn rfl)
  | some q => exact lv_ifnull hexec hb hdg (ks q rfl)
theorem nr_ifnonnullO (hexec : p.tables.exec = Jvm.exec) (hb : c.code = cc) {r : Option Nat} {off : Int} {tgt : Nat} (hdg : decode cc pc = .ok (.ifnonnull off, 3)) (ht : (pc : Int) + off = (tgt : Int)) (ks : ∀ q, r = some q → W p l e R s m args below meth c H locs cells slots Q (F0 m (tgt) ls (rest))) (kn : r = none → W p l e R s m args below meth c H locs cells slots Q (F0 m (pc + 3) ls (rest))) : W p l e R s m args below meth c H locs cells slots Q (F0 m (pc) ls (va_rf r :: rest)) := by
  cases r with
  | none => exact lv_ifnonnullN hexec hb hdg (kn rfl)
  | some q => exact lv_ifnonnull hexec hb hdg ht (ks q rfl)
theorem s_qret (hexec : p.tables.exec = Jvm.exec) (hb : c.code = cc) {rt : FieldType} (hr : meth.sig.returnType = some rt) (hrt : (∃ n, rt = .object n) ∨ ∃ t, rt = .array t) (hlocks : meth.locks = false) {K : Option Nat → St → Prop} {v : Option Nat} (hI : sI D dA w ad A s.heap S H locs) (hK : K v S) (hdg : decode cc pc = .ok (.areturn, 1)) : W p l e R s m args below meth c H locs cells slots (MQ below (va_Qq (fun r S' => K r S') (sPost D dA w ad A) A) args s cells slots A) (F0 m pc ls [va_rf v]) :=
  W.aret hexec hb hr hrt (by cases v with
    | none => exact Or.inl rfl
    | some q => exact Or.inr ⟨q, rfl⟩) (fun t ht _ => ⟨⟨v, S, rfl, hK, by show sC _ _ _ _ _ _ t.heap; rw [ht]; exact hI.1⟩, hI.2.1.F ht⟩) hI.2.1.2.2 hdg hlocks
theorem s_callVq {y : MethodName} {ycc : ByteArray} {yL nL mc ms n index : Nat} {ws : List Cond} {rm : Room} {own : String} {As : List Value} {st0 : List Value} {C : String} {b : Addr} {rt : FieldType} {K : Option Nat → St → Prop} (hF : CallFix p m c cc nL s args lw_all own) (hM : Met l y ws rm (va_Pc (.ref b :: As) (sPre D dA w ad S H.size)) (va_Qq (fun r S' => K r S') (sPost D dA w ad (wA w ad S H.size)) (wA w ad S H.size)) mc ms (wA w ad S H.size)) (hC : (∃ cell : Cell, H[b]? = some cell ∧ cell.vm.isStatics = false ∧ s.vm.findClass C = some cell.cls)) (cw : CallW R s args own C index y ycc yL (some rt) ws rm mc ms n) (hK : gK D dA s) (hI : sI D dA w ad A H0 S H locs) (hn : As.length = n) (hls : ls.size = nL) (hst : st0 = As.reverse ++ .ref b :: rest) (hW : (rest.map fun v => v.category).sum ≤ 8) (hdg : decode cc pc = .ok (.invokevirtual index, 3)) (hf : cells + mc ≤ R.cells ∧ slots + ms ≤ R.slots) (kk : ∀ (r : Option Nat) (S1 : St) (H1 : Heap) (locs1 : List Loc), K r S1 → sI D dA w ad A H0 S1 H1 locs1 → W p l e R s m args below meth c H1 locs1 (cells + mc) (slots + ms) Q (F0 m (pc + 3) ls (va_rf r :: rest))) : W p l e R s m args below meth c H locs cells slots Q (F0 m (pc) ls (st0)) := by
  refine va_callq (va_runV (As := As) (rest := rest) hF hM cw ⟨s_blind, hC, s_pre hK hI⟩ rfl hn hls hst (lv_room hW) hdg hf) hI.2.1 (fun q _ h => hI.sub q h) (fun q h => hI.sub q h) (fun r S1 t H1 locs1 ht hvm hp hB hz hk1 hS1 => by
    exact kk r S1 H1 locs1 hp (hI.after hS1 (by have hB' : sC D dA w ad (wA w ad S H.size) S1 t.heap := hB; rw [ht] at hB'; exact hB')))
/-- a cast of an object of the pool -/
theorem s_cast (hexec : p.tables.exec = Jvm.exec) (hb : c.code = cc) {own nm C : String} {T : u_T} {n ci q index : Nat} {fs : List PV} (hown : s.vm.findClass own = some m.cls) (hts : ∀ w ∈ lw_all, w.before args s = true) (hlink : Cond.classLink own index nm ∈ lw_all) (hc : va_Nw (.castable C nm) s) (hK : gK D dA s) (hI : sI D dA w ad A H0 S H locs) (hg : gI S q = some (.inr (.inl (ci, fs)))) (hcl : vwCl[ci]? = some (C, T, n)) (hdg : decode cc pc = .ok (.checkcast index, 3)) (k : W p l e R s m args below meth c H locs cells slots Q (F0 m (pc + 3) ls (.ref q :: rest))) : W p l e R s m args below meth c H locs cells slots Q (F0 m (pc) ls (.ref q :: rest)) :=
  va_castY hexec hb hown (hts _ hlink) hc (s_recvP hK hI hg hcl) hdg k
theorem s_castS (hexec : p.tables.exec = Jvm.exec) (hb : c.code = cc) {own C : String} {T : u_T} {n ci q index : Nat} {fs : List PV} (hown : s.vm.findClass own = some m.cls) (hts : ∀ w ∈ lw_all, w.before args s = true) (hlink : Cond.classLink own index C ∈ lw_all) (hK : gK D dA s) (hI : sI D dA w ad A H0 S H locs) (hg : gI S q = some (.inr (.inl (ci, fs)))) (hcl : vwCl[ci]? = some (C, T, n)) (hdg : decode cc pc = .ok (.checkcast index, 3)) (k : W p l e R s m args below meth c H locs cells slots Q (F0 m (pc + 3) ls (.ref q :: rest))) : W p l e R s m args below meth c H locs cells slots Q (F0 m (pc) ls (.ref q :: rest)) :=
  va_castS hexec hb hown (hts _ hlink) (hK.1.1 ci _ hcl).2 (s_recvP hK hI hg hcl) hdg k
theorem s_callFl {x y : MethodName} {ycc : ByteArray} {yL nL mc ms n index count : Nat} {ws : List Cond} {rm : Room} {own C : String} {cC : ClassId} {b : Addr} {As : List Value} {st0 : List Value} {K : Int → St → Prop} (hat : ClassAt s C cC) (hF : CallFix p m c cc nL s args lw_all own) (hM : Met l y ws rm (va_Pc (.ref b :: As) (sPre D dA w ad S H.size)) (va_Ql (fun r S' => K r.toInt S') (sPost D dA w ad (wA w ad S H.size)) (wA w ad S H.size)) mc ms (wA w ad S H.size)) (hC : (∃ cell : Cell, H[b]? = some cell ∧ cell.vm.isStatics = false ∧ s.vm.findClass C = some cell.cls)) (cw : va_CI R s args own C index x y ycc yL (some .long) ws rm mc ms n) (hK : gK D dA s) (hI : sI D dA w ad A H0 S H locs) (hn : As.length = n) (hls : ls.size = nL) (hst : st0 = As.reverse ++ .ref b :: rest) (hW : (rest.map fun v => v.category).sum ≤ 8) (hdg : decode cc pc = .ok (.invokeinterface index count, 5)) (hf : cells + mc ≤ R.cells ∧ slots + ms ≤ R.slots) (kk : ∀ (r : Int) (S1 : St) (H1 : Heap) (locs1 : List Loc), InL r → K r S1 → sI D dA w ad A H0 S1 H1 locs1 → W p l e R s m args below meth c H1 locs1 (cells + mc) (slots + ms) Q (F0 m (pc + 5) ls (jV r :: rest))) : W p l e R s m args below meth c H locs cells slots Q (F0 m (pc) ls (st0)) := by
  refine va_callFl (va_runF (As := As) (rest := rest) hat hF hM cw ⟨s_blind, hC, s_pre hK hI⟩ rfl hn hls hst (lv_room hW) hdg hf) hI.2.1 (fun q _ h => hI.sub q h) (fun q h => hI.sub q h) (fun r S1 t H1 locs1 ht hvm hp hB hz hk1 hS1 => by
    rw [nj_V]
    exact kk r.toInt S1 H1 locs1 (nj_R r) hp (hI.after hS1 (by have hB' : sC D dA w ad (wA w ad S H.size) S1 t.heap := hB; rw [ht] at hB'; exact hB')))
theorem s_callFz {x y : MethodName} {ycc : ByteArray} {yL nL mc ms n index count : Nat} {ws : List Cond} {rm : Room} {own C : String} {cC : ClassId} {b : Addr} {As : List Value} {st0 : List Value} {K : Int → St → Prop} (hat : ClassAt s C cC) (hF : CallFix p m c cc nL s args lw_all own) (hM : Met l y ws rm (va_Pc (.ref b :: As) (sPre D dA w ad S H.size)) (va_Qi (fun r S' => (r.toInt = 0 ∨ r.toInt = 1) ∧ K r.toInt S') (sPost D dA w ad (wA w ad S H.size)) (wA w ad S H.size)) mc ms (wA w ad S H.size)) (hC : (∃ cell : Cell, H[b]? = some cell ∧ cell.vm.isStatics = false ∧ s.vm.findClass C = some cell.cls)) (cw : va_CI R s args own C index x y ycc yL (some .boolean) ws rm mc ms n) (hK : gK D dA s) (hI : sI D dA w ad A H0 S H locs) (hn : As.length = n) (hls : ls.size = nL) (hst : st0 = As.reverse ++ .ref b :: rest) (hW : (rest.map fun v => v.category).sum ≤ 8) (hdg : decode cc pc = .ok (.invokeinterface index count, 5)) (hf : cells + mc ≤ R.cells ∧ slots + ms ≤ R.slots) (kk : ∀ (r : Int) (S1 : St) (H1 : Heap) (locs1 : List Loc), (r = 0 ∨ r = 1) → K r S1 → sI D dA w ad A H0 S1 H1 locs1 → W p l e R s m args below meth c H1 locs1 (cells + mc) (slots + ms) Q (F0 m (pc + 5) ls (iV r :: rest))) : W p l e R s m args below meth c H locs cells slots Q (F0 m (pc) ls (st0)) := by
  refine va_callFi (va_runF (As := As) (rest := rest) hat hF hM cw ⟨s_blind, hC, s_pre hK hI⟩ rfl hn hls hst (lv_room hW) hdg hf) hI.2.1 (fun q _ h => hI.sub q h) (fun q h => hI.sub q h) (fun r S1 t H1 locs1 ht hvm hp hB hz hk1 hS1 => by
    rw [ni_V]
    exact kk r.toInt S1 H1 locs1 hp.1 hp.2 (hI.after hS1 (by have hB' : sC D dA w ad (wA w ad S H.size) S1 t.heap := hB; rw [ht] at hB'; exact hB')))
end SROWS3
section SROWS4
variable {p : Program} {l : Launch} {e : Env} {R : Room} {s : State} {m : MethodId} {args : Array Value} {below : List Frame} {meth : Method} {c : Code} {H : Heap} {locs : List Loc} {cells slots : Nat} {Q : State → Prop}
variable {cc : ByteArray} {pc : Nat} {ls : Array Slot} {rest : List Value} {D : va_G} {dA : Nat → ClassId} {w : Wd} {ad : Nat → Nat} {A : Nat → Prop} {H0 : Heap} {S : St}
theorem W.rcpy {cc : ByteArray} (hexec : p.tables.exec = Jvm.exec) (hb : c.code = cc) (hml : c.maxLocals = ls.size) {own : String} {index : Nat} (hown : s.vm.findClass own = some m.cls) (hlink : (Cond.methodLink own index arraycopyName).before args s = true) (hnat : (Cond.native arraycopyName).before args s = true) (hstat : (Cond.static arraycopyName).before args s = true) (hini : (Cond.initialized "java/lang/System").before args s = true)
    {a0 a : Nat} {c0 : ClassId} {n0 n1 : Nat} {f g : Nat → Option Nat} {E1 C : String} (hc0 : H[a0]? = some (vp_cell c0 (n0, .inr (.inr (.inr (.inr f)))))) (hc1 : H[a]? = some (vp_cell c0 (n1, .inr (.inr (.inr (.inr g)))))) (ht : ArrOfT s c0 (.object E1)) (htR : va_RA s c0 (.object E1))
    {sp dp n : Int32} (h1 : ¬ sp < 0) (h2 : ¬ dp < 0) (h3 : ¬ n < 0) (h4 : sp.toNatClampNeg + n.toNatClampNeg ≤ n0) (h5 : dp.toNatClampNeg + n.toNatClampNeg ≤ n1) (hel : ∀ i : Nat, i < n.toNatClampNeg → ∀ y : Nat, f (sp.toNatClampNeg + i) = some y → ∃ cellV : Cell, H[y]? = some cellV ∧ cellV.vm.isStatics = false ∧ s.vm.findClass C = some cellV.cls) (hasg : ∀ comp c0 : ClassId, s.vm.findClass E1 = some comp → s.vm.findClass C = some c0 → s.vm.assignable c0 comp = true)
    (hframes : 1 ≤ R.frames) (hlocals : (rest.map fun v => v.category).sum + (nativeFrameWords "java/lang/System" "arraycopy" 5 + 11) ≤ R.locals) (hdg : decode cc pc = .ok (.invokestatic index, 3))
    (kk : ∀ (H1 : Heap) (L : List Loc), H1[a]? = some (vp_cell c0 (n1, .inr (.inr (.inr (.inr (va_cpy f g sp.toNatClampNeg dp.toNatClampNeg n.toNatClampNeg)))))) → H1.size = H.size → (∀ q : Nat, q ≠ a → H1[q]? = H[q]?) → (∀ x ∈ L, x.base = a) → W p l e R s m args below meth c H1 (locs ++ L) cells slots Q (F0 m (pc + 3) ls rest)) : W p l e R s m args below meth c H locs cells slots Q (F0 m pc ls (.int n :: .int dp :: .ref a :: .int sp :: .ref a0 :: rest)) := by
  have nn : ∀ z : Int32, ¬ z < 0 → z.toInt = (z.toNatClampNeg : Int) := by
    intro z hz
    have hz0 : (0 : Int) ≤ z.toInt := by
      have := Int32.not_lt.mp hz
      simpa using Int32.le_iff_toInt_le.mp this
    show z.toInt = ((z.toInt.toNat : Nat) : Int)
    omega
  intro T hT X
  obtain ⟨-, k0, hk0, cm0, hkk0⟩ := ht n0 (fun j => va_rf (f j))
  obtain ⟨-, k1, hk1, cm1, hkk1⟩ := ht n1 (fun j => va_rf (g j))
  obtain ⟨vm', X', step⟩ := X.arraycopy hexec hown hlink hnat hstat hini (src := a0) (dst := a) (cs := vp_cell c0 (n0, .inr (.inr (.inr (.inr f))))) (cd := vp_cell c0 (n1, .inr (.inr (.inr (.inr g))))) (srcPos := sp) (destPos := dp) (n := n) (by rw [hT]; exact hc0) (by rw [hT]; exact hc1)
    (fun _ h => by cases h) (fun _ h => by cases h) (fun h => by cases h) (fun h => by cases h) hk0 hk1 hkk0 hkk1 rfl h1 h2 h3
    (by rw [nn sp h1, nn n h3]; show ¬ _ > ((arrV c0 n0 (fun j => va_rf (f j))).slots.size : Int); rw [arrV_size]; omega)
    (by rw [nn dp h2, nn n h3]; show ¬ _ > ((arrV c0 n1 (fun j => va_rf (g j))).slots.size : Int); rw [arrV_size]; omega)
    (fun vm₁ hal i hi => by
      have e : (vp_cell c0 (n0, .inr (.inr (.inr (.inr f))))).slots.getD (sp.toNatClampNeg + i) .null = va_rf (f (sp.toNatClampNeg + i)) := by
        show (arrV c0 n0 (fun j => va_rf (f j))).slots.getD _ _ = _
        rw [Array.getD_eq_getD_getElem?, arrV_read _ _ (by omega)]
        rfl
      rw [e]
      cases hy : f (sp.toNatClampNeg + i) with
      | none => exact ⟨rfl, trivial⟩
      | some y =>
        obtain ⟨cellV, g1, g2, g3⟩ := hel i hi y hy
        obtain ⟨kA, comp, r1, r2, r3, -⟩ := htR
        cases hk1.symm.trans r1
        cases hkk1.symm.trans r2
        obtain ⟨kC, hkC, -⟩ := Vm.findClass_spec g3
        obtain ⟨kE, hkE, -⟩ := Vm.findClass_spec r3
        obtain ⟨kC', hkC', -⟩ := hal.2.2 _ _ hkC
        obtain ⟨kE', hkE', -⟩ := hal.2.2 _ _ hkE
        refine ⟨rfl, cellV, (show T.heap[y]? = some cellV by rw [hT]; exact g1), (fun q h => by rw [h] at g2; cases g2), ⟨kC', hkC'⟩, ?_, ?_⟩
        · exact ⟨kE', hkE'⟩
        · show vm₁.assignable _ _ = true
          rw [hal.assignable]
          exact hasg _ _ r3 g3)
    (g := F0 m pc ls (.int n :: .int dp :: .ref a :: .int sp :: .ref a0 :: rest)) rfl (by rw [hml]) (rest := rest) rfl (by rw [hb]; exact hdg) hframes (by show 2 * 0 + _ + _ ≤ _; omega)
  have e1 : copied (vp_cell c0 (n0, .inr (.inr (.inr (.inr f))))) (vp_cell c0 (n1, .inr (.inr (.inr (.inr g))))) sp dp n = vp_cell c0 (n1, .inr (.inr (.inr (.inr (va_cpy f g sp.toNatClampNeg dp.toNatClampNeg n.toNatClampNeg))))) := by
    rw [vp_cell_q, vp_cell_q, vp_cell_q]
    exact va_copied (fun z => va_rf z) c0 c0 f g h4
  rw [e1] at X' step
  have hl : a < H.size := (Array.getElem?_eq_some_iff.mp hc1).1
  have hheap : ((T.setVm vm').setCell a (vp_cell c0 (n1, .inr (.inr (.inr (.inr (va_cpy f g sp.toNatClampNeg dp.toNatClampNeg n.toNatClampNeg))))))).heap = H.setIfInBounds a (vp_cell c0 (n1, .inr (.inr (.inr (.inr (va_cpy f g sp.toNatClampNeg dp.toNatClampNeg n.toNatClampNeg)))))) := by rw [← hT]; rfl
  obtain ⟨t, a1, b1⟩ := kk _ _ (by simp [Array.getElem?_setIfInBounds, hl]) (by simp) (fun q hq => by simp [Array.getElem?_setIfInBounds, Ne.symm hq]) (fun x hx => by
      obtain ⟨z, -, hz⟩ := List.mem_map.mp hx
      rw [← hz]) _ hheap X'
  exact ⟨t, step t a1, b1⟩
theorem s_refs (hI : sI D dA w ad A H0 S H locs) (k : Nat) (hk : k < w.1) {len : Nat} (hd : w.2.1 k = .inr (.inr (.inr (7, len)))) : H[ad k]? = some (vp_cell (dA 7) (len, .inr (.inr (.inr (.inr (fun i : Nat => rI S k i)))))) := by
  have h := hI.1.1 k hk
  rw [hd] at h
  exact h
theorem s_rcpy (hexec : p.tables.exec = Jvm.exec) (hb : c.code = cc) (hls : ls.size = c.maxLocals) {own : String} {index : Nat} (hown : s.vm.findClass own = some m.cls) (hts : ∀ w ∈ lw_all, w.before args s = true) (hlink : Cond.methodLink own index arraycopyName ∈ lw_all) (hK : gK D dA s) (hI : sI D dA w ad A H0 S H locs) (k0 k1 : Nat) (h500 : k1 ≠ 500) (hk0 : k0 < w.1) (hk1 : k1 < w.1) {len : Nat} (hd0 : w.2.1 k0 = .inr (.inr (.inr (7, len)))) (hd1 : w.2.1 k1 = .inr (.inr (.inr (7, len)))) (hlen : len ≤ 1000) (hel : ∀ i : Int, 0 ≤ i → i < (len : Int) → ∀ y, rI S k0 i = some y → ∃ fs : List PV, gI S y = some (.inr (.inl (4, fs)))) {z : Int} (hz : z = (len : Int)) (hR : 1 ≤ R.frames ∧ 100 ≤ R.locals) (hW : (rest.map fun v => v.category).sum ≤ 8) (hdg : decode cc pc = .ok (.invokestatic index, 3)) (kk : ∀ (S1 : St) (H1 : Heap) (locs1 : List Loc), S1 = rcpy S k0 k1 z → sI D dA w ad A H0 S1 H1 locs1 → W p l e R s m args below meth c H1 locs1 cells slots Q (F0 m (pc + 3) ls (rest))) : W p l e R s m args below meth c H locs cells slots Q (F0 m (pc) ls (iV z :: iV 0 :: .ref (ad k1) :: iV 0 :: .ref (ad k0) :: rest)) := by
  subst hz
  have hb0 := s_refs hI k0 hk0 hd0
  have hb1 := s_refs hI k1 hk1 hd1
  have hI2 := hI
  obtain ⟨hC, hS, hA⟩ := hI
  have r3 : InR (len : Int) := ⟨by omega, by omega⟩
  have n3 := ni_N r3
  have n1 := ni_N ni_r0
  have nl : ∀ {x : Int}, InR x → 0 ≤ x → ¬ Int32.ofInt x < 0 := fun hx h0 h => by rw [ni_0, ni_lt hx ni_r0] at h; omega
  have hT := hK.1.1 4 _ rfl
  refine W.rcpy (E1 := "NineGraves$Text") (C := "NineGraves$Text") hexec hb hls.symm hown (hts _ hlink) (hts _ q200) (hts _ q199) (hts _ q108) hb0 hb1 (hK.1.2 7 _ rfl).1 (hK.1.2 7 _ rfl).2 (nl ni_r0 (by decide)) (nl ni_r0 (by decide)) (nl r3 (by omega)) (by rw [n1, n3]; show 0 + _ ≤ _; omega) (by rw [n1, n3]; show 0 + _ ≤ _; omega) (fun i hi y hy => ?_) (fun comp c0 e1 e2 => ?_) hR.1 (by have h := acpy_loc; have h2 := hR.2; omega) hdg fun H1 L e z1 oq hL => ?_
  · rw [n3] at hi
    rw [n1] at hy
    have e4 : ((((0 : Int).toNat + i : Nat)) : Int) = (i : Int) := by simp
    rw [e4] at hy
    obtain ⟨fs, hg⟩ := hel (i : Int) (by omega) (by omega) y hy
    exact s_recvP hK hI2 hg rfl
  · have e3 := e1.symm.trans e2
    cases e3
    have h := hT.2
    have h4 : s.vm.findClass "NineGraves$Text" = some (D.1 4) := h.1
    cases h4.symm.trans e1
    exact va_assign h
  refine kk _ H1 _ rfl ⟨?_, ⟨by rw [z1]; exact hS.1, fun x h1 h2 => by
      rw [oq x (fun z => h2 (by rw [z]; exact hC.2.2.1 k1 hk1))]
      exact hS.2.1 x h1 h2, fun x hx => by
      rcases List.mem_append.mp hx with h | h
      · exact hS.2.2 x h
      · rw [hL x h]; exact hC.2.2.1 k1 hk1⟩, hA⟩
  refine hC.set k1 hk1 (fun j _ hj => ?_) rfl (by funext y; rw [rI_rcpy, if_neg (fun h => h500 h.1.symm)]) hC.2.2.2.1 ?_ oq
  · obtain q | q | q | q := w.2.1 j
    · rfl
    · rfl
    · rfl
    · show Sum.inl _ = Sum.inl _
      have e2 : (fun i : Nat => rI (rcpy S k0 k1 (len : Int)) j i) = fun i : Nat => rI S j i := by funext y; rw [rI_rcpy, if_neg (fun h => hj h.1)]
      rw [e2]
  · rw [hd1]
    show H1[ad k1]? = some (vp_cell (dA 7) (len, .inr (.inr (.inr (.inr (fun i : Nat => rI (rcpy S k0 k1 (len : Int)) k1 i))))))
    rw [e, n1, n3]
    have e2 : va_cpy (fun i : Nat => rI S k0 i) (fun i : Nat => rI S k1 i) (0 : Int).toNat (0 : Int).toNat (len : Int).toNat = fun i : Nat => rI (rcpy S k0 k1 (len : Int)) k1 i := by
      funext y
      unfold va_cpy
      rw [rI_rcpy]
      by_cases hy : (0 : Int).toNat ≤ y ∧ y < (0 : Int).toNat + (len : Int).toNat
      · rw [if_pos hy, if_pos (by omega)]
        congr 1
        have e4 : (0 : Int).toNat = 0 := rfl
        rw [e4]
        omega
      · rw [if_neg hy, if_neg (by omega)]
    rw [e2]
end SROWS4
