/-! PURE: text(): the twin's text: its end -/
theorem tx_full {T : St} {K : Int → St → Prop} (hN : aI T 0 3 = 4) (hK : K (-1) T) : w_M_text T K := by
  unfold w_M_text
  rw [hN]
  exact fun _ => ⟨fun z => absurd rfl z, fun _ => hK⟩
theorem tx_ok {T T2 : St} {N : Int} {K : Int → St → Prop} (hN : aI T 0 3 = N) (hN2 : 0 ≤ N ∧ N ≤ 3) (h0 : aI T2 0 = aI T 0) (h : ∀ Kc : Int → St → Prop, Kc 0 T2 → w_M_readText T Kc) (hK : K N (aset (fset (fset (fset T2 5 0) 6 (-1)) 4 0) 0 3 (N + 1))) : w_M_text T K := by
  have h03 : aI T2 0 3 = N := by rw [h0]; exact hN
  unfold w_M_text
  refine fun _ => ⟨fun _ => h _ ?_, fun z => absurd z (by omega)⟩
  rintro - _ rfl
  rw [fI_fset_s]
  refine fun _ => ⟨fun z => absurd rfl z, fun _ => ?_⟩
  unfold j_M_text_36
  rintro _ rfl _ rfl
  have f5 : fI (fset (fset (fset T2 5 0) 6 (-1)) 4 0) 5 = 0 := by rw [fI_fset_n (by omega), fI_fset_n (by omega), fI_fset_s]
  have a3 : aI (fset (fset (fset T2 5 0) 6 (-1)) 4 0) 0 3 = N := h03
  rw [f5, a3]
  refine fun _ => ⟨fun _ => fun _ => ⟨by omega, ?_⟩, fun z => absurd rfl z⟩
  rintro _ rfl
  rw [aI_aset_s, show N + 1 - 1 = N by omega]
  exact fun _ => ⟨by omega, hK⟩
theorem tx_fault {T T2 : St} {N f q : Int} {K : Int → St → Prop} (hN : aI T 0 3 = N) (hN2 : 0 ≤ N ∧ N ≤ 3) (hf : f ≠ 0) (hq : fI T2 8 = q) (h : ∀ Kc : Int → St → Prop, Kc f T2 → w_M_readText T Kc) (hK : K (-1) (fset (fset (fset T2 5 f) 6 q) 4 0)) : w_M_text T K := by
  unfold w_M_text
  refine fun _ => ⟨fun _ => h _ ?_, fun z => absurd z (by omega)⟩
  rintro - _ rfl
  rw [fI_fset_s, fI_fset_n (by omega), hq]
  refine fun _ => ⟨fun _ => fun _ => ?_, fun z => absurd z hf⟩
  unfold j_M_text_36
  rintro _ rfl _ rfl
  have f5 : fI (fset (fset (fset T2 5 f) 6 q) 4 0) 5 = f := by rw [fI_fset_n (by omega), fI_fset_n (by omega), fI_fset_s]
  rw [f5]
  exact fun _ => ⟨fun z => absurd z hf, fun _ => hK⟩
