/-! PURE: saints: tries of the component against those of the twin -/
def sHd (most : Int) (K' : Int → St → Prop) (i : Int) (T : St) : Prop := ∃ f, l_M_share_9 most K' f i T
def sIn (most : Int) (K' : Int → St → Prop) (k top : Int) (T : St) : Prop := ∃ f g, l_M_share_37 most k top K' (fun zS => j_M_share_84 most k top zS K' (l_M_share_9 most K' f)) g T
theorem canP_congr {kd s s' : Int → Int} {ap : Int → Int → Int} {MF : Int → Int} {k v : Int} (h : ∀ i, 0 ≤ i → i < k → s i = s' i) (hc' : canP kd s ap MF k v) : canP kd s' ap MF k v := by
  obtain ⟨h1, h2⟩ := hc'
  refine ⟨?_, fun i i0 i1 e => h2 i i0 i1 (by rw [h i i0 i1]; exact e)⟩
  rw [← hc_congr h]
  exact h1
theorem sHd_in {T0 T : St} {n most k : Int} {K' : Int → St → Prop} (hm : sMR T0 T) (hn : fI T0 29 = n) (hk : 0 ≤ k ∧ k < n ∧ n ≤ 12) (hs : ∀ i : Int, 0 ≤ i → i < k → 0 ≤ aI T 11 i ∧ aI T 11 i ≤ mx (aI T 11) i.toNat) (hb : -1 ≤ aI T 11 k ∧ aI T 11 k ≤ 100) (h : sIn most K' k (mx (aI T 11) k.toNat) (aset T 11 k (aI T 11 k + 1))) : sHd most K' k T := by
  obtain ⟨f, g, h⟩ := h
  refine ⟨f + 1, ?_⟩
  unfold l_M_share_9
  rw [hm.2, hn]
  refine ⟨fun z => absurd hk.1 (by omega), fun _ => fun _ => ⟨fun z => absurd z (by omega), fun _ => pM_used (by omega) hs (fun _ => ⟨by omega, fun _ => ⟨by omega, by omega, ?_⟩⟩)⟩⟩
  rintro _ rfl
  exact ⟨g, h⟩
theorem sIn_out {T : St} {most k top : Int} {K' : Int → St → Prop} (hk : 0 ≤ k ∧ k < 12) (hb : top < aI T 11 k ∨ most ≤ aI T 11 k) (h : sHd most K' (k - 1) T) : sIn most K' k top T := by
  obtain ⟨f, h⟩ := h
  have fin : j_M_share_84 most k top T K' (l_M_share_9 most K' f) := by
    unfold j_M_share_84 j_M_share_104
    rw [show k + (-1) = k - 1 by omega]
    exact ⟨by omega, fun _ => ⟨fun _ => ⟨by omega, h⟩, fun z => ⟨by omega, fun z2 => absurd z2 (by omega), fun _ => ⟨by omega, h⟩⟩⟩⟩
  refine ⟨f, 1, ?_⟩
  unfold l_M_share_37
  exact ⟨by omega, fun _ => ⟨fun _ => fin, fun z => ⟨by omega, fun _ => fin, fun z2 => absurd hb (by omega)⟩⟩⟩
theorem sIn_can {S0 T0 T : St} {n most k top : Int} {qv : Int → Int} {ap : Int → Int → Int} {MF : Int → Int} {K' : Int → St → Prop} (hd : SD S0 T0 n most qv ap MF) (hm : sMR T0 T) (hk : 0 ≤ k ∧ k < n) (h1 : aI T 11 k ≤ top) (h2 : aI T 11 k < most) (hc : canP (fun i => aI S0 3 (5 * qv i)) (aI T 11) ap MF k (aI T 11 k)) (h : sHd most K' (k + 1) (aset T 11 (k + 1) (-1))) : sIn most K' k top T := by
  obtain ⟨f, h⟩ := h
  have n12 := hd.2.1.2
  refine ⟨f, 1, ?_⟩
  unfold l_M_share_37
  refine ⟨by omega, fun _ => ⟨fun z => absurd z (by omega), fun _ => ⟨by omega, fun z => absurd z (by omega), fun _ => ⟨by omega, pM_canHave hd hm hk (fun _ => br1r ?_) (fun z => absurd hc z)⟩⟩⟩⟩
  unfold j_M_share_84
  refine ⟨by omega, fun _ => ⟨fun z => absurd z (by omega), fun _ => ⟨by omega, fun _ => ⟨by omega, by omega, ?_⟩, fun z => absurd h2 z⟩⟩⟩
  rintro _ rfl
  exact h
theorem sIn_not {S0 T0 T : St} {n most k top : Int} {qv : Int → Int} {ap : Int → Int → Int} {MF : Int → Int} {K' : Int → St → Prop} (hd : SD S0 T0 n most qv ap MF) (hm : sMR T0 T) (hk : 0 ≤ k ∧ k < n) (h0 : 0 ≤ aI T 11 k) (h1 : aI T 11 k ≤ top) (h2 : aI T 11 k < most) (hc : ¬ canP (fun i => aI S0 3 (5 * qv i)) (aI T 11) ap MF k (aI T 11 k)) (h : sIn most K' k top (aset T 11 k (aI T 11 k + 1))) : sIn most K' k top T := by
  obtain ⟨f, g, h⟩ := h
  have n12 := hd.2.1.2
  have m12 := hd.2.2.1.2
  refine ⟨f, g + 1, ?_⟩
  unfold l_M_share_37
  refine ⟨by omega, fun _ => ⟨fun z => absurd z (by omega), fun _ => ⟨by omega, fun z => absurd z (by omega), fun _ => ⟨by omega, pM_canHave hd hm hk (fun z => absurd z hc) (fun _ => br0r ⟨by omega, by omega, by omega, ?_⟩)⟩⟩⟩⟩
  rintro _ rfl
  exact h
theorem sMR.set {T0 T : St} (h : sMR T0 T) (k v : Int) : sMR T0 (aset T 11 k v) := ⟨fun j hj => by rw [← h.1 j hj]; funext y; exact aI_aset_j hj, h.2⟩
theorem shr {S0 T0 : St} {n most : Int} {qv : Int → Int} {ap : Int → Int → Int} {MF : Int → Int} (hd : SD S0 T0 n most qv ap MF) :
    ∀ (d : Nat) (k : Int) (S' T' : St) (K : Int → St → Prop), n - k < d → 0 ≤ k → k ≤ n → sXR S0 S' → sMR T0 T' → sXH S' (fun i => aI S0 3 (5 * qv i)) k → (∀ i, 0 ≤ i → i < k → aI S' 11 i = aI T' 11 i) → (∀ i : Int, 0 ≤ i → i < k → 0 ≤ aI T' 11 i ∧ aI T' 11 i ≤ mx (aI T' 11) i.toNat) → aI T' 11 k = -1 →
    (∀ S2 T2, sXR S0 S2 → sMR T0 T2 → (∀ i, 0 ≤ i → i < n → aI S2 11 i = aI T2 11 i) → (∀ K', sHd most K' n T2 → sHd most K' k T') → K 1 S2) →
    (∀ S2 T2, sXR S0 S2 → sMR T0 T2 → sXH S2 (fun i => aI S0 3 (5 * qv i)) k → (∀ i, 0 ≤ i → i < k → aI S2 11 i = aI T2 11 i) → (∀ i, 0 ≤ i → i < k → aI T2 11 i = aI T' 11 i) → most < mx (aI T' 11) k.toNat + (n - k) → (∀ K', sHd most K' (k - 1) T2 → sHd most K' k T') → K 0 S2) →
    w_X_shares d k (mx (aI T' 11) k.toNat) S' K := by
  have hdd := hd
  obtain ⟨g1, g2, g3, ⟨g4, g4b, g4c⟩, g5, g6, g7, g8, g9⟩ := hd
  obtain ⟨⟨a0, a1, a2⟩, ⟨b0, b1, b2⟩, -⟩ := g1.nums
  intro d
  induction d with
  | zero => intro k S' T' K q; omega
  | succ d ih =>
    intro k S' T' K hdk k0 kn hx hm hh hp hs hn1 H1 H0
    have f11 : fI S' 11 = n := by rw [hx.2.1]; exact g4
    show b_X_shares (w_X_shares d) k (mx (aI T' 11) k.toNat) S' K
    unfold b_X_shares
    rw [f11]
    refine fun _ => ⟨fun ne => ?_, fun e => ?_⟩
    · have kl : k < n := by omega
      obtain ⟨p1, p2, p3, p4⟩ := g5 k k0 kl
      obtain ⟨kk1, kk2⟩ := hdd.kd k0 kl
      have e10 : aI S' 10 = aI S0 10 := hx.1 10 (by omega) (by omega)
      have e3 : aI S' 3 = aI S0 3 := hx.1 3 (by omega) (by omega)
      have mb := mx_bd (s := aI T' 11) k.toNat (fun i i0 i1 => hs i i0 (by omega))
      rw [e10, p1]
      refine ⟨by omega, fun _ => pX_bone_2 (by omega) (by omega) (fun _ => ?_)⟩
      rw [e3, Int.add_zero]
      -- the saints one by one
      have loop : ∀ (f : Nat) (s : Int) (S1 T1 : St), 0 ≤ s → s ≤ 13 → 13 - s < f → sXR S0 S1 → sMR T0 T1 → sXH S1 (fun i => aI S0 3 (5 * qv i)) k → (∀ i, 0 ≤ i → i < k → aI S1 11 i = aI T1 11 i) → (∀ i, 0 ≤ i → i < k → aI T1 11 i = aI T' 11 i) → aI T1 11 k = s → (s ≤ mx (aI T' 11) k.toNat ∨ most < mx (aI T' 11) k.toNat + (n - k)) → (∀ K', sIn most K' k (mx (aI T' 11) k.toNat) T1 → sHd most K' k T') →
          l_X_shares_25 (w_X_shares d) k (mx (aI T' 11) k.toNat) (aI S0 3 (5 * qv k)) K f s S1 := by
        intro f
        induction f with
        | zero => intro s S1 T1 q0 q1 q2; omega
        | succ f ihf =>
          intro s S1 T1 q0 q1 q2 hx1 hm1 hh1 hp1 ht1 hk1 hfin hln
          have f12 : fI S1 12 = most := by rw [hx1.2.1]; exact g4b
          unfold l_X_shares_25
          rw [f12]
          refine ⟨fun c1 => ?_, fun c1 => fun _ => ⟨fun c2 => ?_, fun c2 => ?_⟩⟩
          · refine H0 S1 T1 hx1 hm1 hh1 hp1 ht1 (by omega) (fun K' hk' => hln K' (sIn_out (by omega) (Or.inl (by omega)) hk'))
          · refine H0 S1 T1 hx1 hm1 hh1 hp1 ht1 (by omega) (fun K' hk' => hln K' (sIn_out (by omega) (Or.inr (by omega)) hk'))
          · refine pX_can hdd hx1 hh1 ⟨k0, kl⟩ (by omega) (fun hcan => ?_) (fun hcan => ?_)
            · -- he can
              have hcanT : canP (fun i => aI S0 3 (5 * qv i)) (aI T1 11) ap MF k (aI T1 11 k) := by
                rw [hk1]
                exact canP_congr hp1 hcan
              unfold j_X_shares_115 j_X_shares_177
              refine ⟨fun _ => ⟨by omega, ?_⟩, fun z => absurd z (by decide)⟩
              rintro _ rfl
              have r79 : ∀ v : Int, 79 + v.toNat ≠ 11 := fun v => by omega
              have hv0 := hh1 s (aI S0 3 (5 * qv k)) q0 (by omega) kk1.1 kk1.2
              have hbd := hc_bd (kd := fun i => aI S0 3 (5 * qv i)) (s := aI S1 11) (k := k) (v := s) (c := aI S0 3 (5 * qv k)) k0
              have hrow : aI (aset S1 11 k s) (79 + Int.toNat s) (aI S0 3 (5 * qv k)) = hc (fun i => aI S0 3 (5 * qv i)) (aI S1 11) k s (aI S0 3 (5 * qv k)) := by
                rw [aI_aset_j (by omega)]
                exact hv0
              rw [hrow]
              refine ⟨by omega, by omega, fun _ => ⟨by omega, by omega, ?_⟩⟩
              rintro _ rfl
              have hx2 : sXR S0 (aset (aset S1 11 k s) (79 + Int.toNat s) (aI S0 3 (5 * qv k)) (hc (fun i => aI S0 3 (5 * qv i)) (aI S1 11) k s (aI S0 3 (5 * qv k)) + 1)) := by
                refine ⟨fun j j0 j1 => ?_, hx1.2.1, hx1.2.2.1, hx1.2.2.2⟩
                rw [← hx1.1 j j0 j1]
                funext y
                rw [aI_aset_j (by omega), aI_aset_j j0]
              have s11 : ∀ y, aI (aset (aset S1 11 k s) (79 + Int.toNat s) (aI S0 3 (5 * qv k)) (hc (fun i => aI S0 3 (5 * qv i)) (aI S1 11) k s (aI S0 3 (5 * qv k)) + 1)) 11 y = if y = k then s else aI S1 11 y := by
                intro y
                rw [aI_aset_j (by omega), aI_aset]
                by_cases z : y = k
                · rw [if_pos ⟨rfl, z⟩, if_pos z]
                · rw [if_neg (fun q => z q.2), if_neg z]
              have hh2 : sXH (aset (aset S1 11 k s) (79 + Int.toNat s) (aI S0 3 (5 * qv k)) (hc (fun i => aI S0 3 (5 * qv i)) (aI S1 11) k s (aI S0 3 (5 * qv k)) + 1)) (fun i => aI S0 3 (5 * qv i)) (k + 1) := by
                intro v c v0 v1 c0 c1'
                rw [hc_up k0, s11 k, if_pos rfl]
                have ec : hc (fun i => aI S0 3 (5 * qv i)) (aI (aset (aset S1 11 k s) (79 + Int.toNat s) (aI S0 3 (5 * qv k)) (hc (fun i => aI S0 3 (5 * qv i)) (aI S1 11) k s (aI S0 3 (5 * qv k)) + 1)) 11) k v c = hc (fun i => aI S0 3 (5 * qv i)) (aI S1 11) k v c := hc_congr (fun i i0 i1 => by rw [s11, if_neg (by omega)])
                rw [ec, aI_aset]
                by_cases z : v = s ∧ c = aI S0 3 (5 * qv k)
                · obtain ⟨z1, z2⟩ := z
                  rw [if_pos ⟨by omega, z2⟩, z1, z2, if_pos ⟨rfl, rfl⟩]
                · rw [if_neg (fun q => z ⟨by omega, q.2⟩), if_neg (fun q => z ⟨q.1.symm, q.2.symm⟩), aI_aset_j (by omega), hh1 v c v0 v1 c0 c1']
                  omega
              have t11 : ∀ y, y ≠ k + 1 → aI (aset T1 11 (k + 1) (-1)) 11 y = aI T1 11 y := fun y hy => aI_aset_i hy
              have emx : mx (aI (aset T1 11 (k + 1) (-1)) 11) k.toNat = mx (aI T' 11) k.toNat := mx_congr _ (fun i i0 i1 => by rw [t11 i (by omega)]; exact ht1 i i0 (by omega))
              have emx2 : mx (aI (aset T1 11 (k + 1) (-1)) 11) (k + 1).toNat = max (mx (aI T' 11) k.toNat) (s + 1) := by
                rw [show (k + 1).toNat = k.toNat + 1 by omega]
                show (if mx _ k.toNat ≤ aI (aset T1 11 (k + 1) (-1)) 11 ((k.toNat : Nat) : Int) then _ else _) = _
                rw [show ((k.toNat : Nat) : Int) = k by omega, t11 k (by omega), hk1, emx]
                by_cases z : mx (aI T' 11) k.toNat ≤ s
                · rw [if_pos z]
                  omega
                · rw [if_neg z]
                  omega
              rw [← emx2]
              refine ⟨by omega, by omega, ih (k + 1) _ (aset T1 11 (k + 1) (-1)) _ (by omega) (by omega) (by omega) hx2 (hm1.set _ _) hh2 (fun i i0 i1 => ?_) (fun i i0 i1 => ?_) (aI_aset_s _ _ _ _) (fun S2 T2 u1 u2 u3 u4 => br1 ?_) (fun S2 T2 u1 u2 u3 u4 u5 u6 u7 => br0 ?_)⟩
              · rw [s11, t11 i (by omega)]
                by_cases z : i = k
                · rw [if_pos z, z, hk1]
                · rw [if_neg z]
                  exact hp1 i i0 (by omega)
              · rw [t11 i (by omega)]
                by_cases z : i = k
                · rw [z, hk1, emx]
                  omega
                · have q := hs i i0 (by omega)
                  rw [ht1 i i0 (by omega)]
                  have em : mx (aI (aset T1 11 (k + 1) (-1)) 11) i.toNat = mx (aI T' 11) i.toNat := mx_congr _ (fun j j0 j1 => by rw [t11 j (by omega)]; exact ht1 j j0 (by omega))
                  rw [em]
                  exact q
              · exact H1 S2 T2 u1 u2 u3 (fun K' hk' => hln K' (sIn_can hdd hm1 ⟨k0, kl⟩ (by omega) (by omega) hcanT (u4 K' hk')))
              · -- in vain: the next saint
                have v0' := u3 s (aI S0 3 (5 * qv k)) q0 (by omega) kk1.1 kk1.2
                have pk : aI S2 11 k = s := by rw [u4 k k0 (by omega), u5 k k0 (by omega), t11 k (by omega), hk1]
                rw [v0', hc_up k0, pk, if_pos ⟨rfl, rfl⟩]
                have hbd2 := hc_bd (kd := fun i => aI S0 3 (5 * qv i)) (s := aI S2 11) (k := k) (v := s) (c := aI S0 3 (5 * qv k)) k0
                refine ⟨by omega, by omega, fun _ => ⟨by omega, by omega, ?_⟩⟩
                rintro _ rfl
                have tp : ∀ i, 0 ≤ i → i < k → aI T2 11 i = aI T' 11 i := fun i i0 i1 => by rw [u5 i i0 (by omega), t11 i (by omega)]; exact ht1 i i0 i1
                have tk : aI T2 11 k = s := by rw [u5 k k0 (by omega), t11 k (by omega), hk1]
                have em2 : mx (aI T2 11) k.toNat = mx (aI T' 11) k.toNat := mx_congr _ (fun j j0 j1 => tp j j0 (by omega))
                have x11 : ∀ y, aI (aset S2 (79 + Int.toNat s) (aI S0 3 (5 * qv k)) (hc (fun i => aI S0 3 (5 * qv i)) (aI S2 11) k s (aI S0 3 (5 * qv k)) + 1 - 1)) 11 y = aI S2 11 y := fun y => aI_aset_j (by omega)
                refine ⟨by omega, ihf (s + 1) _ (aset T2 11 k (s + 1)) (by omega) (by omega) (by omega) ?_ (u2.set _ _) ?_ (fun i i0 i1 => ?_) (fun i i0 i1 => ?_) (aI_aset_s _ _ _ _) ?_ (fun K' hk' => ?_)⟩
                · refine ⟨fun j j0 j1 => ?_, u1.2.1, u1.2.2.1, u1.2.2.2⟩
                  rw [← u1.1 j j0 j1]
                  funext y
                  rw [aI_aset_j (by omega)]
                · intro v c v0 v1 c0 c1'
                  have ec : hc (fun i => aI S0 3 (5 * qv i)) (aI (aset S2 (79 + Int.toNat s) (aI S0 3 (5 * qv k)) (hc (fun i => aI S0 3 (5 * qv i)) (aI S2 11) k s (aI S0 3 (5 * qv k)) + 1 - 1)) 11) k v c = hc (fun i => aI S0 3 (5 * qv i)) (aI S2 11) k v c := hc_congr (fun i i0 i1 => x11 i)
                  rw [ec, aI_aset]
                  by_cases z : v = s ∧ c = aI S0 3 (5 * qv k)
                  · obtain ⟨z1, z2⟩ := z
                    rw [if_pos ⟨by omega, z2⟩, z1, z2]
                    omega
                  · rw [if_neg (fun q => z ⟨by omega, q.2⟩), u3 v c v0 v1 c0 c1', hc_up k0, pk, if_neg (fun q => z ⟨q.1.symm, q.2.symm⟩)]
                    omega
                · rw [x11, aI_aset_i (by omega)]
                  exact u4 i i0 (by omega)
                · rw [aI_aset_i (by omega)]
                  exact tp i i0 i1
                · rw [emx2] at u6
                  omega
                · refine hln K' (sIn_can hdd hm1 ⟨k0, kl⟩ (by omega) (by omega) hcanT (u7 K' ?_))
                  rw [show k + 1 - 1 = k by omega]
                  refine sHd_in u2 g4c ⟨k0, kl, g2.2⟩ (fun i i0 i1 => ?_) (by omega) ?_
                  · rw [tp i i0 i1]
                    have em3 : mx (aI T2 11) i.toNat = mx (aI T' 11) i.toNat := mx_congr _ (fun j j0 j1 => tp j j0 (by omega))
                    rw [em3]
                    exact hs i i0 i1
                  · rw [em2, tk]
                    exact hk'
            · -- he can't
              have hcanT : ¬ canP (fun i => aI S0 3 (5 * qv i)) (aI T1 11) ap MF k (aI T1 11 k) := by
                rw [hk1]
                exact fun q => hcan (canP_congr (fun i i0 i1 => (hp1 i i0 i1).symm) q)
              have old : s < mx (aI T' 11) k.toNat := by
                by_cases z : s = mx (aI T' 11) k.toNat
                · exfalso
                  have no : ∀ i, 0 ≤ i → i < k → aI S1 11 i ≠ s := by
                    intro i i0 i1 e
                    have := mb.2 i i0 (by omega)
                    rw [hp1 i i0 i1, ht1 i i0 i1] at e
                    omega
                  refine hcan ⟨?_, fun i i0 i1 e => absurd e (no i i0 i1)⟩
                  rw [hc_none no]
                  show 0 < MF (aI S0 3 (5 * qv k))
                  have := g9 _ kk1.1 kk1.2
                  omega
                · omega
              unfold j_X_shares_115 j_X_shares_177
              refine ⟨fun z => absurd rfl z, fun _ => ⟨by omega, ihf (s + 1) S1 (aset T1 11 k (s + 1)) (by omega) (by omega) (by omega) hx1 (hm1.set _ _) hh1 (fun i i0 i1 => by rw [aI_aset_i (by omega)]; exact hp1 i i0 i1) (fun i i0 i1 => by rw [aI_aset_i (by omega)]; exact ht1 i i0 i1) (aI_aset_s _ _ _ _) (by omega) (fun K' hk' => hln K' (sIn_not hdd hm1 ⟨k0, kl⟩ (by omega) (by omega) (by omega) hcanT ?_))⟩⟩
              rw [hk1]
              exact hk'
      refine ⟨14, loop 14 0 S' (aset T' 11 k 0) (by omega) (by omega) (by omega) hx (hm.set _ _) hh (fun i i0 i1 => by rw [aI_aset_i (by omega)]; exact hp i i0 i1) (fun i i0 i1 => aI_aset_i (by omega)) (aI_aset_s _ _ _ _) (by omega) (fun K' hk' => sHd_in hm g4c ⟨k0, kl, g2.2⟩ hs (by omega) ?_)⟩
      rw [hn1]
      exact hk'
    · subst e
      exact H1 S' T' hx hm (fun i i0 i1 => hp i i0 (by omega)) (fun K' hk' => hk')
