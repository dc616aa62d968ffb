theorem zn_J5_copyOf_2 : zN yJ5_copyOf_2 3 := by decide +kernel
set_option maxHeartbeats 4000000 in
theorem ct_J5_copyOf_2 (l : Launch) (g : zG) (A : Nat → Prop) (M : Nat → Option va_E) (b n k : Nat) (f : Nat → Option Nat) (hb_ : M b = some (zQ g n f)) (h0 : 0 < n) (hn : n ≤ 160) (hk : n ≤ k) (hk2 : k ≤ 160) (hel : ∀ i, i < n → zEM M (f i)) : Met l yJ5_copyOf_2 (ws_ yJ5_copyOf_2 cJ5_copyOf_2 4 (some (.array (.object "java/lang/Object")))) (zR 2 1 160) (zP [.ref b, .int (nI k), .ref (zmi g)] g A (zMH g A M)) (va_Qq (fun rz_ (q : Nat) => rz_ = some q ∧ M q = none ∧ zd0 g ≠ q) (fun q t => zMH g A (va_up M q (some (zQ g k (va_cpy f (fun _ => none) 0 0 (min n k))))) t.heap) A) 1 160 A := by
  refine zb_met (by decide) (Nat.le_of_ble_eq_true rfl) ?_
  intro p e s m args below meth c ls hx hb hr hml hown hts hlocks hnm hK hM ha_ hl
  have hown : s.vm.findClass RJ5 = some m.cls := hown
  have hS : va_S A s.heap s.heap [] := va_S.rf
  have hl : lv_has ls 4 [(0, .ref b), (1, .int (nI k)), (2, .ref (zmi g))] := hl
  refine lv_aload_n hx hb dJ5_copyOf_2_0 rfl (lv_at hl 2 rfl) ?_
  refine va_ldcM hx hb hown (hts _ q166) hK.2.2.2.1 dJ5_copyOf_2_1 ?_
  refine lv_acmp_ne (tgt := 13) (rx := some (zmi g)) (ry := some (zmi g)) hx hb dJ5_copyOf_2_3 (by decide) (fun c_1 => ?_) (fun c_1 => ?_)
  · exact absurd rfl c_1
  · refine lv_iload_n hx hb dJ5_copyOf_2_6 rfl (lv_at hl 1 rfl) ?_
    refine zm_newQ hx hb hown (hts _ q168) hK.2.1.2.2.2.2.1 hK.1 hM hS (n := k) (by omega) (Nat.le_of_ble_eq_true rfl) (by show _ + k ≤ 160; omega) dJ5_copyOf_2_7 (fun q_2 H hq0 hd0 _ hM hS => ?_)
    obtain ⟨M_3, eM_3⟩ : ∃ M0, M0 = va_up M q_2 (some (zQ g k (fun _ => none))) := ⟨_, rfl⟩
    have hM : zMH g A M_3 H := by rw [eM_3]; exact hM
    have h_4 : M_3 q_2 = some (zQ g k (fun _ => none)) := by rw [eM_3]; exact va_up_self _ _ _
    have h_5 : M_3 b = some (zQ g n f) := by rw [eM_3]; exact (va_up_ne _ _ (fun z => by rw [z, hq0] at hb_; cases hb_)).trans hb_
    refine lv_goto (tgt := 24) hx hb dJ5_copyOf_2_10 (by decide) ?_
    refine lv_astore_n (lv' := [(3, .ref q_2), (0, .ref b), (1, .int (nI k)), (2, .ref (zmi g))]) hx hb dJ5_copyOf_2_24 rfl hl (by decide) rfl (fun ls hl => ?_)
    refine lv_aload_n hx hb dJ5_copyOf_2_25 rfl (lv_at hl 1 rfl) ?_
    refine lv_iconst (v := 0) hx hb dJ5_copyOf_2_26 (by decide) ?_
    refine lv_aload_n hx hb dJ5_copyOf_2_27 rfl (lv_at hl 0 rfl) ?_
    refine lv_iconst (v := 0) hx hb dJ5_copyOf_2_28 (by decide) ?_
    refine lv_aload_n hx hb dJ5_copyOf_2_29 rfl (lv_at hl 1 rfl) ?_
    refine zm_alen hx hb hK.1 hM 3 h_5 rfl dJ5_copyOf_2_30 ?_
    refine lv_iload_n hx hb dJ5_copyOf_2_31 rfl (lv_at hl 2 rfl) ?_
    refine va_mmin hx hb (by rw [hml]; exact hl.1.symm) hown (hts _ q169) (hts _ q170) (hts _ q45) (hts _ q171) (Nat.le_of_ble_eq_true rfl) (Nat.le_of_ble_eq_true rfl) (by show _ ≤ 1; omega) (by show _ ≤ 160; omega) dJ5_copyOf_2_32 ?_
    refine zm_topi (y := nI (min n k)) (zmin (a := n) (b := k) (by omega) (by omega)) ?_
    refine zm_copyQ hx hb (by rw [hml]; exact hl.1.symm) hown (hts _ q172) (hts _ q174) (hts _ q173) (hts _ q47) hK.1 hM hS (sp := 0) (dp := 0) (n := min n k) h_5 h_4 (hM.2.1 _ _ h_4 (Ne.symm hd0)) (by omega) (by omega) (by omega) (by omega) (by omega) (fun i hi => ?_) (Nat.le_of_ble_eq_true rfl) (Nat.le_of_ble_eq_true rfl) dJ5_copyOf_2_35 (fun H locs hM hS => ?_)
    · rw [Nat.zero_add, eM_3]; exact ((hel i (by omega)).up (fun ci vs h => by rw [hq0] at h; cases h)).ok hK
    rw [eM_3, zup_up] at hM
    refine lv_aload_n hx hb dJ5_copyOf_2_38 rfl (lv_at hl 0 rfl) ?_
    exact ze_q (v := some q_2) hx hb hr (Or.inr ⟨_, rfl⟩) hlocks hS dJ5_copyOf_2_39 (by omega) (by show _ ≤ 160; omega) q_2 (⟨rfl, hq0, hd0⟩) (hM)
theorem zn_J5_copyOf : zN yJ5_copyOf 2 := by decide +kernel
set_option maxHeartbeats 4000000 in
theorem ct_J5_copyOf (l : Launch) (g : zG) (A : Nat → Prop) (M : Nat → Option va_E) (b n k : Nat) (f : Nat → Option Nat) (hb_ : M b = some (zQ g n f)) (h0 : 0 < n) (hn : n ≤ 160) (hk : n ≤ k) (hk2 : k ≤ 160) (hel : ∀ i, i < n → zEM M (f i)) : Met l yJ5_copyOf (ws_ yJ5_copyOf cJ5_copyOf 2 (some (.array (.object "java/lang/Object")))) (zR 3 1 160) (zP [.ref b, .int (nI k)] g A (zMH g A M)) (va_Qq (fun rz_ (q : Nat) => rz_ = some q ∧ M q = none ∧ zd0 g ≠ q) (fun q t => zMH g A (va_up M q (some (zQ g k (va_cpy f (fun _ => none) 0 0 (min n k))))) t.heap) A) 1 160 A := by
  refine zb_met (by decide) (Nat.le_of_ble_eq_true rfl) ?_
  intro p e s m args below meth c ls hx hb hr hml hown hts hlocks hnm hK hM ha_ hl
  have hown : s.vm.findClass RJ5 = some m.cls := hown
  have hS : va_S A s.heap s.heap [] := va_S.rf
  have hl : lv_has ls 2 [(0, .ref b), (1, .int (nI k))] := hl
  refine lv_aload_n hx hb dJ5_copyOf_0 rfl (lv_at hl 0 rfl) ?_
  refine lv_iload_n hx hb dJ5_copyOf_1 rfl (lv_at hl 1 rfl) ?_
  refine lv_aload_n hx hb dJ5_copyOf_2 rfl (lv_at hl 0 rfl) ?_
  refine va_getC hx hb (by rw [hml]; exact hl.1.symm) hown (hts _ q144) (va_Dc.use hK.2.2.2.2) (hts _ q1373) (hts _ q145) (hts _ q162) hK.2.2.2.1 ⟨_, hM.ar hb_ h0, rfl, (by obtain ⟨_, _, _, _, _, h⟩ := (hK.1.2 3 _ rfl).2; exact h)⟩ (Nat.le_of_ble_eq_true rfl) (Nat.le_of_ble_eq_true rfl) dJ5_copyOf_3 ?_
  refine zc_q (zr_S (As := [.ref b, .int (nI k), .ref (zmi g)]) (rest := []) ⟨hx, hb, hml, hown, hts⟩ (ct_J5_copyOf_2 l g A M b n k f hb_ h0 hn hk hk2 hel) zn_J5_copyOf_2 (lw_S q163 q164 q46 q165) (by decide) (by decide) hK (fun _ h => h) hS hM rfl hl.1 (Nat.le_of_ble_eq_true rfl) dJ5_copyOf_6 ⟨Nat.le_refl _, Nat.le_refl _⟩) hS (fun _ h => h) (fun r q H locs hr1 hM _ _ hS => ?_)
  obtain ⟨rfl, hq0, hd0⟩ := hr1
  exact ze_q (v := some q) hx hb hr (Or.inr ⟨_, rfl⟩) hlocks hS dJ5_copyOf_9 (by omega) (by show _ ≤ 160; omega) q (⟨rfl, hq0, hd0⟩) (hM)
theorem zn_J3_newLength : zN yJ3_newLength 3 := by decide +kernel
set_option maxHeartbeats 4000000 in
theorem ct_J3_newLength (l : Launch) (g : zG) (A : Nat → Prop) (B : Heap → Prop) (x y z : Nat) (h0 : 0 < x) (h1 : x < 1000) (h2 : y < 1000) (h3 : z < 1000) : Met l yJ3_newLength (ws_ yJ3_newLength cJ3_newLength 4 (some .int)) (zR 1 0 0) (zP [.int (nI x), .int (nI y), .int (nI z)] g A B) (va_Qi (fun rz_ (_ : Unit) => rz_ = nI (x + max y z)) (fun (_ : Unit) t => B t.heap) A) 0 0 A := by
  refine zb_met (by decide) (Nat.le_of_ble_eq_true rfl) ?_
  intro p e s m args below meth c ls hx hb hr hml hown hts hlocks hnm hK hB ha_ hl
  have hown : s.vm.findClass RJ3 = some m.cls := hown
  have hS : va_S A s.heap s.heap [] := va_S.rf
  have hl : lv_has ls 4 [(0, .int (nI x)), (1, .int (nI y)), (2, .int (nI z))] := hl
  refine lv_iload_n hx hb dJ3_newLength_0 rfl (lv_at hl 0 rfl) ?_
  refine lv_iload_n hx hb dJ3_newLength_1 rfl (lv_at hl 1 rfl) ?_
  refine lv_iload_n hx hb dJ3_newLength_2 rfl (lv_at hl 2 rfl) ?_
  refine va_mmax hx hb (by rw [hml]; exact hl.1.symm) hown (hts _ q134) (hts _ q135) (hts _ q45) (hts _ q136) (Nat.le_of_ble_eq_true rfl) (Nat.le_of_ble_eq_true rfl) (by show _ ≤ 0; omega) (by show _ ≤ 0; omega) dJ3_newLength_3 ?_
  refine zm_topi (y := nI (max y z)) (zmax (a := y) (b := z) (by omega) (by omega)) ?_
  refine lv_iadd hx hb dJ3_newLength_6 ?_
  refine zm_topi (y := nI (x + (max y z))) (nI_add x (max y z)) ?_
  refine lv_istore_n (lv' := [(3, .int (nI (x + (max y z)))), (0, .int (nI x)), (1, .int (nI y)), (2, .int (nI z))]) hx hb dJ3_newLength_7 rfl hl (by decide) rfl (fun ls hl => ?_)
  refine lv_iconst (v := 0) hx hb dJ3_newLength_8 (by decide) ?_
  refine lv_iload_n hx hb dJ3_newLength_9 rfl (lv_at hl 0 rfl) ?_
  refine zl_ge (tgt := 21) (a := 0) (b := x + (max y z)) hx hb (by first | decide | omega) (by first | decide | omega) dJ3_newLength_10 (by decide) (fun c_1 => ?_) (fun c_1 => ?_)
  · exact absurd c_1 (by omega)
  · refine lv_iload_n hx hb dJ3_newLength_13 rfl (lv_at hl 0 rfl) ?_
    refine lv_ldc (v := 2147483639) hx hb hown (hts _ q137) dJ3_newLength_14 ?_
    refine zl_gt (tgt := 21) (a := x + (max y z)) (b := 2147483639) hx hb (by first | decide | omega) (by first | decide | omega) dJ3_newLength_16 (by decide) (fun c_2 => ?_) (fun c_2 => ?_)
    · exact absurd c_2 (by omega)
    · refine lv_iload_n hx hb dJ3_newLength_19 rfl (lv_at hl 0 rfl) ?_
      exact ze_i hx hb hr hlocks hS dJ3_newLength_20 (Nat.le_refl _) (Nat.le_refl _) () rfl hB
theorem zn_J2_grow_2 : zN yJ2_grow_2 1 := by decide +kernel
set_option maxHeartbeats 4000000 in
theorem ct_J2_grow_2 (l : Launch) (g : zG) (A : Nat → Prop) (M : Nat → Option va_E) (a b cap n mn : Nat) (mu : Int32) (f : Nat → Option Nat) (ha : M a = some (zo 9 [.int mu, .ref b, .int (nI n)])) (hb_ : M b = some (zQ g cap f)) (hn : n = cap) (hn1 : n ≤ 100) (hmn : mn = n + 1) (hc0 : cap = 0 → b = zd0 g) (hel : ∀ i, i < n → zEM M (f i)) : Met l yJ2_grow_2 (ws_ yJ2_grow_2 cJ2_grow_2 4 (some (.array (.object "java/lang/Object")))) (zR 4 1 160) (zP [.ref a, .int (nI mn)] g A (zMH g A M)) (va_Qq (fun rz_ (u : (Nat → Option va_E) × Nat × Nat × (Nat → Option Nat)) => rz_ = some u.2.1 ∧ zGr g M a (.int mu) (.int (nI n)) n mn f u) (fun u t => zMH g A u.1 t.heap) A) 1 160 A := by
  refine zb_met (by decide) (Nat.le_of_ble_eq_true rfl) ?_
  intro p e s m args below meth c ls hx hb hr hml hown hts hlocks hnm hK hM ha_ hl
  have hown : s.vm.findClass RJ2 = some m.cls := hown
  have hS : va_S A s.heap s.heap [] := va_S.rf
  have hl : lv_has ls 4 [(0, .ref a), (1, .int (nI mn))] := hl
  have hel : ∀ i, i < cap → zEM M (f i) := fun i h => hel i (by omega)
  rcases Nat.eq_zero_or_pos cap with hc | hc
  · have hb0 := hc0 hc
    refine lv_aload_n hx hb dJ2_grow_2_0 rfl (lv_at hl 0 rfl) ?_
    refine zm_get hx hb hts in_J2 hown hK.1 hM ha rfl 1 (by decide) (hts _ q94) (fun _ h => h) rfl dJ2_grow_2_1 ?_
    refine zm_alen hx hb hK.1 hM 3 hb_ rfl dJ2_grow_2_4 ?_
    refine lv_istore_n (lv' := [(2, .int (nI cap)), (0, .ref a), (1, .int (nI mn))]) hx hb dJ2_grow_2_5 rfl hl (by decide) rfl (fun ls hl => ?_)
    refine lv_iload_n hx hb dJ2_grow_2_6 rfl (lv_at hl 0 rfl) ?_
    refine lv_if_gt (tgt := 20) hx hb dJ2_grow_2_7 (by decide) (fun c_1 => ?_) (fun c_1 => ?_)
    · exact absurd c_1 (by rw [hc]; decide)
    · refine lv_aload_n hx hb dJ2_grow_2_10 rfl (lv_at hl 1 rfl) ?_
      refine zm_get hx hb hts in_J2 hown hK.1 hM ha rfl 1 (by decide) (hts _ q94) (fun _ h => h) rfl dJ2_grow_2_11 ?_
      refine va_gets hx hb (hK.2.2.1.1) hS hown (hts _ q92) (fun _ h => h) dJ2_grow_2_14 ?_
      refine lv_acmp_eq (tgt := 45) (rx := some b) (ry := some (zd0 g)) hx hb dJ2_grow_2_17 (by decide) (fun c_2 => ?_) (fun c_2 => ?_)
      · refine lv_aload_n hx hb dJ2_grow_2_45 rfl (lv_at hl 1 rfl) ?_
        refine lv_bipush (v := 10) hx hb dJ2_grow_2_46 (by decide) ?_
        refine lv_iload_n hx hb dJ2_grow_2_48 rfl (lv_at hl 2 rfl) ?_
        refine va_mmax hx hb (by rw [hml]; exact hl.1.symm) hown (hts _ q175) (hts _ q135) (hts _ q45) (hts _ q136) (Nat.le_of_ble_eq_true rfl) (Nat.le_of_ble_eq_true rfl) (by show _ ≤ 1; omega) (by show _ ≤ 160; omega) dJ2_grow_2_49 ?_
        refine zm_topi (y := nI (max 10 mn)) (zmax (a := 10) (b := mn) (by omega) (by omega)) ?_
        refine zm_newQ hx hb hown (hts _ q176) hK.2.1.2.2.2.2.1 hK.1 hM hS (n := max 10 mn) (by omega) (Nat.le_of_ble_eq_true rfl) (by show _ + (max 10 mn) ≤ 160; omega) dJ2_grow_2_52 (fun q_3 H hq0 hd0 _ hM hS => ?_)
        obtain ⟨M_4, eM_4⟩ : ∃ M0, M0 = va_up M q_3 (some (zQ g (max 10 mn) (fun _ => none))) := ⟨_, rfl⟩
        have hM : zMH g A M_4 H := by rw [eM_4]; exact hM
        have h_5 : M_4 q_3 = some (zQ g (max 10 mn) (fun _ => none)) := by rw [eM_4]; exact va_up_self _ _ _
        have h_6 : M_4 a = some (zo 9 [.int mu, .ref b, .int (nI n)]) := by rw [eM_4]; exact (va_up_ne _ _ (fun z => by rw [z, hq0] at ha; cases ha)).trans ha
        have h_7 : M_4 b = some (zQ g cap f) := by rw [eM_4]; exact (va_up_ne _ _ (fun z => by rw [z, hq0] at hb_; cases hb_)).trans hb_
        refine lv_dup_x1 hx hb dJ2_grow_2_55 rfl rfl ?_
        refine zm_put hx hb hts in_J2 tyJ2 tyJ2_ok nmJ2 hown hK.1 hM hS h_6 rfl 1 (by decide) (hts _ q94) (fun _ h => h) rfl (v := .ref q_3) (tyJ2_ok 1 (by decide)) rfl rfl (show 1 < 3 from by decide) dJ2_grow_2_56 (fun H locs hM hS => ?_)
        obtain ⟨M_8, eM_8⟩ : ∃ M0, M0 = va_up M_4 a (some (zo 9 [.int mu, .ref q_3, .int (nI n)])) := ⟨_, rfl⟩
        have hM : zMH g A M_8 H := by rw [eM_8]; exact hM
        have h_9 : M_8 a = some (zo 9 [.int mu, .ref q_3, .int (nI n)]) := by rw [eM_8]; exact va_up_self _ _ _
        have h_10 : M_8 b = some (zQ g cap f) := by rw [eM_8]; exact (va_up_ne _ _ (fun z => by have z1 := h_7; rw [z, h_6] at z1; cases z1)).trans h_7
        have h_11 : M_8 q_3 = some (zQ g (max 10 mn) (fun _ => none)) := by rw [eM_8]; exact (va_up_ne _ _ (fun z => by have z1 := h_5; rw [z, h_6] at z1; cases z1)).trans h_5
        exact ze_q (v := some q_3) hx hb hr (Or.inr ⟨_, rfl⟩) hlocks hS dJ2_grow_2_59 (by show _ ≤ 1; omega) (by show _ ≤ 160; omega) (M_8, q_3, max 10 mn, (fun _ => none)) ⟨rfl, hq0, hd0, h_9, h_11, (by omega : mn ≤ max 10 mn), (by omega : max 10 mn ≤ 160), (fun j hj => absurd hj (by omega)), fun p (h1 : p ≠ a) (h2 : p ≠ q_3) => (by rw [eM_8, va_up_ne _ _ h1, eM_4, va_up_ne _ _ h2] : M_8 p = M p)⟩ hM
      · exact absurd (congrArg some hb0) c_2
  · refine lv_aload_n hx hb dJ2_grow_2_0 rfl (lv_at hl 0 rfl) ?_
    refine zm_get hx hb hts in_J2 hown hK.1 hM ha rfl 1 (by decide) (hts _ q94) (fun _ h => h) rfl dJ2_grow_2_1 ?_
    refine zm_alen hx hb hK.1 hM 3 hb_ rfl dJ2_grow_2_4 ?_
    refine lv_istore_n (lv' := [(2, .int (nI cap)), (0, .ref a), (1, .int (nI mn))]) hx hb dJ2_grow_2_5 rfl hl (by decide) rfl (fun ls hl => ?_)
    refine lv_iload_n hx hb dJ2_grow_2_6 rfl (lv_at hl 0 rfl) ?_
    refine lv_if_gt (tgt := 20) hx hb dJ2_grow_2_7 (by decide) (fun c_12 => ?_) (fun c_12 => ?_)
    · refine lv_iload_n hx hb dJ2_grow_2_20 rfl (lv_at hl 0 rfl) ?_
      refine lv_iload_n hx hb dJ2_grow_2_21 rfl (lv_at hl 2 rfl) ?_
      refine lv_iload_n hx hb dJ2_grow_2_22 rfl (lv_at hl 0 rfl) ?_
      refine lv_isub hx hb dJ2_grow_2_23 ?_
      refine zm_topi (y := nI (mn - cap)) (zsub (a := mn) (b := cap) (by omega)) ?_
      refine lv_iload_n hx hb dJ2_grow_2_24 rfl (lv_at hl 0 rfl) ?_
      refine lv_iconst (v := 1) hx hb dJ2_grow_2_25 (by decide) ?_
      refine lv_ishr hx hb dJ2_grow_2_26 ?_
      refine zm_topi (y := nI (cap / 2)) (zshr (by omega)) ?_
      refine zc_i (zr_S (As := [.int (nI cap), .int (nI (mn - cap)), .int (nI (cap / 2))]) (rest := []) ⟨hx, hb, hml, hown, hts⟩ (ct_J3_newLength l g A (zMH g A M) cap (mn - cap) (cap / 2) hc (by omega) (by omega) (by omega)) zn_J3_newLength (lw_S q131 q132 q44 q133) (by decide) (by decide) hK (fun _ h => h) hS hM rfl hl.1 (Nat.le_of_ble_eq_true rfl) dJ2_grow_2_27 ⟨by show _ + 0 ≤ _; omega, by show _ + 0 ≤ _; omega⟩) hS (fun _ h => h) (fun r _ H locs hr1 hM _ _ hS => ?_)
      subst hr1
      refine lv_istore_n (lv' := [(3, .int (nI (cap + max (mn - cap) (cap / 2)))), (2, .int (nI cap)), (0, .ref a), (1, .int (nI mn))]) hx hb dJ2_grow_2_30 rfl hl (by decide) rfl (fun ls hl => ?_)
      refine lv_aload_n hx hb dJ2_grow_2_31 rfl (lv_at hl 2 rfl) ?_
      refine lv_aload_n hx hb dJ2_grow_2_32 rfl (lv_at hl 2 rfl) ?_
      refine zm_get hx hb hts in_J2 hown hK.1 hM ha rfl 1 (by decide) (hts _ q94) (fun _ h => h) rfl dJ2_grow_2_33 ?_
      refine lv_iload_n hx hb dJ2_grow_2_36 rfl (lv_at hl 0 rfl) ?_
      refine zc_q (zr_S (As := [.ref b, .int (nI (cap + max (mn - cap) (cap / 2)))]) (rest := [.ref a]) ⟨hx, hb, hml, hown, hts⟩ (ct_J5_copyOf l g A M b cap (cap + max (mn - cap) (cap / 2)) f hb_ hc (by omega) (by omega) (by omega) hel) zn_J5_copyOf (lw_S q141 q142 q46 q143) (by decide) (by decide) hK (fun _ h => h) hS hM rfl hl.1 (Nat.le_of_ble_eq_true rfl) dJ2_grow_2_37 ⟨by show _ + 1 ≤ _; omega, by show _ + 160 ≤ _; omega⟩) hS (fun _ h => h) (fun r q H locs hr1 hM _ _ hS => ?_)
      obtain ⟨rfl, hq0, hd0⟩ := hr1
      obtain ⟨M_13, eM_13⟩ : ∃ M0, M0 = va_up M q (some (zQ g (cap + max (mn - cap) (cap / 2)) (va_cpy f (fun _ => none) 0 0 (min cap (cap + max (mn - cap) (cap / 2)))))) := ⟨_, rfl⟩
      have hM : zMH g A M_13 H := by rw [eM_13]; exact hM
      have h_14 : M_13 q = some (zQ g (cap + max (mn - cap) (cap / 2)) (va_cpy f (fun _ => none) 0 0 (min cap (cap + max (mn - cap) (cap / 2))))) := by rw [eM_13]; exact va_up_self _ _ _
      have h_15 : M_13 a = some (zo 9 [.int mu, .ref b, .int (nI n)]) := by rw [eM_13]; exact (va_up_ne _ _ (fun z => by rw [z, hq0] at ha; cases ha)).trans ha
      have h_16 : M_13 b = some (zQ g cap f) := by rw [eM_13]; exact (va_up_ne _ _ (fun z => by rw [z, hq0] at hb_; cases hb_)).trans hb_
      refine lv_dup_x1 hx hb dJ2_grow_2_40 rfl rfl ?_
      refine zm_put hx hb hts in_J2 tyJ2 tyJ2_ok nmJ2 hown hK.1 hM hS h_15 rfl 1 (by decide) (hts _ q94) (fun _ h => h) rfl (v := .ref q) (tyJ2_ok 1 (by decide)) rfl rfl (show 1 < 3 from by decide) dJ2_grow_2_41 (fun H locs hM hS => ?_)
      obtain ⟨M_17, eM_17⟩ : ∃ M0, M0 = va_up M_13 a (some (zo 9 [.int mu, .ref q, .int (nI n)])) := ⟨_, rfl⟩
      have hM : zMH g A M_17 H := by rw [eM_17]; exact hM
      have h_18 : M_17 a = some (zo 9 [.int mu, .ref q, .int (nI n)]) := by rw [eM_17]; exact va_up_self _ _ _
      have h_19 : M_17 b = some (zQ g cap f) := by rw [eM_17]; exact (va_up_ne _ _ (fun z => by have z1 := h_16; rw [z, h_15] at z1; cases z1)).trans h_16
      have h_20 : M_17 q = some (zQ g (cap + max (mn - cap) (cap / 2)) (va_cpy f (fun _ => none) 0 0 (min cap (cap + max (mn - cap) (cap / 2))))) := by rw [eM_17]; exact (va_up_ne _ _ (fun z => by have z1 := h_14; rw [z, h_15] at z1; cases z1)).trans h_14
      exact ze_q (v := some q) hx hb hr (Or.inr ⟨_, rfl⟩) hlocks hS dJ2_grow_2_44 (by show _ ≤ 1; omega) (by show _ ≤ 160; omega) (M_17, q, cap + max (mn - cap) (cap / 2), (va_cpy f (fun _ => none) 0 0 (min cap (cap + max (mn - cap) (cap / 2))))) ⟨rfl, hq0, hd0, h_18, h_20, (by omega : mn ≤ cap + max (mn - cap) (cap / 2)), (by omega : cap + max (mn - cap) (cap / 2) ≤ 160), (fun j (hj : j < n) => (by unfold va_cpy; rw [if_pos ⟨Nat.zero_le _, by omega⟩]; simp : (va_cpy f (fun _ => none) 0 0 (min cap (cap + max (mn - cap) (cap / 2)))) j = f j)), fun p (h1 : p ≠ a) (h2 : p ≠ q) => (by rw [eM_17, va_up_ne _ _ h1, eM_13, va_up_ne _ _ h2] : M_17 p = M p)⟩ hM
    · exact absurd ((nI_ltI (a := 0) (by decide) (by omega)).mpr hc) c_12
theorem zn_J2_grow : zN yJ2_grow 0 := by decide +kernel
set_option maxHeartbeats 4000000 in
theorem ct_J2_grow (l : Launch) (g : zG) (A : Nat → Prop) (M : Nat → Option va_E) (a b cap n : Nat) (mu : Int32) (f : Nat → Option Nat) (ha : M a = some (zo 9 [.int mu, .ref b, .int (nI n)])) (hb_ : M b = some (zQ g cap f)) (hn : n = cap) (hn1 : n ≤ 100) (hc0 : cap = 0 → b = zd0 g) (hel : ∀ i, i < n → zEM M (f i)) : Met l yJ2_grow (ws_ yJ2_grow cJ2_grow 1 (some (.array (.object "java/lang/Object")))) (zR 5 1 160) (zP [.ref a] g A (zMH g A M)) (va_Qq (fun rz_ (u : (Nat → Option va_E) × Nat × Nat × (Nat → Option Nat)) => rz_ = some u.2.1 ∧ zGr g M a (.int mu) (.int (nI n)) n (n + 1) f u) (fun u t => zMH g A u.1 t.heap) A) 1 160 A := by
  refine zb_met (by decide) (Nat.le_of_ble_eq_true rfl) ?_
  intro p e s m args below meth c ls hx hb hr hml hown hts hlocks hnm hK hM ha_ hl
  have hown : s.vm.findClass RJ2 = some m.cls := hown
  have hS : va_S A s.heap s.heap [] := va_S.rf
  have hl : lv_has ls 1 [(0, .ref a)] := hl
  refine lv_aload_n hx hb dJ2_grow_0 rfl (lv_at hl 0 rfl) ?_
  refine lv_aload_n hx hb dJ2_grow_1 rfl (lv_at hl 0 rfl) ?_
  refine zm_get hx hb hts in_J2 hown hK.1 hM ha rfl 2 (by decide) (hts _ q97) (fun _ h => h) rfl dJ2_grow_2 ?_
  refine lv_iconst (v := 1) hx hb dJ2_grow_5 (by decide) ?_
  refine lv_iadd hx hb dJ2_grow_6 ?_
  refine zm_topi (y := nI (n + 1)) (nI_1 n) ?_
  refine zc_q (zr_V (As := [.int (nI (n + 1))]) (rest := []) ⟨hx, hb, hml, hown, hts⟩ (ct_J2_grow_2 l g A M a b cap n (n + 1) mu f ha hb_ hn hn1 rfl hc0 hel) zn_J2_grow_2 (lw_V q127 q129 qs2 q43 q130) rfl (by decide) (by decide) hK (fun _ h => h) hS hM (zm_recv hK.1 hM ha rfl) rfl hl.1 (Nat.le_of_ble_eq_true rfl) dJ2_grow_7 ⟨Nat.le_refl _, Nat.le_refl _⟩) hS (fun _ h => h) (fun r u H locs hr1 hM _ _ hS => ?_)
  obtain ⟨rfl, hu⟩ := hr1
  exact ze_q (v := some u.2.1) hx hb hr (Or.inr ⟨_, rfl⟩) hlocks hS dJ2_grow_10 (by omega) (by show _ ≤ 160; omega) u (⟨rfl, hu⟩) (hM)
theorem zn_J2_add_2 : zN yJ2_add_2 3 := by decide +kernel
set_option maxHeartbeats 4000000 in
theorem ct_J2_add_2 (l : Launch) (g : zG) (A : Nat → Prop) (M : Nat → Option va_E) (a b cap n : Nat) (mu : Int32) (f : Nat → Option Nat) (x : Option Nat) (ha : M a = some (zo 9 [.int mu, .ref b, .int (nI n)])) (hb_ : M b = some (zQ g cap f)) (hnc : n ≤ cap) (hn1 : n ≤ 100) (hcap : cap ≤ 160) (hc0 : cap = 0 → b = zd0 g) (hel : ∀ i, i < n → zEM M (f i)) (hx_ : zEM M x) : Met l yJ2_add_2 (ws_ yJ2_add_2 cJ2_add_2 4 none) (zR 6 1 160) (zP [.ref a, va_rf x, .ref b, .int (nI n)] g A (zMH g A M)) (va_Qv (fun u => zAd g M a b (.int mu) n f x u) (fun u t => zMH g A u.1 t.heap) A) 1 160 A := by
  refine zb_met (by decide) (by cases x <;> exact Nat.le_of_ble_eq_true rfl) ?_
  intro p e s m args below meth c ls hx hb hr hml hown hts hlocks hnm hK hM ha_ hl
  have hown : s.vm.findClass RJ2 = some m.cls := hown
  have hS : va_S A s.heap s.heap [] := va_S.rf
  have hl : lv_has ls 4 [(0, .ref a), (1, va_rf x), (2, .ref b), (3, .int (nI n))] := by cases x <;> exact hl
  rcases Nat.lt_or_eq_of_le hnc with hc | hc
  · refine lv_iload_n hx hb dJ2_add_2_0 rfl (lv_at hl 3 rfl) ?_
    refine lv_aload_n hx hb dJ2_add_2_1 rfl (lv_at hl 2 rfl) ?_
    refine zm_alen hx hb hK.1 hM 3 hb_ rfl dJ2_add_2_2 ?_
    refine zl_ne (tgt := 11) (a := n) (b := cap) hx hb (by first | decide | omega) (by first | decide | omega) dJ2_add_2_3 (by decide) (fun c_1 => ?_) (fun c_1 => ?_)
    · refine lv_aload_n hx hb dJ2_add_2_11 rfl (lv_at hl 2 rfl) ?_
      refine lv_iload_n hx hb dJ2_add_2_12 rfl (lv_at hl 3 rfl) ?_
      refine lv_aload_nO hx hb dJ2_add_2_13 rfl (lv_at hl 1 rfl) ?_
      refine zm_ast (k := n) hx hb hK.1 hM hS hb_ (hx_.ok hK) (by omega) (by omega) dJ2_add_2_14 (fun H locs hM hS => ?_)
      obtain ⟨M_2, eM_2⟩ : ∃ M0, M0 = va_up M b (some (zQ g cap (va_up f n x))) := ⟨_, rfl⟩
      have hM : zMH g A M_2 H := by rw [eM_2]; exact hM
      have h_3 : M_2 b = some (zQ g cap (va_up f n x)) := by rw [eM_2]; exact va_up_self _ _ _
      have h_4 : M_2 a = some (zo 9 [.int mu, .ref b, .int (nI n)]) := by rw [eM_2]; exact (va_up_ne _ _ (fun z => by have z1 := ha; rw [z, hb_] at z1; cases z1)).trans ha
      refine lv_aload_n hx hb dJ2_add_2_15 rfl (lv_at hl 0 rfl) ?_
      refine lv_iload_n hx hb dJ2_add_2_16 rfl (lv_at hl 3 rfl) ?_
      refine lv_iconst (v := 1) hx hb dJ2_add_2_17 (by decide) ?_
      refine lv_iadd hx hb dJ2_add_2_18 ?_
      refine zm_topi (y := nI (n + 1)) (nI_1 n) ?_
      refine zm_put hx hb hts in_J2 tyJ2 tyJ2_ok nmJ2 hown hK.1 hM hS h_4 rfl 2 (by decide) (hts _ q97) (fun _ h => h) rfl (v := .int (nI (n + 1))) (tyJ2_ok 2 (by decide)) rfl rfl (show 2 < 3 from by decide) dJ2_add_2_19 (fun H locs hM hS => ?_)
      obtain ⟨M_5, eM_5⟩ : ∃ M0, M0 = va_up M_2 a (some (zo 9 [.int mu, .ref b, .int (nI (n + 1))])) := ⟨_, rfl⟩
      have hM : zMH g A M_5 H := by rw [eM_5]; exact hM
      have h_6 : M_5 a = some (zo 9 [.int mu, .ref b, .int (nI (n + 1))]) := by rw [eM_5]; exact va_up_self _ _ _
      have h_7 : M_5 b = some (zQ g cap (va_up f n x)) := by rw [eM_5]; exact (va_up_ne _ _ (fun z => by have z1 := h_3; rw [z, h_4] at z1; cases z1)).trans h_3
      exact ze_v hx hb hr hlocks hS dJ2_add_2_22 (by show _ ≤ 1; omega) (by show _ ≤ 160; omega) (M_5, b, cap, (va_up f n x)) ⟨(Or.inl rfl), h_6, h_7, (by omega : n + 1 ≤ cap), (by omega : cap ≤ 160), fun j (hj : j < n) => va_up_ne _ _ (by omega), va_up_self _ _ _, fun p (h1 : p ≠ a) (h2 : p ≠ b) => (by rw [eM_5, va_up_ne _ _ h1, eM_2, va_up_ne _ _ h2] : M_5 p = M p)⟩ hM
    · exact absurd c_1 (by omega)
  · refine lv_iload_n hx hb dJ2_add_2_0 rfl (lv_at hl 3 rfl) ?_
    refine lv_aload_n hx hb dJ2_add_2_1 rfl (lv_at hl 2 rfl) ?_
    refine zm_alen hx hb hK.1 hM 3 hb_ rfl dJ2_add_2_2 ?_
    refine zl_ne (tgt := 11) (a := n) (b := cap) hx hb (by first | decide | omega) (by first | decide | omega) dJ2_add_2_3 (by decide) (fun c_8 => ?_) (fun c_8 => ?_)
    · exact absurd hc c_8
    · refine lv_aload_n hx hb dJ2_add_2_6 rfl (lv_at hl 0 rfl) ?_
      refine zc_q (zr_V (As := []) (rest := []) ⟨hx, hb, hml, hown, hts⟩ (ct_J2_grow l g A M a b cap n mu f ha hb_ hc hn1 hc0 hel) zn_J2_grow (lw_V q123 q125 qs1 q43 q126) rfl (by decide) (by decide) hK (fun _ h => h) hS hM (zm_recv hK.1 hM ha rfl) rfl hl.1 (Nat.le_of_ble_eq_true rfl) dJ2_add_2_7 ⟨Nat.le_refl _, Nat.le_refl _⟩) hS (fun _ h => h) (fun r u H locs hr1 hM _ _ hS => ?_)
      obtain ⟨rfl, hu⟩ := hr1
      have hu0 := hu
      obtain ⟨hq0, hd0, g1, g2, g3, g4, g5, g6⟩ := hu
      refine lv_astore_n (lv' := [(2, .ref u.2.1), (0, .ref a), (1, va_rf x), (3, .int (nI n))]) hx hb dJ2_add_2_10 rfl hl (by decide) (by cases x <;> rfl) (fun ls hl => ?_)
      refine lv_aload_n hx hb dJ2_add_2_11 rfl (lv_at hl 0 rfl) ?_
      refine lv_iload_n hx hb dJ2_add_2_12 rfl (lv_at hl 3 rfl) ?_
      refine lv_aload_nO hx hb dJ2_add_2_13 rfl (lv_at hl 2 rfl) ?_
      refine zm_ast (k := n) hx hb hK.1 hM hS g2 ((hx_.gr hu0).ok hK) (by omega) (by omega) dJ2_add_2_14 (fun H locs hM hS => ?_)
      obtain ⟨M_9, eM_9⟩ : ∃ M0, M0 = va_up u.1 u.2.1 (some (zQ g u.2.2.1 (va_up u.2.2.2 n x))) := ⟨_, rfl⟩
      have hM : zMH g A M_9 H := by rw [eM_9]; exact hM
      have h_10 : M_9 u.2.1 = some (zQ g u.2.2.1 (va_up u.2.2.2 n x)) := by rw [eM_9]; exact va_up_self _ _ _
      have h_11 : M_9 a = some (zo 9 [.int mu, .ref u.2.1, .int (nI n)]) := by rw [eM_9]; exact (va_up_ne _ _ (fun z => by have z1 := g1; rw [z, g2] at z1; cases z1)).trans g1
      refine lv_aload_n hx hb dJ2_add_2_15 rfl (lv_at hl 1 rfl) ?_
      refine lv_iload_n hx hb dJ2_add_2_16 rfl (lv_at hl 3 rfl) ?_
      refine lv_iconst (v := 1) hx hb dJ2_add_2_17 (by decide) ?_
      refine lv_iadd hx hb dJ2_add_2_18 ?_
      refine zm_topi (y := nI (n + 1)) (nI_1 n) ?_
      refine zm_put hx hb hts in_J2 tyJ2 tyJ2_ok nmJ2 hown hK.1 hM hS h_11 rfl 2 (by decide) (hts _ q97) (fun _ h => h) rfl (v := .int (nI (n + 1))) (tyJ2_ok 2 (by decide)) rfl rfl (show 2 < 3 from by decide) dJ2_add_2_19 (fun H locs hM hS => ?_)
      obtain ⟨M_12, eM_12⟩ : ∃ M0, M0 = va_up M_9 a (some (zo 9 [.int mu, .ref u.2.1, .int (nI (n + 1))])) := ⟨_, rfl⟩
      have hM : zMH g A M_12 H := by rw [eM_12]; exact hM
      have h_13 : M_12 a = some (zo 9 [.int mu, .ref u.2.1, .int (nI (n + 1))]) := by rw [eM_12]; exact va_up_self _ _ _
      have h_14 : M_12 u.2.1 = some (zQ g u.2.2.1 (va_up u.2.2.2 n x)) := by rw [eM_12]; exact (va_up_ne _ _ (fun z => by have z1 := h_10; rw [z, h_11] at z1; cases z1)).trans h_10
      exact ze_v hx hb hr hlocks hS dJ2_add_2_22 (by show _ ≤ 1; omega) (by show _ ≤ 160; omega) (M_12, u.2.1, u.2.2.1, (va_up u.2.2.2 n x)) ⟨(Or.inr ⟨hq0, hd0⟩), h_13, h_14, (by omega : n + 1 ≤ u.2.2.1), (by omega : u.2.2.1 ≤ 160), fun j (hj : j < n) => (by rw [va_up_ne _ _ (by omega)]; exact g5 j hj : va_up u.2.2.2 n x j = f j), va_up_self _ _ _, fun p (h1 : p ≠ a) (h2 : p ≠ u.2.1) => (by rw [eM_12, va_up_ne _ _ h1, eM_9, va_up_ne _ _ h2]; exact g6 p h1 h2 : M_12 p = M p)⟩ hM
