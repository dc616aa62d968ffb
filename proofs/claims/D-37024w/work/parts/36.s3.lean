theorem zn_X1_in : zN yX1_in 3 := by decide +kernel
set_option maxHeartbeats 4000000 in
theorem ct_X1_in (l : Launch) (g : zG) (A : Nat → Prop) (B : Heap → Prop) (v lo hi : Int32) : Met l yX1_in (ws_ yX1_in cX1_in 3 (some .boolean)) (zR 1 0 0) (zP [.int v, .int lo, .int hi] g A B) (va_Qi (fun rz_ (_ : Unit) => rz_ = zb (zin v lo hi)) (fun (_ : Unit) t => B t.heap) A) 0 0 A := by
  refine zb_met (by decide) (Nat.le_of_ble_eq_true rfl) ?_
  intro p e s m args below meth c ls hx hb hr hml hown hts hlocks hnm hK hB ha_ hl
  have hown : s.vm.findClass RX1 = some m.cls := hown
  have hS : va_S A s.heap s.heap [] := va_S.rf
  have hl : lv_has ls 3 [(0, .int v), (1, .int lo), (2, .int hi)] := hl
  refine lv_iload_n hx hb dX1_in_0 rfl (lv_at hl 0 rfl) ?_
  refine lv_iload_n hx hb dX1_in_1 rfl (lv_at hl 1 rfl) ?_
  refine lv_icmp_lt (tgt := 14) hx hb dX1_in_2 (by decide) (fun c_1 => ?_) (fun c_1 => ?_)
  · refine lv_iconst (v := 0) hx hb dX1_in_14 (by decide) ?_
    exact ze_z hx hb hr hlocks hS dX1_in_15 (Nat.zero_le _) (Nat.zero_le _) (Or.inl rfl) () ((zb_f (decide_eq_false (fun q => absurd q.1 (Int32.not_le.mpr c_1)))).symm) hB
  · refine lv_iload_n hx hb dX1_in_5 rfl (lv_at hl 0 rfl) ?_
    refine lv_iload_n hx hb dX1_in_6 rfl (lv_at hl 2 rfl) ?_
    refine lv_icmp_gt (tgt := 14) hx hb dX1_in_7 (by decide) (fun c_2 => ?_) (fun c_2 => ?_)
    · refine lv_iconst (v := 0) hx hb dX1_in_14 (by decide) ?_
      exact ze_z hx hb hr hlocks hS dX1_in_15 (Nat.zero_le _) (Nat.zero_le _) (Or.inl rfl) () ((zb_f (decide_eq_false (fun q => absurd q.2 (Int32.not_le.mpr c_2)))).symm) hB
    · refine lv_iconst (v := 1) hx hb dX1_in_10 (by decide) ?_
      refine lv_goto (tgt := 15) hx hb dX1_in_11 (by decide) ?_
      exact ze_z hx hb hr hlocks hS dX1_in_15 (Nat.zero_le _) (Nat.zero_le _) (Or.inr rfl) () ((zb_t (decide_eq_true ⟨Int32.not_lt.mp c_1, Int32.not_lt.mp c_2⟩)).symm) hB
theorem zn_X1_factor : zN yX1_factor 1 := by decide +kernel
set_option maxHeartbeats 4000000 in
theorem ct_X1_factor (l : Launch) (g : zG) (A : Nat → Prop) (B : Heap → Prop) (x : Int32) : Met l yX1_factor (ws_ yX1_factor cX1_factor 1 (some .int)) (zR 1 0 0) (zP [.int x] g A B) (va_Qi (fun rz_ (_ : Unit) => rz_ = zfc x) (fun (_ : Unit) t => B t.heap) A) 0 0 A := by
  refine zb_met (by decide) (Nat.le_of_ble_eq_true rfl) ?_
  intro p e s m args below meth c ls hx hb hr hml hown hts hlocks hnm hK hB ha_ hl
  have hown : s.vm.findClass RX1 = some m.cls := hown
  have hS : va_S A s.heap s.heap [] := va_S.rf
  have hl : lv_has ls 1 [(0, .int x)] := hl
  refine lv_iload_n hx hb dX1_factor_0 rfl (lv_at hl 0 rfl) ?_
  refine lv_if_ne (tgt := 8) hx hb dX1_factor_1 (by decide) (fun c_1 => ?_) (fun c_1 => ?_)
  · refine lv_iload_n hx hb dX1_factor_8 rfl (lv_at hl 0 rfl) ?_
    refine lv_iconst (v := 2) hx hb dX1_factor_9 (by decide) ?_
    refine lv_icmp_ne (tgt := 17) hx hb dX1_factor_10 (by decide) (fun c_2 => ?_) (fun c_2 => ?_)
    · refine lv_iconst (v := 2) hx hb dX1_factor_17 (by decide) ?_
      exact ze_i hx hb hr hlocks hS dX1_factor_18 (Nat.zero_le _) (Nat.zero_le _) () (by simp [zfc, c_1, c_2]) hB
    · refine lv_iconst (v := 3) hx hb dX1_factor_13 (by decide) ?_
      refine lv_goto (tgt := 18) hx hb dX1_factor_14 (by decide) ?_
      exact ze_i hx hb hr hlocks hS dX1_factor_18 (Nat.zero_le _) (Nat.zero_le _) () (by simp [zfc, c_1, c_2]) hB
  · refine lv_iconst (v := 1) hx hb dX1_factor_4 (by decide) ?_
    refine lv_goto (tgt := 18) hx hb dX1_factor_5 (by decide) ?_
    exact ze_i hx hb hr hlocks hS dX1_factor_18 (Nat.zero_le _) (Nat.zero_le _) () (by simp [zfc, c_1]) hB
theorem zn_X2_size : zN yX2_size 0 := by decide +kernel
set_option maxHeartbeats 4000000 in
theorem ct_X2_size (l : Launch) (g : zG) (A : Nat → Prop) (S : zS) (X : zX) (T : zT) (hY : zSy S g X T)  : Met l yX2_size (ws_ yX2_size cX2_size 1 (some .int)) (zR 2 0 0) (zP [.ref (S.A 1)] g A (zTH g A T)) (va_Qi (fun rz_ (_ : Unit) => rz_ = nI (mN X)) (fun (_ : Unit) t => zTH g A T t.heap) A) 0 0 A := by
  refine zb_met (by decide) (Nat.le_of_ble_eq_true rfl) ?_
  intro p e s m args below meth c ls hx hb hr hml hown hts hlocks hnm hK hT ha_ hl
  have hown : s.vm.findClass RX2 = some m.cls := hown
  have hS : va_S A s.heap s.heap [] := va_S.rf
  have hl : lv_has ls 1 [(0, .ref (S.A 1))] := hl
  refine lv_aload_n hx hb dX2_size_0 rfl (lv_at hl 0 rfl) ?_
  refine zt_get hx hb hts in_X2 hown hK.1 hT hY.rk rfl 0 (by decide) (hts _ q109) (fun _ h => h) rfl dX2_size_1 ?_
  refine zc_i (zr_V (As := []) (rest := []) ⟨hx, hb, hml, hown, hts⟩ (ct_J2_size l g A T _ (S.mu 2) _ hY.th) zn_J2_size (lw_V q337 q226 q227 q43 q228) rfl (by decide) (by decide) hK (fun _ h => h) hS hT (zt_recvL hK.1 hT hY.th) rfl hl.1 (Nat.le_of_ble_eq_true rfl) dX2_size_4 ⟨by show _ + 0 ≤ _; omega, by show _ + 0 ≤ _; omega⟩) hS (fun _ h => h) (fun r _ H locs hr1 hT _ _ hS => ?_)
  subst hr1
  refine zm_topi (y := nI (mN X)) (by simp) ?_
  exact ze_i hx hb hr hlocks hS dX2_size_7 (by show _ ≤ 0; omega) (by show _ ≤ 0; omega) () (by rfl) hT
theorem zn_X2_need : zN yX2_need 1 := by decide +kernel
set_option maxHeartbeats 4000000 in
theorem ct_X2_need (l : Launch) (hl0 : l.stackTraces = false) (g : zG) (A : Nat → Prop) (S : zS) (X : zX) (T : zT) (hY : zSy S g X T) (hI : MH X) (x : Int32) : vx_Met l yX2_need (ws_ yX2_need cX2_need 2 (some (.object "WheelWorks$Numbered"))) (zR 7 1 6) (zP [.ref (S.A 1), .int x] g A (zTH g A T)) (va_Qq (fun rz_ (_ : Unit) => rz_ = some (S.pa x.toNatClampNeg) ∧ mIs X x = true) (fun (_ : Unit) t => zTH g A T t.heap) A) (zXC (fun E => E = xIO ∧ mIs X x = false) g A T) 1 6 A := by
  refine zb_xmet (by decide) (Nat.le_of_ble_eq_true rfl) ?_
  intro p e s m args below meth c ls hx hb hr hml hown hts hlocks hnm hK hT ha_ hl hout
  have hown : s.vm.findClass RX2 = some m.cls := hown
  have hS : va_S A s.heap s.heap [] := va_S.rf
  have hl : lv_has ls 2 [(0, .ref (S.A 1)), (1, .int x)] := hl
  have hn60 := hI.1.2
  refine lv_iload_n hx hb dX2_need_0 rfl (lv_at hl 1 rfl) ?_
  refine lv_iconst (v := 0) hx hb dX2_need_1 (by decide) ?_
  refine lv_aload_n hx hb dX2_need_2 rfl (lv_at hl 0 rfl) ?_
  refine zt_get hx hb hts in_X2 hown hK.1 hT hY.rk rfl 0 (by decide) (hts _ q109) (fun _ h => h) rfl dX2_need_3 ?_
  refine zc_i (zr_V (As := []) (rest := [.int 0, .int x]) ⟨hx, hb, hml, hown, hts⟩ (ct_J2_size l g A T _ (S.mu 2) _ hY.th) zn_J2_size (lw_V q337 q226 q227 q43 q228) rfl (by decide) (by decide) hK (fun _ h => h) hS hT (zt_recvL hK.1 hT hY.th) rfl hl.1 (Nat.le_of_ble_eq_true rfl) dX2_need_6 ⟨by show _ + 0 ≤ _; omega, by show _ + 0 ≤ _; omega⟩) hS (fun _ h => h) (fun r _ H locs hr1 hT _ _ hS => ?_)
  subst hr1
  refine zm_topi (y := nI (mN X)) (by simp) ?_
  refine lv_iconst (v := 1) hx hb dX2_need_9 (by decide) ?_
  refine lv_isub hx hb dX2_need_10 ?_
  refine zc_i (zr_SN (As := [.int x, .int 0, .int ((nI (mN X)) - 1)]) (rest := []) ⟨hx, hb, hml, hown, hts⟩ (ct_X1_in l g A (zTH g A _) x 0 ((nI (mN X)) - 1)) zn_X1_in q264 q39 q518 q263 (by decide) (by decide) hK (fun _ h => h) hS hT rfl hl.1 (Nat.le_of_ble_eq_true rfl) dX2_need_11 ⟨by show _ + 0 ≤ _; omega, by show _ + 0 ≤ _; omega⟩) hS (fun _ h => h) (fun r _ H locs hr1 hT _ _ hS => ?_)
  subst hr1
  refine zxc_v (zxr_SN (As := [.int (zb (zin x 0 ((nI (mN X)) - 1)))]) (rest := []) ⟨hx, hb, hml, hown, hts⟩ (ct_X1_needIndex l hl0 g A _ (zin x 0 ((nI (mN X)) - 1))) zn_X1_needIndex q521 q39 q519 q520 (by decide) (by decide) hK (fun _ h => h) hS hT rfl hl.1 (Nat.le_of_ble_eq_true rfl) dX2_need_14 ⟨by show _ + 1 ≤ _; omega, by show _ + 6 ≤ _; omega⟩) hS hout hlocks (fun E hE => by obtain ⟨rfl, h0⟩ := hE; exact ⟨rfl, by unfold mIs; rw [hI.1.1]; exact h0⟩) (by show _ + 1 ≤ 1; omega) (by show _ + 6 ≤ 6; omega) (fun _ H locs hx_1 hT _ _ hS => ?_)
  refine lv_aload_n hx hb dX2_need_17 rfl (lv_at hl 0 rfl) ?_
  refine zt_get hx hb hts in_X2 hown hK.1 hT hY.rk rfl 0 (by decide) (hts _ q109) (fun _ h => h) rfl dX2_need_18 ?_
  refine lv_iload_n hx hb dX2_need_21 rfl (lv_at hl 1 rfl) ?_
  have hm : mIs X x = true := by unfold mIs; rw [hI.1.1]; exact hx_1
  obtain ⟨hq1, hq2⟩ := mIs_p hI hm
  refine zm_topi (y := nI x.toNatClampNeg) hq1 ?_
  refine zc_q (zr_V (As := [.int (nI x.toNatClampNeg)]) (rest := []) ⟨hx, hb, hml, hown, hts⟩ (ct_J2_get l g A T _ (S.mu 2) _ hY.th x.toNatClampNeg (by simpa using (show x.toNatClampNeg < (List.range (mN X)).length from by simpa using hq2))) zn_J2_get (lw_V q537 q235 q236 q43 q237) rfl (by decide) (by decide) hK (fun _ h => h) hS hT (zt_recvL hK.1 hT hY.th) rfl hl.1 (Nat.le_of_ble_eq_true rfl) dX2_need_22 ⟨by show _ + 0 ≤ _; omega, by show _ + 0 ≤ _; omega⟩) hS (fun _ h => h) (fun r _ H locs hg_2 hT _ _ hS => ?_)
  have hr2 : r = some (S.pa (x.toNatClampNeg)) := by rw [hg_2]; simp
  clear hg_2
  subst hr2
  refine zm_top (v' := .ref (S.pa (x.toNatClampNeg))) rfl ?_
  refine va_castY (C := RX4) hx hb hown (hts _ q538) (hK.2.1.2.2.1 _ _ q1354) (zt_recv hK.1 hT (hY.p hq2) rfl) dX2_need_25 ?_
  exact vx_ret (ze_q (v := some (S.pa x.toNatClampNeg)) hx hb hr (Or.inl ⟨_, rfl⟩) hlocks hS dX2_need_28 (by show _ ≤ 1; omega) (by show _ ≤ 6; omega) () (by exact ⟨rfl, hm⟩) hT)
theorem zn_X1_needKind : zN yX1_needKind 2 := by decide +kernel
set_option maxHeartbeats 4000000 in
theorem ct_X1_needKind (l : Launch) (hl0 : l.stackTraces = false) (g : zG) (A : Nat → Prop) (S : zS) (X : zX) (T : zT) (hY : zSy S g X T) (hI : MH X) (x k : Int32) : vx_Met l yX1_needKind (ws_ yX1_needKind cX1_needKind 4 (some (.object "WheelWorks$Part"))) (zR 8 2 12) (zP [.ref (S.A 0), .int x, .int k] g A (zTH g A T)) (va_Qq (fun rz_ (_ : Unit) => rz_ = some (S.pa x.toNatClampNeg) ∧ mIs X x = true ∧ X 2 x.toNatClampNeg = k) (fun (_ : Unit) t => zTH g A T t.heap) A) (zXC (fun E => (E = xIO ∧ mIs X x = false) ∨ (E = xIA ∧ mIs X x = true ∧ ¬ X 2 x.toNatClampNeg = k)) g A T) 2 12 A := by
  refine zb_xmet (by decide) (Nat.le_of_ble_eq_true rfl) ?_
  intro p e s m args below meth c ls hx hb hr hml hown hts hlocks hnm hK hT ha_ hl hout
  have hown : s.vm.findClass RX1 = some m.cls := hown
  have hS : va_S A s.heap s.heap [] := va_S.rf
  have hl : lv_has ls 4 [(0, .ref (S.A 0)), (1, .int x), (2, .int k)] := hl
  refine lv_aload_n hx hb dX1_needKind_0 rfl (lv_at hl 0 rfl) ?_
  refine zt_get hx hb hts in_X1 hown hK.1 hT hY.w rfl 0 (by decide) (hts _ q177) (fun _ h => h) rfl dX1_needKind_1 ?_
  refine lv_iload_n hx hb dX1_needKind_4 rfl (lv_at hl 1 rfl) ?_
  refine zxc_q (zxr_V (As := [.int x]) (rest := []) ⟨hx, hb, hml, hown, hts⟩ (ct_X2_need l hl0 g A S X _ hY hI x) zn_X2_need (lw_V q514 q515 q516 q40 q517) rfl (by decide) (by decide) hK (fun _ h => h) hS hT (zt_recv hK.1 hT hY.rk rfl) rfl hl.1 (Nat.le_of_ble_eq_true rfl) dX1_needKind_5 ⟨by show _ + 1 ≤ _; omega, by show _ + 6 ≤ _; omega⟩) hS hout hlocks (fun E hE => by obtain ⟨rfl, h0⟩ := hE; exact Or.inl ⟨rfl, h0⟩) (by show _ + 1 ≤ 2; omega) (by show _ + 6 ≤ 12; omega) (fun r _ H locs hr_1 hT _ _ hS => ?_)
  obtain ⟨rfl, hm_2⟩ := hr_1
  obtain ⟨hq_3, hq_4⟩ := mIs_p hI hm_2
  refine zm_top (v' := .ref (S.pa x.toNatClampNeg)) rfl ?_
  refine va_castS hx hb hown (hts _ q356) (hK.1.1 3 _ rfl).2 (zt_recv hK.1 hT (hY.p hq_4) (r := zCl[3]) rfl) dX1_needKind_8 ?_
  refine lv_astore_n (lv' := [(3, .ref (S.pa x.toNatClampNeg)), (0, .ref (S.A 0)), (1, .int x), (2, .int k)]) hx hb dX1_needKind_11 rfl hl (by decide) rfl (fun ls hl => ?_)
  refine lv_aload_n hx hb dX1_needKind_12 rfl (lv_at hl 0 rfl) ?_
  refine zt_getN hx hb hts in_X4 hown hK.1 hT (hY.p hq_4) rfl 1 (by decide) (va_Nw.use (A := args) rfl (hK.2.1.1 _ _ _ _ _ _ q385)) (fun _ h => h) rfl dX1_needKind_13 ?_
  refine lv_iload_n hx hb dX1_needKind_16 rfl (lv_at hl 3 rfl) ?_
  refine lv_icmp_ne (tgt := 24) hx hb dX1_needKind_17 (by decide) (fun c_5 => ?_) (fun c_5 => ?_)
  · refine lv_iconst (v := 0) hx hb dX1_needKind_24 (by decide) ?_
    refine zm_topi (y := zb false) rfl ?_
    refine zxc_v (zxr_S (As := [.int (zb false)]) (rest := []) ⟨hx, hb, hml, hown, hts⟩ (ct_X1_need l hl0 g A _ false) zn_X1_need (lw_S q265 q266 q39 q267) (by decide) (by decide) hK (fun _ h => h) hS hT rfl hl.1 (Nat.le_of_ble_eq_true rfl) dX1_needKind_25 ⟨by show _ + 1 ≤ _; omega, by show _ + 6 ≤ _; omega⟩) hS hout hlocks (fun E hE => by obtain ⟨rfl, h0⟩ := hE; first | exact Or.inr ⟨rfl, hm_2, c_5⟩ | exact absurd h0 (by decide)) (by show _ + 1 ≤ 2; omega) (by show _ + 6 ≤ 12; omega) (fun _ H locs hx_6 hT _ _ hS => ?_)
    cases hx_6
  · refine lv_iconst (v := 1) hx hb dX1_needKind_20 (by decide) ?_
    refine lv_goto (tgt := 25) hx hb dX1_needKind_21 (by decide) ?_
    refine zm_topi (y := zb true) rfl ?_
    refine zxc_v (zxr_S (As := [.int (zb true)]) (rest := []) ⟨hx, hb, hml, hown, hts⟩ (ct_X1_need l hl0 g A _ true) zn_X1_need (lw_S q265 q266 q39 q267) (by decide) (by decide) hK (fun _ h => h) hS hT rfl hl.1 (Nat.le_of_ble_eq_true rfl) dX1_needKind_25 ⟨by show _ + 1 ≤ _; omega, by show _ + 6 ≤ _; omega⟩) hS hout hlocks (fun E hE => by obtain ⟨rfl, h0⟩ := hE; first | exact Or.inr ⟨rfl, hm_2, c_5⟩ | exact absurd h0 (by decide)) (by show _ + 1 ≤ 2; omega) (by show _ + 6 ≤ 12; omega) (fun _ H locs hx_7 hT _ _ hS => ?_)
    refine lv_aload_n hx hb dX1_needKind_28 rfl (lv_at hl 0 rfl) ?_
    exact vx_ret (ze_q (v := some (S.pa x.toNatClampNeg)) hx hb hr (Or.inl ⟨_, rfl⟩) hlocks hS dX1_needKind_29 (by show _ ≤ 2; omega) (by show _ ≤ 12; omega) () ⟨rfl, hm_2, by simpa using c_5⟩ hT)
