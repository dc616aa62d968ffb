theorem zn_X1_head : zN yX1_head 1 := by decide +kernel
set_option maxHeartbeats 4000000 in
theorem ct_X1_head (l : Launch) (hl0 : l.stackTraces = false) (g : zG) (A : Nat → Prop) (S : zS) (X : zX) (T : zT) (hY : zSy S g X T) (hI : MH X) (x : Int32) : vx_Met l yX1_head (ws_ yX1_head cX1_head 2 (some .int)) (zR 8 1 6) (zP [.ref (S.A 0), .int x] g A (zTH g A T)) (va_Qi (fun rz_ (_ : Unit) => rz_ = (m_head X x).1 ∧ (m_head X x).2 0 0 = 0) (fun (_ : Unit) t => zTH g A T t.heap) A) (zXC (fun E => (E = xIO ∧ (m_head X x).2 0 0 = 1)) g A T) 1 6 A := by
  refine zb_xmet (by decide) (Nat.le_of_ble_eq_true rfl) ?_
  intro p e s m args below meth c ls hx hb hr hml hown hts hlocks hnm hK hT ha_ hl hout
  have hown : s.vm.findClass RX1 = some m.cls := hown
  have hS : va_S A s.heap s.heap [] := va_S.rf
  have hl : lv_has ls 2 [(0, .ref (S.A 0)), (1, .int x)] := hl
  refine lv_aload_n hx hb dX1_head_0 rfl (lv_at hl 0 rfl) ?_
  refine zt_get hx hb hts in_X1 hown hK.1 hT hY.w rfl 0 (by decide) (hts _ q177) (fun _ h => h) rfl dX1_head_1 ?_
  refine lv_iload_n hx hb dX1_head_4 rfl (lv_at hl 1 rfl) ?_
  refine zxc_q (zxr_V (As := [.int x]) (rest := []) ⟨hx, hb, hml, hown, hts⟩ (ct_X2_need l hl0 g A S X _ hY hI x) zn_X2_need (lw_V q514 q515 q516 q40 q517) rfl (by decide) (by decide) hK (fun _ h => h) hS hT (zt_recv hK.1 hT hY.rk rfl) rfl hl.1 (Nat.le_of_ble_eq_true rfl) dX1_head_5 ⟨by show _ + 1 ≤ _; omega, by show _ + 6 ≤ _; omega⟩) hS hout hlocks (fun E hE => by obtain ⟨rfl, h0⟩ := hE; exact ⟨rfl, by unfold m_head; rw [if_pos h0]; exact zu_s X 0 0 1⟩) (by show _ + 1 ≤ 1; omega) (by show _ + 6 ≤ 6; omega) (fun r _ H locs hr_1 hT _ _ hS => ?_)
  obtain ⟨rfl, hm_2⟩ := hr_1
  obtain ⟨hq_3, hq_4⟩ := mIs_p hI hm_2
  refine zm_top (v' := .ref (S.pa x.toNatClampNeg)) rfl ?_
  refine va_castS hx hb hown (hts _ q356) (hK.1.1 3 _ rfl).2 (zt_recv hK.1 hT (hY.p hq_4) (r := zCl[3]) rfl) dX1_head_8 ?_
  refine zc_q (zr_V (As := []) (rest := []) ⟨hx, hb, hml, hown, hts⟩ (ct_X4_head l g A S X _ hY hI x.toNatClampNeg hq_4) zn_X4_head (lw_V q570 q552 q553 q54 q554) rfl (by decide) (by decide) hK (fun _ h => h) hS hT (zt_recv hK.1 hT (hY.p hq_4) rfl) rfl hl.1 (Nat.le_of_ble_eq_true rfl) dX1_head_11 ⟨by show _ + 0 ≤ _; omega, by show _ + 0 ≤ _; omega⟩) hS (fun _ h => h) (fun r _ H locs hr_5 hT _ _ hS => ?_)
  subst hr_5
  refine zm_top (v' := .ref (S.pa (mHd X x.toNatClampNeg))) rfl ?_
  have hm_6 : mHd X x.toNatClampNeg < mN X := mHd_lt hI hq_4
  refine zt_getN hx hb hts in_X4 hown hK.1 hT (hY.p hm_6) rfl 0 (by decide) (va_Nw.use (A := args) rfl (hK.2.1.1 _ _ _ _ _ _ q383)) (fun _ h => h) rfl dX1_head_14 ?_
  have e1 : nI (mHd X x.toNatClampNeg) = (m_head X x).1 ∧ (m_head X x).2 0 0 = 0 := by unfold m_head; rw [if_neg (by rw [hm_2]; decide)]; exact ⟨rfl, zu_s X 0 0 0⟩
  exact vx_ret (ze_i hx hb hr hlocks hS dX1_head_17 (by show _ ≤ 1; omega) (by show _ ≤ 6; omega) () e1 hT)
theorem zn_X1_numberOf : zN yX1_numberOf 1 := by decide +kernel
set_option maxHeartbeats 4000000 in
theorem ct_X1_numberOf (l : Launch) (g : zG) (A : Nat → Prop) (S : zS) (X : zX) (T : zT) (hY : zSy S g X T) (o : Option Nat) (ho : ∀ i, o = some i → i < mN X) : Met l yX1_numberOf (ws_ yX1_numberOf cX1_numberOf 1 (some .int)) (zR 1 0 0) (zP [va_rf (o.map S.pa)] g A (zTH g A T)) (va_Qi (fun rz_ (_ : Unit) => rz_ = zro2 o) (fun (_ : Unit) t => zTH g A T t.heap) A) 0 0 A := by
  refine zb_met (by decide) (by cases o <;> exact Nat.le_of_ble_eq_true rfl) ?_
  intro p e s m args below meth c ls hx hb hr hml hown hts hlocks hnm hK hT ha_ hl
  have hown : s.vm.findClass RX1 = some m.cls := hown
  have hS : va_S A s.heap s.heap [] := va_S.rf
  have hl : lv_has ls 1 [(0, va_rf (o.map S.pa))] := by cases o <;> exact hl
  rcases o with _ | i
  · have hl : lv_has ls 1 [(0, .null)] := hl
    refine lv_aload_nN hx hb dX1_numberOf_0 rfl (lv_at hl 0 rfl) ?_
    refine lv_ifnonnullN hx hb dX1_numberOf_1 ?_
    refine lv_iconst (v := (-1)) hx hb dX1_numberOf_4 (by decide) ?_
    refine lv_goto (tgt := 12) hx hb dX1_numberOf_5 (by decide) ?_
    exact ze_i hx hb hr hlocks hS dX1_numberOf_12 (by show _ ≤ 0; omega) (by show _ ≤ 0; omega) () (by rfl) hT
  · have hl : lv_has ls 1 [(0, .ref (S.pa i))] := hl
    refine lv_aload_n hx hb dX1_numberOf_0 rfl (lv_at hl 0 rfl) ?_
    refine lv_ifnonnull (tgt := 8) hx hb dX1_numberOf_1 (by decide) ?_
    refine lv_aload_n hx hb dX1_numberOf_8 rfl (lv_at hl 0 rfl) ?_
    refine zt_getN hx hb hts in_X4 hown hK.1 hT (hY.p (ho i rfl)) rfl 0 (by decide) (va_Nw.use (A := args) rfl (hK.2.1.1 _ _ _ _ _ _ q383)) (fun _ h => h) rfl dX1_numberOf_9 ?_
    exact ze_i hx hb hr hlocks hS dX1_numberOf_12 (by show _ ≤ 0; omega) (by show _ ≤ 0; omega) () (by rfl) hT
theorem zn_X1_host : zN yX1_host 1 := by decide +kernel
set_option maxHeartbeats 4000000 in
theorem ct_X1_host (l : Launch) (hl0 : l.stackTraces = false) (g : zG) (A : Nat → Prop) (S : zS) (X : zX) (T : zT) (hY : zSy S g X T) (hI : MH X) (x : Int32) : vx_Met l yX1_host (ws_ yX1_host cX1_host 3 (some .int)) (zR 8 1 6) (zP [.ref (S.A 0), .int x] g A (zTH g A T)) (va_Qi (fun rz_ (_ : Unit) => rz_ = (m_host X x).1 ∧ (m_host X x).2 0 0 = 0) (fun (_ : Unit) t => zTH g A T t.heap) A) (zXC (fun E => (E = xIO ∧ (m_host X x).2 0 0 = 1)) g A T) 1 6 A := by
  refine zb_xmet (by decide) (Nat.le_of_ble_eq_true rfl) ?_
  intro p e s m args below meth c ls hx hb hr hml hown hts hlocks hnm hK hT ha_ hl hout
  have hown : s.vm.findClass RX1 = some m.cls := hown
  have hS : va_S A s.heap s.heap [] := va_S.rf
  have hl : lv_has ls 3 [(0, .ref (S.A 0)), (1, .int x)] := hl
  refine lv_aload_n hx hb dX1_host_0 rfl (lv_at hl 0 rfl) ?_
  refine zt_get hx hb hts in_X1 hown hK.1 hT hY.w rfl 0 (by decide) (hts _ q177) (fun _ h => h) rfl dX1_host_1 ?_
  refine lv_iload_n hx hb dX1_host_4 rfl (lv_at hl 1 rfl) ?_
  refine zxc_q (zxr_V (As := [.int x]) (rest := []) ⟨hx, hb, hml, hown, hts⟩ (ct_X2_need l hl0 g A S X _ hY hI x) zn_X2_need (lw_V q514 q515 q516 q40 q517) rfl (by decide) (by decide) hK (fun _ h => h) hS hT (zt_recv hK.1 hT hY.rk rfl) rfl hl.1 (Nat.le_of_ble_eq_true rfl) dX1_host_5 ⟨by show _ + 1 ≤ _; omega, by show _ + 6 ≤ _; omega⟩) hS hout hlocks (fun E hE => by obtain ⟨rfl, h0⟩ := hE; exact ⟨rfl, by unfold m_host; rw [if_pos h0]; exact zu_s X 0 0 1⟩) (by show _ + 1 ≤ 1; omega) (by show _ + 6 ≤ 6; omega) (fun r _ H locs hr_1 hT _ _ hS => ?_)
  obtain ⟨rfl, hm_2⟩ := hr_1
  obtain ⟨hq_3, hq_4⟩ := mIs_p hI hm_2
  refine zm_top (v' := .ref (S.pa x.toNatClampNeg)) rfl ?_
  refine va_castS hx hb hown (hts _ q356) (hK.1.1 3 _ rfl).2 (zt_recv hK.1 hT (hY.p hq_4) (r := zCl[3]) rfl) dX1_host_8 ?_
  refine lv_astore_n (lv' := [(2, .ref (S.pa x.toNatClampNeg)), (0, .ref (S.A 0)), (1, .int x)]) hx hb dX1_host_11 rfl hl (by decide) rfl (fun ls hl => ?_)
  refine lv_aload_n hx hb dX1_host_12 rfl (lv_at hl 0 rfl) ?_
  refine zt_getN hx hb hts in_X4 hown hK.1 hT (hY.p hq_4) rfl 6 (by decide) (va_Nw.use (A := args) rfl (hK.2.1.1 _ _ _ _ _ _ q395)) (fun _ h => h) rfl dX1_host_13 ?_
  refine zl_ifeq (tgt := 24) hx hb dX1_host_16 (by decide) (fun c_5 => ?_) (fun c_5 => ?_)
  · refine lv_aload_n hx hb dX1_host_24 rfl (lv_at hl 0 rfl) ?_
    refine zt_getN hx hb hts in_X4 hown hK.1 hT (hY.p hq_4) rfl 4 (by decide) (va_Nw.use (A := args) rfl (hK.2.1.1 _ _ _ _ _ _ q391)) (fun _ h => h) rfl dX1_host_25 ?_
    refine zt_getN hx hb hts in_X5 hown hK.1 hT (hY.t hq_4) rfl 1 (by decide) (va_Nw.use (A := args) rfl (hK.2.1.1 _ _ _ _ _ _ q374)) (fun _ h => h) rfl dX1_host_28 ?_
    rcases Classical.em (X 5 x.toNatClampNeg < 0) with hn | hn
    · refine zm_top (v' := .null) (by unfold znw; rw [if_pos hn]; rfl) ?_
      refine lv_castN hx hb dX1_host_31 ?_
      refine zc_i (zr_S (As := [.null]) (rest := []) ⟨hx, hb, hml, hown, hts⟩ (ct_X1_numberOf l g A S X _ hY none (fun i h => by cases h)) zn_X1_numberOf (lw_S q940 q941 q39 q942) (by decide) (by decide) hK (fun _ h => h) hS hT rfl hl.1 (Nat.le_of_ble_eq_true rfl) dX1_host_34 ⟨by show _ + 0 ≤ _; omega, by show _ + 0 ≤ _; omega⟩) hS (fun _ h => h) (fun r _ H locs hr1 hT _ _ hS => ?_)
      subst hr1
      refine zm_topi (y := (-1)) rfl ?_
      have e1 : (-1) = (m_host X x).1 ∧ (m_host X x).2 0 0 = 0 := by unfold m_host; rw [if_neg (by rw [hm_2]; decide)]; exact ⟨((hI.low hq_4 hn).resolve_right (of_decide_eq_false c_5)).symm, zu_s X 0 0 0⟩
      exact vx_ret (ze_i hx hb hr hlocks hS dX1_host_37 (by show _ ≤ 1; omega) (by show _ ≤ 6; omega) () e1 hT)
    · obtain ⟨hh1, hh2, hh3⟩ := hI.host hq_4 hn
      refine zm_top (v' := .ref (S.pa (mH X x.toNatClampNeg))) (by unfold znw; rw [if_neg hn]; rfl) ?_
      refine va_castS hx hb hown (hts _ q356) (hK.1.1 3 _ rfl).2 (zt_recv hK.1 hT (hY.p hh2) (r := zCl[3]) rfl) dX1_host_31 ?_
      refine zc_i (zr_S (As := [.ref (S.pa (mH X x.toNatClampNeg))]) (rest := []) ⟨hx, hb, hml, hown, hts⟩ (ct_X1_numberOf l g A S X _ hY (some (mH X x.toNatClampNeg)) (fun i h => by cases h; exact hh2)) zn_X1_numberOf (lw_S q940 q941 q39 q942) (by decide) (by decide) hK (fun _ h => h) hS hT rfl hl.1 (Nat.le_of_ble_eq_true rfl) dX1_host_34 ⟨by show _ + 0 ≤ _; omega, by show _ + 0 ≤ _; omega⟩) hS (fun _ h => h) (fun r _ H locs hr1 hT _ _ hS => ?_)
      subst hr1
      refine zm_topi (y := nI (mH X x.toNatClampNeg)) rfl ?_
      have e1 : nI (mH X x.toNatClampNeg) = (m_host X x).1 ∧ (m_host X x).2 0 0 = 0 := by unfold m_host; rw [if_neg (by rw [hm_2]; decide)]; exact ⟨hh1.symm, zu_s X 0 0 0⟩
      exact vx_ret (ze_i hx hb hr hlocks hS dX1_host_37 (by show _ ≤ 1; omega) (by show _ ≤ 6; omega) () e1 hT)
  · refine lv_bipush (v := (-2)) hx hb dX1_host_19 (by decide) ?_
    refine lv_goto (tgt := 37) hx hb dX1_host_21 (by decide) ?_
    have e1 : (-2) = (m_host X x).1 ∧ (m_host X x).2 0 0 = 0 := by unfold m_host; rw [if_neg (by rw [hm_2]; decide)]; exact ⟨(of_decide_eq_true c_5).symm, zu_s X 0 0 0⟩
    exact vx_ret (ze_i hx hb hr hlocks hS dX1_host_37 (by show _ ≤ 1; omega) (by show _ ≤ 6; omega) () e1 hT)
